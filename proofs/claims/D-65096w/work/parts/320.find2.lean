/-! entries by their names: both sides find the same -/
theorem p_fnd {A : zM} {rho : Int → Int} {K d w : Int} (h : I_ix A rho K) (hK : K < 1000000) (hK0 : 0 ≤ K) (hd : 0 ≤ d) : ∃ r, fX2_find d w A = some (r, A) ∧ yFd A d w r := by
  unfold fX2_find
  rw [zcl_some (p_bk w hd A), zal_in (ybk_rng d w)]
  exact p_fnd_loop h 1000000 K _ zBIG (h.hd _ (ybk_rng d w).1 (ybk_rng d w).2) (fun m hm _ => (h.rg m ⟨by omega, hm.2.1⟩ (by omega)).2) (by omega) (by show 1000000 < 1048576; omega)
theorem yFd_uni {A B : zM} {d w r r' : Int} (h : I_nd A B) (a : yFd A d w r) (b : yFd A d w r') : r = r' := by
  rcases a with ⟨a1, a2⟩ | ⟨a1, a2⟩
  · rcases b with ⟨b1, b2⟩ | ⟨b1, b2⟩
    · rw [a1, b1]
    · exact absurd b2 (a2 _ b1)
  · rcases b with ⟨b1, b2⟩ | ⟨b1, b2⟩
    · exact absurd a2 (b2 _ a1)
    · exact h.un r r' ⟨by omega, a1.2.1⟩ ⟨by omega, b1.2.1⟩ (by omega) (by omega) (by rw [a1.2.2, b1.2.2]) (by rw [a2, b2])
theorem p_enT {A B : zM} {d w : Int} (h : I_nd A B) : ∃ r, fX67_entryNamed d w B = some (r, B) ∧ yFd A d w r := by
  unfold fX67_entryNamed
  refine zlp_big (B := fX67_entryNamed_B6 d w) (fun s M n => M = B ∧ 1 ≤ s.2 ∧ s.2 ≤ 256 ∧ n = (256 - s.2).toNat ∧ ((s.1 = -1 ∧ ∀ m, yEn A d m → m < s.2 → A 502 m 0 ≠ w) ∨ (yEn A d s.1 ∧ A 502 s.1 0 = w)))
    (fun o => ∃ r, o = some (r, B) ∧ yFd A d w r) ?_ (n := 255) ⟨rfl, by show (1 : Int) ≤ 1; omega, by show (1 : Int) ≤ 256; omega, rfl, Or.inl ⟨rfl, fun m hm q => by have : m < 1 := q; omega⟩⟩ (by omega)
  rintro ⟨x, i⟩ M n ⟨rfl, i1, i2, rfl, hI⟩
  simp only at i1 i2 hI
  by_cases hd : 256 ≤ i
  · left
    intro f
    refine ⟨x, ?_, ?_⟩
    · unfold fX67_entryNamed_B6
      show (if 256 ≤ i then zret x else _ : zX) M = _
      rw [zitT hd, zret_ap]
    · rcases hI with ⟨a, b⟩ | a
      · exact Or.inl ⟨a, fun m hm => b m hm (by omega)⟩
      · exact Or.inr a
  · right
    have hk := h.k i (by omega) (by omega)
    have ei : zi (i + 1) = i + 1 := zi_of (by omega)
    by_cases hm : yEn A d i ∧ A 502 i 0 = w
    · have hl : yLv A i := ⟨by omega, hm.1.2.1⟩
      have hp := h.pa i hl
      have hn := h.nm i hl
      refine ⟨(i, i + 1), M, (256 - (i + 1)).toNat, by omega, ⟨rfl, by show 1 ≤ i + 1; omega, by show i + 1 ≤ 256; omega, rfl, Or.inr hm⟩, ?_⟩
      intro f
      unfold fX67_entryNamed_B6
      show (if 256 ≤ i then zret x else _ : zX) M = _
      have h3 := hm.1.2.2
      have h4 := hm.1.2.1
      rw [zitF hd, zal_in (by omega), zitF (by omega), zal_in (by omega), zitF (by omega), zal_in (by omega), zitF (by rw [hn]; exact fun q => q hm.2)]
      unfold fX67_entryNamed_J54
      rw [zlt_ap, ei]
    · refine ⟨(x, i + 1), M, (256 - (i + 1)).toNat, by omega, ⟨rfl, by show 1 ≤ i + 1; omega, by show i + 1 ≤ 256; omega, rfl, ?_⟩, ?_⟩
      · rcases hI with ⟨a, b⟩ | a
        · refine Or.inl ⟨a, fun m hm1 hm2 e => ?_⟩
          have hm2 : m < i + 1 := hm2
          by_cases q : m = i
          · rw [q] at hm1 e
            exact hm ⟨hm1, e⟩
          · exact b m hm1 (by omega) e
        · exact Or.inr a
      · intro f
        unfold fX67_entryNamed_B6 fX67_entryNamed_J52 fX67_entryNamed_J54
        show (if 256 ≤ i then zret x else _ : zX) M = _
        rw [zitF hd, zal_in (by omega)]
        by_cases h0 : M 6800 0 i ≤ 0
        · rw [zitT h0, zlt_ap, ei]
        · have hl : yLv A i := ⟨by omega, by omega⟩
          have hp := h.pa i hl
          have hn := h.nm i hl
          rw [zitF h0, zal_in (by omega)]
          by_cases h1 : M 6802 0 i = d
          · rw [zitF (fun q => q h1), zal_in (by omega), zitT (by rw [hn]; exact fun q => hm ⟨⟨by omega, by omega, by omega⟩, q⟩), zlt_ap, ei]
          · rw [zitT h1, zlt_ap, ei]
