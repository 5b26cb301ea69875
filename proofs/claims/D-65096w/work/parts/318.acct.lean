/-! the account to which entries of a directory go -/
theorem p_acc_loop {A B : zM} {acc : Int → Int} (h : I_nd A B) (ha : ∀ d, yLv A d → A 501 d 0 = 1 → acc d = if A 516 d 0 = 0 then acc (A 504 d 0) else d) :
    ∀ (n : Nat) (d : Int) (fuel : Nat), yLv A d → A 501 d 0 = 1 → B 6810 0 d ≤ n → n < fuel → zlp fX1_account_B2 fuel d A = some (acc d, A) ∧ zlp fX67_account_B2 fuel d B = some (acc d, B) ∧ yLv A (acc d) ∧ A 501 (acc d) 0 = 1 ∧ 0 < A 516 (acc d) 0 := by
  intro n
  induction n with
  | zero =>
    intro d fuel hd hk hc hf
    obtain ⟨f, rfl⟩ : ∃ f, fuel = f + 1 := ⟨fuel - 1, by omega⟩
    show fX1_account_B2 (zlp fX1_account_B2 f) d A = _ ∧ fX67_account_B2 (zlp fX67_account_B2 f) d B = _ ∧ _
    have hl := h.li d hd
    have hp := h.pa d hd
    have hc0 := h.co d hd
    have hr := h.rt
    have hd0 : d = 0 := h.ci d 0 hd ⟨by omega, by omega⟩ (by omega)
    have e : acc d = d := by rw [ha d hd hk, if_neg (by rw [hd0]; omega)]
    have hn : ¬ A 516 d 0 = 0 := by rw [hd0]; omega
    rw [e]
    refine ⟨?_, ?_, hd, hk, by omega⟩
    · unfold fX1_account_B2
      rw [znn_in (by omega), zgf_ap, zitT hn, zret_ap]
    · unfold fX67_account_B2
      rw [zal_in hd.1, zitT (by omega), zret_ap]
  | succ n ih =>
    intro d fuel hd hk hc hf
    obtain ⟨f, rfl⟩ : ∃ f, fuel = f + 1 := ⟨fuel - 1, by omega⟩
    show fX1_account_B2 (zlp fX1_account_B2 f) d A = _ ∧ fX67_account_B2 (zlp fX67_account_B2 f) d B = _ ∧ _
    have hl := h.li d hd
    have hp := h.pa d hd
    have hr := h.rt
    by_cases hn : A 516 d 0 = 0
    · have e : acc d = acc (A 504 d 0) := by rw [ha d hd hk, if_pos hn]
      have hd0 : d ≠ 0 := by intro q; rw [q] at hn; omega
      obtain ⟨p1, p2, p3⟩ := h.pr d hd hd0
      obtain ⟨i1, i2, i3⟩ := ih (A 504 d 0) f p1 p2 (by omega) (by omega)
      rw [e]
      refine ⟨?_, ?_, i3⟩
      · rw [← i1]
        generalize zlp fX1_account_B2 f = g
        unfold fX1_account_B2
        rw [znn_in (by omega), zgf_ap, zitF (fun q => q hn), zgf_ap]
      · rw [← i2]
        generalize zlp fX67_account_B2 f = g
        unfold fX67_account_B2
        rw [zal_in hd.1, zitF (by omega), zal_in hd.1, hp]
    · have e : acc d = d := by rw [ha d hd hk, if_neg hn]
      rw [e]
      refine ⟨?_, ?_, hd, hk, by omega⟩
      · unfold fX1_account_B2
        rw [znn_in (by omega), zgf_ap, zitT hn, zret_ap]
      · unfold fX67_account_B2
        rw [zal_in hd.1, zitT (by omega), zret_ap]
theorem p_acc {A B : zM} {acc : Int → Int} (h : I_nd A B) (hK : B 6811 0 0 < 1000000) (ha : ∀ d, yLv A d → A 501 d 0 = 1 → acc d = if A 516 d 0 = 0 then acc (A 504 d 0) else d) {d : Int} (hd : yLv A d) (hk : A 501 d 0 = 1) :
    fX1_account d A = some (acc d, A) ∧ fX67_account d B = some (acc d, B) ∧ yLv A (acc d) ∧ A 501 (acc d) 0 = 1 ∧ 0 < A 516 (acc d) 0 :=
  p_acc_loop h ha 1000000 d zBIG hd hk (by have := h.co d hd; omega) (by show 1000000 < 1048576; omega)
