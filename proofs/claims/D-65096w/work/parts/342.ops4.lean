set_option linter.unusedSimpArgs false
set_option linter.unusedVariables false
/-! names, new entries, counts, slots, texts, tapes from outside -/
theorem o_rename {j N : Int} {A B : zM} (h : yInv j N A B) (hN : N < 890000) (n w : Int) : yOp j (N + 1) A B (fX0_rename n w) (fX67_rename n w) := by
  have hh := h.t
  obtain ⟨acc, rho, K, hT, b1, b2, b3⟩ := hh
  unfold fX0_rename fX67_rename fX0_rename_J70 fX67_rename_J49
  rcases y_getNd hT.nd n with ⟨e1, e2, lv⟩ | ⟨e1, e2⟩
  · have hn := lv.1
    by_cases n0 : n = 0
    · exact yOp_same (r := -8) h (by omega) (by rw [zcl_some e1, zitF (by omega), zitT n0, zret_ap]) (by rw [zcl_some e2, zitF (by omega), zitT n0, zret_ap])
    · by_cases c : isNm w
      · obtain ⟨p0, pk, -⟩ := hT.nd.pr n lv n0
        have pa := hT.nd.pa n lv
        obtain ⟨r, f1, f2, f3⟩ := p_fnd2 w hT p0.1.1
        have go : r < 0 ∨ r = n → yOp j (N + 1) A B (zcl (fX1_rename n w) fun _ => zret 0) (zas 6801 0 n 256 w <| zret 0) := by
          intro hr
          obtain ⟨A', g1, g2, g3⟩ := r_rename h.t hN lv n0 c (by
            intro m hm e
            rcases hr with hr | hr
            · exact absurd e (yFd_no f3 hr m hm)
            · rcases f3 with ⟨x, -⟩ | ⟨x, y⟩
              · omega
              · rw [← hr]
                exact hT.nd.un m r ⟨by omega, hm.2.1⟩ ⟨by omega, x.2.1⟩ (by omega) (by omega) (by rw [hm.2.2, x.2.2]) (by rw [e, y]))
          have frA := fr_fX1_rename n w A 0 A' g1
          refine ⟨0, A', _, by rw [zcl_some g1, zret_ap], by rw [zas_in hn, zret_ap], yInv_tree h (by omega) (by omega) g2 g3 (fun x hx => frA x ((show ∀ c ∈ yNtA, ¬ c ∈ W_fX1_rename by decide) x hx)) (yCo_up yCo_rf (by decide)) (fun x hx => frA x ((show ∀ c ∈ yPcA, ¬ c ∈ W_fX1_rename by decide) x hx)) (yCo_up yCo_rf (by decide))⟩
        by_cases r0 : r < 0
        · obtain ⟨x, A', B', g1, g2, g3⟩ := go (Or.inl r0)
          exact ⟨x, A', B', by rw [zcl_some e1, zitF (by omega), zitF n0, zcl_some (p_nm0 w A), zbi_pos c, zitT (by omega), zgf_ap, zcl_some f1, zitT r0]; exact g1, by rw [zcl_some e2, zitF (by omega), zitF n0, zcl_some (p_nmT w B), zbi_pos c, zitT (by omega), zal_in hn, pa, zcl_some f2, zitT r0]; exact g2, g3⟩
        · by_cases r1 : r = n
          · obtain ⟨x, A', B', g1, g2, g3⟩ := go (Or.inr r1)
            exact ⟨x, A', B', by rw [zcl_some e1, zitF (by omega), zitF n0, zcl_some (p_nm0 w A), zbi_pos c, zitT (by omega), zgf_ap, zcl_some f1, zitF r0, zitT r1]; exact g1, by rw [zcl_some e2, zitF (by omega), zitF n0, zcl_some (p_nmT w B), zbi_pos c, zitT (by omega), zal_in hn, pa, zcl_some f2, zitF r0, zitT r1]; exact g2, g3⟩
          · exact yOp_same (r := -6) h (by omega) (by rw [zcl_some e1, zitF (by omega), zitF n0, zcl_some (p_nm0 w A), zbi_pos c, zitT (by omega), zgf_ap, zcl_some f1, zitF r0, zitF r1, zret_ap]) (by rw [zcl_some e2, zitF (by omega), zitF n0, zcl_some (p_nmT w B), zbi_pos c, zitT (by omega), zal_in hn, pa, zcl_some f2, zitF r0, zitF r1, zret_ap])
      · exact yOp_same (r := -8) h (by omega) (by rw [zcl_some e1, zitF (by omega), zitF n0, zcl_some (p_nm0 w A), zbi_neg c, zitF (fun x => x rfl), zret_ap]) (by rw [zcl_some e2, zitF (by omega), zitF n0, zcl_some (p_nmT w B), zbi_neg c, zitF (fun x => x rfl), zret_ap])
  · exact yOp_same (r := -8) h (by omega) (by rw [zcl_some e1, zitT (by omega), zret_ap]) (by rw [zcl_some e2, zitT rfl, zret_ap])
theorem o_directory {j N : Int} {A B : zM} (h : yInv j N A B) (hN : N < 890000) (d w l m : Int) : yOp j (N + 1) A B (fX0_directory d w l m) (fX67_directory d w l m) := by
  have hh := h.t
  obtain ⟨acc, rho, K, hT, b1, b2, b3⟩ := hh
  unfold fX0_directory fX67_directory
  rcases y_getDir hT.nd d with ⟨e1, e2, lv, kd⟩ | ⟨e1, e2⟩
  · have hn := lv.1
    have lb := hT.nd.lb d lv
    by_cases c1 : isNm w
    · by_cases c2 : 0 ≤ l ∧ l ≤ 31
      · by_cases c3 : zdm l (A 503 d 0)
        · have dT := p_dmT (a := l) (b := A 503 d 0) (by omega) lb.2 B
          rw [zbi_pos c3] at dT
          by_cases c4 : 0 ≤ m ∧ m ≤ 255
          · by_cases c5 : l = A 503 d 0 ∨ m ≠ 0
            · obtain ⟨r, A', B', f1, f2, f3, f4⟩ := r_newDir h.t hN (l := l) ⟨lv, kd⟩ c1 (by omega) c4
              have frA := fr_fX12_newDirectory d w l m A r A' f1
              have frB := fr_fX67_directory_J75 d w l m B r B' f2
              have c6 : zdm l (A 503 d 0) ∧ (if l = A 503 d 0 then 0 else 1) ≤ m ∧ m ≤ 255 := by
                refine ⟨c3, ?_, c4.2⟩
                split <;> omega
              refine ⟨r, A', B', ?_, ?_, yInv_tree h (by omega) (by omega) f3 f4 (fun x hx => frA x ((show ∀ c ∈ yNtA, ¬ c ∈ W_fX12_newDirectory by decide) x hx)) (fun x hx => frB x ((show ∀ c ∈ yNtB, ¬ c ∈ W_fX67_directory by decide) x hx)) (fun x hx => frA x ((show ∀ c ∈ yPcA, ¬ c ∈ W_fX12_newDirectory by decide) x hx)) (fun x hx => frB x ((show ∀ c ∈ yPcB, ¬ c ∈ W_fX67_directory by decide) x hx))⟩
              · rw [zcl_some e1, zitF (by omega), zcl_some (p_nm0 w A), zbi_pos c1, zitF (by omega), zcl_some (p_lb0 l A), zbi_pos c2, zitF (by omega), zgf_ap, zcl_some (p_rl0 l _ m A), zbi_pos c6, zitT (by omega), zcl_some f1, zret_ap]
              · rw [zcl_some e2, zitF (by omega), zcl_some (p_nmT w B), zbi_pos c1, zitF (by omega), zcl_some (p_inT _ _ _ B), zbi_pos c2, zitF (by omega), zal_in hn, lb.1, zcl_some dT, zitF (by omega), zcl_some (p_inT _ _ _ B), zbi_pos c4, zitF (by omega), zal_in hn, lb.1]
                by_cases c7 : l = A 503 d 0
                · rw [zitT c7]; exact f2
                · rw [zitF c7, zitT (by omega)]; exact f2
            · have c6 : ¬ (zdm l (A 503 d 0) ∧ (if l = A 503 d 0 then 0 else 1) ≤ m ∧ m ≤ 255) := by
                rintro ⟨-, q, -⟩
                rw [if_neg (by omega)] at q
                omega
              exact yOp_same (r := -8) h (by omega) (by rw [zcl_some e1, zitF (by omega), zcl_some (p_nm0 w A), zbi_pos c1, zitF (by omega), zcl_some (p_lb0 l A), zbi_pos c2, zitF (by omega), zgf_ap, zcl_some (p_rl0 l _ m A), zbi_neg c6, zitF (fun x => x rfl), zret_ap])
                (by rw [zcl_some e2, zitF (by omega), zcl_some (p_nmT w B), zbi_pos c1, zitF (by omega), zcl_some (p_inT _ _ _ B), zbi_pos c2, zitF (by omega), zal_in hn, lb.1, zcl_some dT, zitF (by omega), zcl_some (p_inT _ _ _ B), zbi_pos c4, zitF (by omega), zal_in hn, lb.1, zitF (by omega), zitF (by omega), zret_ap])
          · have c6 : ¬ (zdm l (A 503 d 0) ∧ (if l = A 503 d 0 then 0 else 1) ≤ m ∧ m ≤ 255) := by
              rintro ⟨-, q, q2⟩
              split at q <;> omega
            exact yOp_same (r := -8) h (by omega) (by rw [zcl_some e1, zitF (by omega), zcl_some (p_nm0 w A), zbi_pos c1, zitF (by omega), zcl_some (p_lb0 l A), zbi_pos c2, zitF (by omega), zgf_ap, zcl_some (p_rl0 l _ m A), zbi_neg c6, zitF (fun x => x rfl), zret_ap])
                (by rw [zcl_some e2, zitF (by omega), zcl_some (p_nmT w B), zbi_pos c1, zitF (by omega), zcl_some (p_inT _ _ _ B), zbi_pos c2, zitF (by omega), zal_in hn, lb.1, zcl_some dT, zitF (by omega), zcl_some (p_inT _ _ _ B), zbi_neg c4, zitT rfl, zret_ap])
        · have dT := p_dmT (a := l) (b := A 503 d 0) (by omega) lb.2 B
          rw [zbi_neg c3] at dT
          exact yOp_same (r := -8) h (by omega) (by rw [zcl_some e1, zitF (by omega), zcl_some (p_nm0 w A), zbi_pos c1, zitF (by omega), zcl_some (p_lb0 l A), zbi_pos c2, zitF (by omega), zgf_ap, zcl_some (p_rl0 l _ m A), zbi_neg (fun x => c3 x.1), zitF (fun x => x rfl), zret_ap])
                (by rw [zcl_some e2, zitF (by omega), zcl_some (p_nmT w B), zbi_pos c1, zitF (by omega), zcl_some (p_inT _ _ _ B), zbi_pos c2, zitF (by omega), zal_in hn, lb.1, zcl_some dT, zitT rfl, zret_ap])
      · exact yOp_same (r := -8) h (by omega) (by rw [zcl_some e1, zitF (by omega), zcl_some (p_nm0 w A), zbi_pos c1, zitF (by omega), zcl_some (p_lb0 l A), zbi_neg c2, zitT rfl, zret_ap])
                (by rw [zcl_some e2, zitF (by omega), zcl_some (p_nmT w B), zbi_pos c1, zitF (by omega), zcl_some (p_inT _ _ _ B), zbi_neg c2, zitT rfl, zret_ap])
    · exact yOp_same (r := -8) h (by omega) (by rw [zcl_some e1, zitF (by omega), zcl_some (p_nm0 w A), zbi_neg c1, zitT rfl, zret_ap]) (by rw [zcl_some e2, zitF (by omega), zcl_some (p_nmT w B), zbi_neg c1, zitT rfl, zret_ap])
  · exact yOp_same (r := -8) h (by omega) (by rw [zcl_some e1, zitT (by omega), zret_ap]) (by rw [zcl_some e2, zitT rfl, zret_ap])
theorem o_segment {j N : Int} {A B : zM} (h : yInv j N A B) (hN : N < 890000) (d w s : Int) : yOp j (N + 1) A B (fX0_segment d w s) (fX67_segment d w s) := by
  have hh := h.t
  obtain ⟨acc, rho, K, hT, b1, b2, b3⟩ := hh
  rcases y_getDir hT.nd d with ⟨e1, e2, lv, kd⟩ | ⟨e1, e2⟩
  · have hn := lv.1
    by_cases c1 : isNm w
    · by_cases c2 : 0 ≤ s ∧ s ≤ 1024
      · obtain ⟨r, A', B', f1, f2, f3, f4⟩ := r_newSeg h.t hN ⟨lv, kd⟩ c1 c2
        have g1 : fX0_segment d w s A = some (r, A') := by
          unfold fX0_segment
          rw [zcl_some e1, zitF (by omega), zcl_some (p_nm0 w A), zbi_pos c1, zitF (by omega), zcl_some (p_in0 _ _ _ A), zbi_pos c2, zitT (by omega), zcl_some f1, zret_ap]
        have g2 : fX67_segment d w s B = some (r, B') := by
          unfold fX67_segment
          rw [zcl_some e2, zitF (by omega), zcl_some (p_nmT w B), zbi_pos c1, zitF (by omega), zcl_some (p_inT _ _ _ B), zbi_pos c2, zitT (by omega)]
          exact f2
        have frA := fr_fX0_segment d w s A r A' g1
        have frB := fr_fX67_segment d w s B r B' g2
        exact ⟨r, A', B', g1, g2, yInv_tree h (by omega) (by omega) f3 f4 (fun x hx => frA x ((show ∀ c ∈ yNtA, ¬ c ∈ W_fX0_segment by decide) x hx)) (fun x hx => frB x ((show ∀ c ∈ yNtB, ¬ c ∈ W_fX67_segment by decide) x hx)) (fun x hx => frA x ((show ∀ c ∈ yPcA, ¬ c ∈ W_fX0_segment by decide) x hx)) (fun x hx => frB x ((show ∀ c ∈ yPcB, ¬ c ∈ W_fX67_segment by decide) x hx))⟩
      · exact yOp_same (r := -8) h (by omega) (by unfold fX0_segment; rw [zcl_some e1, zitF (by omega), zcl_some (p_nm0 w A), zbi_pos c1, zitF (by omega), zcl_some (p_in0 _ _ _ A), zbi_neg c2, zitF (fun x => x rfl), zret_ap]) (by unfold fX67_segment; rw [zcl_some e2, zitF (by omega), zcl_some (p_nmT w B), zbi_pos c1, zitF (by omega), zcl_some (p_inT _ _ _ B), zbi_neg c2, zitF (fun x => x rfl), zret_ap])
    · exact yOp_same (r := -8) h (by omega) (by unfold fX0_segment; rw [zcl_some e1, zitF (by omega), zcl_some (p_nm0 w A), zbi_neg c1, zitT rfl, zret_ap]) (by unfold fX67_segment; rw [zcl_some e2, zitF (by omega), zcl_some (p_nmT w B), zbi_neg c1, zitT rfl, zret_ap])
  · exact yOp_same (r := -8) h (by omega) (by unfold fX0_segment; rw [zcl_some e1, zitT (by omega), zret_ap]) (by unfold fX67_segment; rw [zcl_some e2, zitT rfl, zret_ap])
theorem o_mailbox {j N : Int} {A B : zM} (h : yInv j N A B) (hN : N < 890000) (d w : Int) : yOp j (N + 1) A B (fX0_mailbox d w) (fX67_mailbox d w) := by
  have hh := h.t
  obtain ⟨acc, rho, K, hT, b1, b2, b3⟩ := hh
  rcases y_getDir hT.nd d with ⟨e1, e2, lv, kd⟩ | ⟨e1, e2⟩
  · have hn := lv.1
    by_cases c1 : isNm w
    · obtain ⟨r, A', B', f1, f2, f3, f4⟩ := r_newMb h.t hN ⟨lv, kd⟩ c1
      have g1 : fX0_mailbox d w A = some (r, A') := by
        unfold fX0_mailbox
        rw [zcl_some e1, zitF (by omega), zcl_some (p_nm0 w A), zbi_pos c1, zitT (by omega), zcl_some f1, zret_ap]
      have g2 : fX67_mailbox d w B = some (r, B') := by
        unfold fX67_mailbox
        rw [zcl_some e2, zitF (by omega), zcl_some (p_nmT w B), zbi_pos c1, zitT (by omega)]
        exact f2
      have frA := fr_fX0_mailbox d w A r A' g1
      have frB := fr_fX67_mailbox d w B r B' g2
      exact ⟨r, A', B', g1, g2, yInv_tree h (by omega) (by omega) f3 f4 (fun x hx => frA x ((show ∀ c ∈ yNtA, ¬ c ∈ W_fX0_mailbox by decide) x hx)) (fun x hx => frB x ((show ∀ c ∈ yNtB, ¬ c ∈ W_fX67_mailbox by decide) x hx)) (fun x hx => frA x ((show ∀ c ∈ yPcA, ¬ c ∈ W_fX0_mailbox by decide) x hx)) (fun x hx => frB x ((show ∀ c ∈ yPcB, ¬ c ∈ W_fX67_mailbox by decide) x hx))⟩
    · exact yOp_same (r := -8) h (by omega) (by unfold fX0_mailbox; rw [zcl_some e1, zitF (by omega), zcl_some (p_nm0 w A), zbi_neg c1, zitF (fun x => x rfl), zret_ap]) (by unfold fX67_mailbox; rw [zcl_some e2, zitF (by omega), zcl_some (p_nmT w B), zbi_neg c1, zitF (fun x => x rfl), zret_ap])
  · exact yOp_same (r := -8) h (by omega) (by unfold fX0_mailbox; rw [zcl_some e1, zitT (by omega), zret_ap]) (by unfold fX67_mailbox; rw [zcl_some e2, zitT rfl, zret_ap])
/-! counts -/
theorem p_cnT {A B : zM} (h : I_nd A B) : zlp fX67_count_B42 zBIG (0, 0) B = some (zsm (fun n => if 0 < A 501 n 0 then 1 else 0) 256, B) := by
  have lp : ∀ (r : Nat) (i : Nat) (fuel : Nat), i + r = 256 → r < fuel → zlp fX67_count_B42 fuel (zsm (fun n => if 0 < A 501 n 0 then 1 else 0) i, (i : Int)) B = some (zsm (fun n => if 0 < A 501 n 0 then 1 else 0) 256, B) := by
    intro r
    induction r with
    | zero =>
      intro i fuel hr hf
      obtain ⟨f, rfl⟩ : ∃ f, fuel = f + 1 := ⟨fuel - 1, by omega⟩
      show fX67_count_B42 (zlp fX67_count_B42 f) _ B = _
      generalize zlp fX67_count_B42 f = g
      have e : i = 256 := by omega
      subst e
      unfold fX67_count_B42
      show (if (256 : Int) ≤ ((256 : Nat) : Int) then zret _ else _ : zX) B = _
      rw [zitT (by omega), zret_ap]
    | succ r ih =>
      intro i fuel hr hf
      obtain ⟨f, rfl⟩ : ∃ f, fuel = f + 1 := ⟨fuel - 1, by omega⟩
      have ihn := ih (i + 1) f (by omega) (by omega)
      show fX67_count_B42 (zlp fX67_count_B42 f) _ B = _
      rw [← ihn]
      generalize zlp fX67_count_B42 f = g
      have hk := h.k i (by omega) (by omega)
      have z01 := zsm_01 (f := fun n => if 0 < A 501 n 0 then 1 else 0) i (fun m _ _ => by show 0 ≤ (if 0 < A 501 m 0 then (1 : Int) else 0) ∧ (if 0 < A 501 m 0 then (1 : Int) else 0) ≤ 1; split <;> omega)
      have st : zsm (fun n => if 0 < A 501 n 0 then 1 else 0) (i + 1) = zsm (fun n => if 0 < A 501 n 0 then 1 else 0) i + (if 0 < A 501 i 0 then 1 else 0) := rfl
      have ci : ((i + 1 : Nat) : Int) = (i : Int) + 1 := by omega
      unfold fX67_count_B42 fX67_count_J65
      show (if (256 : Int) ≤ (i : Int) then zret _ else _ : zX) B = _
      rw [zitF (by omega), zal_in (by omega), st, ci, hk.1]
      by_cases k0 : A 501 i 0 ≤ 0
      · rw [zitT k0, zlt_ap, zi_of (by omega), if_neg (by omega), Int.add_zero]
      · rw [zitF k0, zlt_ap, zi_of (by omega), zi_of (by omega), if_pos (by omega)]
  exact lp 256 0 zBIG (by omega) (by show 256 < 1048576; omega)
theorem p_cnP {N : Int} {A B : zM} (h : I_p0 N A B) : ∃ r, zlp fX0_count_B52 zBIG (0, 0) A = some (r, A) ∧ zlp fX67_count_B76 zBIG (0, 0) B = some (r, B) := by
  refine zsim_big (B1 := fX0_count_B52) (B2 := fX67_count_B76) (fun s t A' B' k => s = t ∧ A' = A ∧ B' = B ∧ (0 ≤ s.2 ∧ s.2 ≤ 8) ∧ (0 ≤ s.1 ∧ s.1 ≤ s.2) ∧ k = (8 - s.2).toNat) (fun a b => ∃ r, a = some (r, A) ∧ b = some (r, B)) ?_ (n := 8) ⟨rfl, rfl, rfl, by decide, by decide, rfl⟩ (by omega)
  rintro ⟨c, i⟩ t A' B' k ⟨rfl, rfl, rfl, hi, hc, rfl⟩
  simp only at hi hc
  by_cases q : 8 ≤ i
  · left
    intro f g
    refine ⟨c, ?_, ?_⟩
    · unfold fX0_count_B52
      show (if 8 ≤ i then zret c else _ : zX) A' = _
      rw [zitT q, zret_ap]
    · unfold fX67_count_B76
      show (if 8 ≤ i then zret c else _ : zX) B' = _
      rw [zitT q, zret_ap]
  · right
    have lv := h.lv i ⟨hi.1, by omega⟩
    by_cases z : A' 902 i 0 = 0
    · refine ⟨(c, i + 1), (c, i + 1), A', B', (8 - (i + 1)).toNat, by omega, ⟨rfl, rfl, rfl, by show 0 ≤ i + 1 ∧ i + 1 ≤ 8; omega, by show 0 ≤ c ∧ c ≤ i + 1; omega, rfl⟩, ?_, ?_⟩
      · intro f
        unfold fX0_count_B52 fX0_count_J76
        show (if 8 ≤ i then zret c else _ : zX) A' = _
        rw [zitF q, zib_in (by omega), zgf_ap, zitT z, zlt_ap, zlt_ap, zi_of (by omega), zi_of (by omega), Int.add_zero]
      · intro g
        unfold fX67_count_B76 fX67_count_J98
        show (if 8 ≤ i then zret c else _ : zX) B' = _
        rw [zitF q, zal_in (by omega), lv.1, zitT z, zlt_ap, zi_of (by omega)]
    · refine ⟨(c + 1, i + 1), (c + 1, i + 1), A', B', (8 - (i + 1)).toNat, by omega, ⟨rfl, rfl, rfl, by show 0 ≤ i + 1 ∧ i + 1 ≤ 8; omega, by show 0 ≤ c + 1 ∧ c + 1 ≤ i + 1; omega, rfl⟩, ?_, ?_⟩
      · intro f
        unfold fX0_count_B52 fX0_count_J76
        show (if 8 ≤ i then zret c else _ : zX) A' = _
        rw [zitF q, zib_in (by omega), zgf_ap, zitF z, zlt_ap, zlt_ap, zi_of (by omega), zi_of (by omega)]
      · intro g
        unfold fX67_count_B76 fX67_count_J98
        show (if 8 ≤ i then zret c else _ : zX) B' = _
        rw [zitF q, zal_in (by omega), lv.1, zitF z, zlt_ap, zi_of (by omega), zi_of (by omega)]
theorem o_count {j N : Int} {A B : zM} (h : yInv j N A B) (w : Int) : yOp j N A B (fX0_count w) (fX67_count w) := by
  obtain ⟨acc, rho, K, hT, -⟩ := h.t
  unfold fX0_count fX67_count
  by_cases c0 : w = 0
  · exact yOp_same h (Int.le_refl _) (by rw [zitT c0, zgf_ap, zret_ap]) (by rw [zitT c0, p_cnT hT.nd, hT.mn])
  by_cases c1 : w = 1
  · obtain ⟨r, f1, f2⟩ := p_cnP h.p
    exact yOp_same h (Int.le_refl _) (by rw [zitF c0, zitT c1, f1]) (by rw [zitF c0, zitT c1, f2])
  by_cases c2 : w = 2
  · exact yOp_same h (Int.le_refl _) (by rw [zitF c0, zitF c1, zitT c2, zgf_ap, zret_ap]) (by rw [zitF c0, zitF c1, zitT c2, zgf_ap, zret_ap, h.x.1])
  by_cases c3 : w = 3
  · exact yOp_same h (Int.le_refl _) (by rw [zitF c0, zitF c1, zitF c2, zitT c3, zgf_ap, zret_ap]) (by rw [zitF c0, zitF c1, zitF c2, zitT c3, zgf_ap, zret_ap, h.e.1])
  by_cases c4 : w = 4
  · exact yOp_same h (Int.le_refl _) (by rw [zitF c0, zitF c1, zitF c2, zitF c3, zitT c4, zgf_ap, zret_ap]) (by rw [zitF c0, zitF c1, zitF c2, zitF c3, zitT c4, zgf_ap, zret_ap, h.m.2.1])
  by_cases c5 : w = 5
  · exact yOp_same h (Int.le_refl _) (by rw [zitF c0, zitF c1, zitF c2, zitF c3, zitF c4, zitT c5, zgf_ap, zret_ap]) (by rw [zitF c0, zitF c1, zitF c2, zitF c3, zitF c4, zitT c5, zgf_ap, zret_ap, h.u.m.1])
  exact yOp_same (r := -8) h (Int.le_refl _) (by rw [zitF c0, zitF c1, zitF c2, zitF c3, zitF c4, zitF c5, zret_ap]) (by rw [zitF c0, zitF c1, zitF c2, zitF c3, zitF c4, zitF c5, zret_ap])
