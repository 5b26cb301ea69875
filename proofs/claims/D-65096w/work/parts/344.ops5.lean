set_option linter.unusedSimpArgs false
set_option linter.unusedVariables false
/-! slots, texts, tapes; what processes tell -/
theorem o_place2 {j N : Int} {A B : zM} (h : yInv j N A B) : yOp j N A B fX0_place fX67_place_2 := by
  obtain ⟨e1, e2⟩ := o_place h.m
  exact yOp_same h (Int.le_refl _) e1 e2
theorem yInv_misc {j N : Int} {A A' B B' : zM} (h : yInv j N A B) (hm : I_misc A' B') (hx : I_text A' B') (hl : I_lst A' B') (he : I_tape (j + 1) A' B') (ca : yCo [203, 204, 206, 207, 300, 400, 401, 402, 501, 502, 503, 504, 505, 506, 507, 509, 510, 511, 512, 513, 514, 515, 516, 517, 520, 521, 522, 523, 600, 601, 602, 700, 701, 702, 800, 801, 802, 803, 804, 805, 806, 1400, 1401] A A') (ca2 : yCo yPcA A A') (cb : yCo [6800, 6801, 6802, 6803, 6804, 6805, 6806, 6807, 6808, 6809, 6810, 6811, 6812, 6813, 6814, 6815, 6816, 6817, 6818, 6819, 6865, 6866] B B') (cb2 : yCo yPcB B B') : yInv (j + 1) N A' B' := by
  obtain ⟨acc, rho, K, hT, b1, b2, b3⟩ := h.t
  refine ⟨⟨acc, rho, K, ⟨I_nd_fr (yCo_sub ca (by decide)) (yCo_sub cb (by decide)) hT.nd, I_sb_fr (yCo_sub ca (by decide)) (yCo_sub cb (by decide)) hT.sb, I_ls_fr (yCo_sub ca (by decide)) (yCo_sub cb (by decide)) hT.ls, I_ix_fr (B := B) (B' := B) (yCo_sub ca (by decide)) hT.ix, I_st_fr (yCo_sub ca (by decide)) (yCo_sub cb (by decide)) hT.st, I_bx_fr (yCo_sub ca (by decide)) (yCo_sub cb (by decide)) hT.bx, I_ac_fr (B := B) (B' := B) (yCo_sub ca (by decide)) hT.ac, ?_, hT.kb, ?_, ?_⟩, b1, ?_, ?_⟩, I_p0_tr ca2 cb2 (yTr_co (yCo_sub ca (by decide))) (Int.le_refl _) h.p, hm, hx, hl, he, I_au_fr (Int.le_refl _) (yCo_sub ca (by decide)) (yCo_sub cb (by decide)) h.u, I_dc_fr (yCo_sub ca (by decide)) h.d⟩
  · rw [ca 206 (by decide), ca 501 (by decide)]; exact hT.mn
  · rw [cb 6811 (by decide)]; exact hT.cb
  · rw [ca 207 (by decide)]; exact hT.vb
  · rw [cb 6811 (by decide)]; exact b2
  · rw [ca 207 (by decide)]; exact b3
theorem o_schedule2 {j N : Int} {A B : zM} (h : yInv j N A B) (s p : Int) : yOp j N A B (fX0_schedule s p) (fX67_schedule s p) := by
  obtain ⟨r, A', B', e1, e2, e3⟩ := o_schedule h.m s p
  have fa := fr_fX0_schedule s p A r A' e1
  have fb := fr_fX67_schedule s p B r B' e2
  have ca : ∀ L : List Nat, (∀ c ∈ L, ¬ c ∈ W_fX0_schedule) → yCo L A A' := fun L d c hc => fa c (d c hc)
  have cb : ∀ L : List Nat, (∀ c ∈ L, ¬ c ∈ W_fX67_schedule) → yCo L B B' := fun L d c hc => fb c (d c hc)
  exact ⟨r, A', B', e1, e2, yInv_misc h e3 (I_text_fr (ca _ (by decide)) (cb _ (by decide)) h.x) (I_lst_fr (ca _ (by decide)) (cb _ (by decide)) h.l) (I_tape_fr (by omega) (ca _ (by decide)) (cb _ (by decide)) h.e) (ca _ (by decide)) (ca _ (by decide)) (cb _ (by decide)) (cb _ (by decide))⟩
theorem o_type2 {j N : Int} {A B : zM} (h : yInv j N A B) (v n : Int) : yOp j N A B (fX0_type v n) (fX67_type v n) := by
  obtain ⟨r, A', B', e1, e2, e3⟩ := o_type h.x v n
  have fa := fr_fX0_type v n A r A' e1
  have fb := fr_fX67_type v n B r B' e2
  have ca : ∀ L : List Nat, (∀ c ∈ L, ¬ c ∈ W_fX0_type) → yCo L A A' := fun L d c hc => fa c (d c hc)
  have cb : ∀ L : List Nat, (∀ c ∈ L, ¬ c ∈ W_fX67_type) → yCo L B B' := fun L d c hc => fb c (d c hc)
  exact ⟨r, A', B', e1, e2, yInv_misc h (I_misc_fr (ca _ (by decide)) (cb _ (by decide)) h.m) e3 (I_lst_fr (ca _ (by decide)) (cb _ (by decide)) h.l) (I_tape_fr (by omega) (ca _ (by decide)) (cb _ (by decide)) h.e) (ca _ (by decide)) (ca _ (by decide)) (cb _ (by decide)) (cb _ (by decide))⟩
theorem o_listed {j N : Int} {A B : zM} (h : yInv j N A B) (i : Int) : yOp j N A B (fX0_listed i) (fX67_listed i) := by
  obtain ⟨l1, l2, l3⟩ := h.l
  unfold fX0_listed fX67_listed
  by_cases q : 0 ≤ i ∧ i ≤ A 6702 0 0 - 1
  · exact yOp_same h (Int.le_refl _) (by rw [zgf_ap, zl_of (by omega), zcl_some (p_in0 _ _ _ A), zbi_pos q, zitF (by omega), zal_in (by omega), zret_ap]) (by rw [zgf_ap, l1, zi_of (by omega), zcl_some (p_inT _ _ _ B), zbi_pos q, zitF (by omega), zal_in (by omega), zret_ap, l3 i q.1 (by omega)])
  · exact yOp_same (r := -1) h (Int.le_refl _) (by rw [zgf_ap, zl_of (by omega), zcl_some (p_in0 _ _ _ A), zbi_neg q, zitT rfl, zret_ap]) (by rw [zgf_ap, l1, zi_of (by omega), zcl_some (p_inT _ _ _ B), zbi_neg q, zitT rfl, zret_ap])
theorem o_tape {j N : Int} {A B : zM} (h : yInv j N A B) (hj : j ≤ 64) (i : Int) : yOp j N A B (fX0_tape i) (fX67_tape i) := by
  obtain ⟨l1, l2, l3⟩ := h.e
  unfold fX0_tape fX67_tape
  by_cases q : 0 ≤ i ∧ i ≤ A 6602 0 0 - 1
  · exact yOp_same h (Int.le_refl _) (by rw [zgf_ap, zl_of (by omega), zcl_some (p_in0 _ _ _ A), zbi_pos q, zitF (by omega), zal_in (by omega), zret_ap]) (by rw [zgf_ap, l1, zi_of (by omega), zcl_some (p_inT _ _ _ B), zbi_pos q, zitF (by omega), zal_in (by omega), zret_ap, l3 i q.1 (by omega)])
  · exact yOp_same (r := -1) h (Int.le_refl _) (by rw [zgf_ap, zl_of (by omega), zcl_some (p_in0 _ _ _ A), zbi_neg q, zitT rfl, zret_ap]) (by rw [zgf_ap, l1, zi_of (by omega), zcl_some (p_inT _ _ _ B), zbi_neg q, zitT rfl, zret_ap])
theorem yInv_tapeOp {j N : Int} {A B A' B' : zM} {r : Int} (h : yInv j N A B) (he : I_tape (j + 1) A' B') (ca : ∀ f, ¬ f ∈ [6601, 6602] → A' f = A f) (cb : ∀ f, ¬ f ∈ [6872, 6873] → B' f = B f) : yInv (j + 1) N A' B' := by
  have ca : ∀ L : List Nat, (∀ c ∈ L, ¬ c ∈ [6601, 6602]) → yCo L A A' := fun L d c hc => ca c (d c hc)
  have cb : ∀ L : List Nat, (∀ c ∈ L, ¬ c ∈ [6872, 6873]) → yCo L B B' := fun L d c hc => cb c (d c hc)
  exact yInv_misc h (I_misc_fr (ca _ (by decide)) (cb _ (by decide)) h.m) (I_text_fr (ca _ (by decide)) (cb _ (by decide)) h.x) (I_lst_fr (ca _ (by decide)) (cb _ (by decide)) h.l) he (ca _ (by decide)) (ca _ (by decide)) (cb _ (by decide)) (cb _ (by decide))
theorem o_cut {j N : Int} {A B : zM} (h : yInv j N A B) (hj : 0 ≤ j ∧ j ≤ 64) (i : Int) : yOp j N A B (fX0_cut i) (fX67_cut i) := by
  obtain ⟨l1, l2, l3⟩ := h.e
  by_cases q : 0 ≤ i ∧ i ≤ A 6602 0 0
  · have e1 : fX0_cut i A = some (A 6602 0 0 - i, zup A 6602 0 0 i) := by
      unfold fX0_cut
      rw [zgf_ap, zcl_some (p_in0 _ _ _ A), zbi_pos q, zitT (by omega), zgf_ap, zlt_ap, zi_of (by omega), zpf_ap, zret_ap]
    have e2 : fX67_cut i B = some (A 6602 0 0 - i, zup B 6872 0 0 i) := by
      unfold fX67_cut
      rw [zgf_ap, l1, zcl_some (p_inT _ _ _ B), zbi_pos q, zitT (by omega), zgf_ap, zlt_ap, l1, zi_of (by omega), zpf_ap, zret_ap]
    refine ⟨_, _, _, e1, e2, yInv_tapeOp (r := 0) h ⟨by simp (disch := omega) only [zrd_hit, zrd_miss], by simp (disch := omega) only [zrd_hit, zrd_miss]; omega, ?_⟩ ?_ ?_⟩
    · intro k k0 k1
      have k1 : k < i := by revert k1; simp (disch := omega) only [zrd_hit, zrd_miss]; exact id
      simp (disch := omega) only [zrd_hit, zrd_miss]
      exact l3 k k0 (by omega)
    · intro f hf
      simp only [List.mem_cons, List.not_mem_nil, or_false, not_or] at hf
      exact zup_col (by omega)
    · intro f hf
      simp only [List.mem_cons, List.not_mem_nil, or_false, not_or] at hf
      exact zup_col (by omega)
  · exact yOp_same (r := -8) h (Int.le_refl _) (by unfold fX0_cut; rw [zgf_ap, zcl_some (p_in0 _ _ _ A), zbi_neg q, zitF (fun x => x rfl), zret_ap]) (by unfold fX67_cut; rw [zgf_ap, l1, zcl_some (p_inT _ _ _ B), zbi_neg q, zitF (fun x => x rfl), zret_ap])
theorem y_zb {b : Int} (h : 0 ≤ b ∧ b ≤ 255) : zb (zb b) % 256 = b := by unfold zb; omega
theorem o_alter {j N : Int} {A B : zM} (h : yInv j N A B) (hj : 0 ≤ j ∧ j ≤ 64) (i b : Int) : yOp j N A B (fX0_alter i b) (fX67_alter i b) := by
  obtain ⟨l1, l2, l3⟩ := h.e
  by_cases q : 0 ≤ i ∧ i ≤ A 6602 0 0
  · by_cases q2 : 0 ≤ b ∧ b ≤ 255
    · have nt : ¬ i = 98304 := by omega
      by_cases q3 : i = A 6602 0 0
      · have e1 : fX0_alter i b A = some (i + 1, zup (zup A 6601 0 i (zb (zb b))) 6602 0 0 (i + 1)) := by
          unfold fX0_alter fX0_alter_J81
          rw [zgf_ap, zcl_some (p_in0 _ _ _ A), zbi_pos q, zitF (by omega), zcl_some (p_in0 _ _ _ A), zbi_pos q2, zitT (by omega), zitT nt, zas_in (by omega), zgf_ap, zrd_miss (by omega), zitF (fun x => x q3), zi_of (by omega), zpf_ap, zgf_ap, zret_ap, zrd_hit (by omega)]
        have e2 : fX67_alter i b B = some (i + 1, zup (zup B 6873 0 i b) 6872 0 0 (i + 1)) := by
          unfold fX67_alter fX67_alter_J67
          rw [zgf_ap, l1, zcl_some (p_inT _ _ _ B), zbi_pos q, zitF (by omega), zcl_some (p_inT _ _ _ B), zbi_pos q2, zitT (by omega), zitT nt, zas_in (by omega), zgf_ap, zrd_miss (by omega), l1, zitF (fun x => x q3), zgf_ap, zrd_miss (by omega), l1, zi_of (by omega), zpf_ap, zgf_ap, zret_ap, zrd_hit (by omega), q3]
        refine ⟨_, _, _, e1, e2, yInv_tapeOp (r := 0) h ⟨by simp (disch := omega) only [zrd_hit, zrd_miss], by simp (disch := omega) only [zrd_hit, zrd_miss]; omega, ?_⟩ ?_ ?_⟩
        · intro k k0 k1
          have k1 : k < i + 1 := by revert k1; simp (disch := omega) only [zrd_hit, zrd_miss]; exact id
          by_cases e : k = i
          · rw [e]; simp (disch := omega) only [zrd_hit, zrd_miss]; exact (y_zb q2).symm
          · simp (disch := omega) only [zrd_hit, zrd_miss]; exact l3 k k0 (by omega)
        · intro f hf
          simp only [List.mem_cons, List.not_mem_nil, or_false, not_or] at hf
          rw [zup_col (by omega), zup_col (by omega)]
        · intro f hf
          simp only [List.mem_cons, List.not_mem_nil, or_false, not_or] at hf
          rw [zup_col (by omega), zup_col (by omega)]
      · have e1 : fX0_alter i b A = some (A 6602 0 0, zup (zup A 6601 0 i (zb (zb b))) 6602 0 0 (A 6602 0 0)) := by
          unfold fX0_alter fX0_alter_J81
          rw [zgf_ap, zcl_some (p_in0 _ _ _ A), zbi_pos q, zitF (by omega), zcl_some (p_in0 _ _ _ A), zbi_pos q2, zitT (by omega), zitT nt, zas_in (by omega), zgf_ap, zrd_miss (by omega), zitT q3, zgf_ap, zrd_miss (by omega), zpf_ap, zgf_ap, zret_ap, zrd_hit (by omega)]
        have e2 : fX67_alter i b B = some (A 6602 0 0, zup (zup B 6873 0 i b) 6872 0 0 (A 6602 0 0)) := by
          unfold fX67_alter fX67_alter_J67
          rw [zgf_ap, l1, zcl_some (p_inT _ _ _ B), zbi_pos q, zitF (by omega), zcl_some (p_inT _ _ _ B), zbi_pos q2, zitT (by omega), zitT nt, zas_in (by omega), zgf_ap, zrd_miss (by omega), l1, zitT q3, zgf_ap, zrd_miss (by omega), l1, zpf_ap, zgf_ap, zret_ap, zrd_hit (by omega)]
        refine ⟨_, _, _, e1, e2, yInv_tapeOp (r := 0) h ⟨by simp (disch := omega) only [zrd_hit, zrd_miss], by simp (disch := omega) only [zrd_hit, zrd_miss]; omega, ?_⟩ ?_ ?_⟩
        · intro k k0 k1
          have k1 : k < A 6602 0 0 := by revert k1; simp (disch := omega) only [zrd_hit, zrd_miss]; exact id
          by_cases e : k = i
          · rw [e]; simp (disch := omega) only [zrd_hit, zrd_miss]; exact (y_zb q2).symm
          · simp (disch := omega) only [zrd_hit, zrd_miss]; exact l3 k k0 (by omega)
        · intro f hf
          simp only [List.mem_cons, List.not_mem_nil, or_false, not_or] at hf
          rw [zup_col (by omega), zup_col (by omega)]
        · intro f hf
          simp only [List.mem_cons, List.not_mem_nil, or_false, not_or] at hf
          rw [zup_col (by omega), zup_col (by omega)]
    · exact yOp_same (r := -8) h (Int.le_refl _) (by unfold fX0_alter; rw [zgf_ap, zcl_some (p_in0 _ _ _ A), zbi_pos q, zitF (by omega), zcl_some (p_in0 _ _ _ A), zbi_neg q2, zitF (fun x => x rfl), zret_ap]) (by unfold fX67_alter; rw [zgf_ap, l1, zcl_some (p_inT _ _ _ B), zbi_pos q, zitF (by omega), zcl_some (p_inT _ _ _ B), zbi_neg q2, zitF (fun x => x rfl), zret_ap])
  · exact yOp_same (r := -8) h (Int.le_refl _) (by unfold fX0_alter; rw [zgf_ap, zcl_some (p_in0 _ _ _ A), zbi_neg q, zitT rfl, zret_ap]) (by unfold fX67_alter; rw [zgf_ap, l1, zcl_some (p_inT _ _ _ B), zbi_neg q, zitT rfl, zret_ap])
theorem y_getP {N : Int} {A B : zM} (h : I_p0 N A B) (p : Int) : (fX0_processAt p A = some (p, A) ∧ fX67_isThere p B = some (1, B) ∧ yPr p ∧ A 902 p 0 = 1) ∨ (fX0_processAt p A = some (-1, A) ∧ fX67_isThere p B = some (0, B)) := by
  unfold fX0_processAt fX67_isThere
  by_cases q : 0 ≤ p ∧ p ≤ 7
  · have lv := h.lv p (by omega)
    by_cases z : A 902 p 0 = 0
    · exact Or.inr ⟨by rw [zcl_some (p_in0 _ _ _ A), zbi_pos q, zitF (by omega), zib_in (by omega), zgf_ap, zitT z, zret_ap], by rw [zcl_some (p_inT _ _ _ B), zbi_pos q, zitF (by omega), zal_in (by omega), lv.1, zitT z, zret_ap]⟩
    · exact Or.inl ⟨by rw [zcl_some (p_in0 _ _ _ A), zbi_pos q, zitF (by omega), zib_in (by omega), zgf_ap, zitF z, zib_in (by omega), zret_ap], by rw [zcl_some (p_inT _ _ _ B), zbi_pos q, zitF (by omega), zal_in (by omega), lv.1, zitF z, zret_ap], by omega, by omega⟩
  · exact Or.inr ⟨by rw [zcl_some (p_in0 _ _ _ A), zbi_neg q, zitT rfl, zret_ap], by rw [zcl_some (p_inT _ _ _ B), zbi_neg q, zitT rfl, zret_ap]⟩
theorem o_sum {j N : Int} {A B : zM} (h : yInv j N A B) (p : Int) : yOp j N A B (fX0_sum p) (fX67_sum p) := by
  unfold fX0_sum fX67_sum
  rcases y_getP h.p p with ⟨e1, e2, hp, l⟩ | ⟨e1, e2⟩
  · have g := h.p.p1 p hp l
    exact yOp_same h (Int.le_refl _) (by rw [zcl_some e1, zitF (by omega), zgf_ap, zret_ap]) (by rw [zcl_some e2, zitF (by omega), zal_in hp, zret_ap, g.ts])
  · exact yOp_same (r := 0) h (Int.le_refl _) (by rw [zcl_some e1, zitT (by omega), zret_ap]) (by rw [zcl_some e2, zitT rfl, zret_ap])
theorem o_stack {j N : Int} {A B : zM} (h : yInv j N A B) (p e i : Int) : yOp j N A B (fX0_stack p e i) (fX67_stack p e i) := by
  unfold fX0_stack fX67_stack
  rcases y_getP h.p p with ⟨e1, e2, hp, l⟩ | ⟨e1, e2⟩
  · have g := h.p.p1 p hp l
    by_cases c1 : 0 ≤ e ∧ e ≤ 7
    · by_cases c2 : 0 ≤ i ∧ i ≤ 63
      · have s := g.sk (64 * e + i) (by omega) (by omega)
        exact yOp_same h (Int.le_refl _) (by rw [zcl_some e1, zitF (by omega), zcl_some (p_in0 _ _ _ A), zbi_pos c1, zitF (by omega), zcl_some (p_in0 _ _ _ A), zbi_pos c2, zitT (by omega), zi_of (x := 64 * e) (by omega), zi_of (by omega), zal_in (by omega), zret_ap]) (by rw [zcl_some e2, zitF (by omega), zcl_some (p_inT _ _ _ B), zbi_pos c1, zitF (by omega), zcl_some (p_inT _ _ _ B), zbi_pos c2, zitF (by omega), zi_of (x := 64 * e) (by omega), zi_of (x := 512 * p) (by omega), zi_of (x := 512 * p + 64 * e) (by omega), zi_of (by omega), zal_in (by omega), zret_ap, show 512 * p + 64 * e + i = 512 * p + (64 * e + i) by omega, s.1])
      · exact yOp_same (r := -1) h (Int.le_refl _) (by rw [zcl_some e1, zitF (by omega), zcl_some (p_in0 _ _ _ A), zbi_pos c1, zitF (by omega), zcl_some (p_in0 _ _ _ A), zbi_neg c2, zitF (fun x => x rfl), zret_ap]) (by rw [zcl_some e2, zitF (by omega), zcl_some (p_inT _ _ _ B), zbi_pos c1, zitF (by omega), zcl_some (p_inT _ _ _ B), zbi_neg c2, zitT rfl, zret_ap])
    · exact yOp_same (r := -1) h (Int.le_refl _) (by rw [zcl_some e1, zitF (by omega), zcl_some (p_in0 _ _ _ A), zbi_neg c1, zitT rfl, zret_ap]) (by rw [zcl_some e2, zitF (by omega), zcl_some (p_inT _ _ _ B), zbi_neg c1, zitT rfl, zret_ap])
  · exact yOp_same (r := -1) h (Int.le_refl _) (by rw [zcl_some e1, zitT (by omega), zret_ap]) (by rw [zcl_some e2, zitT rfl, zret_ap])
/-- the node that a number stands for -/
theorem p_isKn {A B : zM} {p v : Int} (hp : yPr p) (g : I_p1 A B p) : fX12_isKnown p v A = some (zbi ((8 ≤ v ∧ v ≤ 31) ∧ A 916 p v ≠ -1), A) := by
  unfold fX12_isKnown
  by_cases c : 8 ≤ v ∧ v ≤ 31
  · have k := (g.kn v (by omega) (by omega)).2
    by_cases z : A 916 p v = -1
    · rw [zcl_some (p_in0 _ _ _ A), zbi_pos c, zitF (by omega), znn_in hp.1, zi_of (by omega), zal_in (by omega), zitT (by omega), zret_ap, zbi_neg (fun x => x.2 z)]
    · have : 0 ≤ A 916 p v := by omega
      rw [zcl_some (p_in0 _ _ _ A), zbi_pos c, zitF (by omega), znn_in hp.1, zi_of (by omega), zal_in (by omega), zitF (by omega), zret_ap, zbi_pos ⟨c, z⟩]
  · rw [zcl_some (p_in0 _ _ _ A), zbi_neg c, zitT rfl, zret_ap, zbi_neg (fun x => c x.1)]
theorem o_known {j N : Int} {A B : zM} (h : yInv j N A B) (p v : Int) : yOp j N A B (fX0_known p v) (fX67_known p v) := by
  unfold fX0_known fX67_known
  rcases y_getP h.p p with ⟨e1, e2, hp, l⟩ | ⟨e1, e2⟩
  · have g := h.p.p1 p hp l
    have ik := p_isKn (v := v) hp g
    by_cases c : 8 ≤ v ∧ v ≤ 31
    · have k := g.kn v (by omega) (by omega)
      by_cases z : A 916 p v = -1
      · rw [zbi_neg (fun x => x.2 z)] at ik
        exact yOp_same (r := -1) h (Int.le_refl _) (by rw [zcl_some e1, zitF (by omega), zcl_some ik, zitF (fun x => x rfl), zret_ap]) (by rw [zcl_some e2, zitF (by omega), zcl_some (p_inT _ _ _ B), zbi_pos c, zitF (by omega), zi_of (x := 32 * p) (by omega), zi_of (by omega), zal_in (by omega), zret_ap, k.1, z])
      · rw [zbi_pos ⟨c, z⟩] at ik
        exact yOp_same h (Int.le_refl _) (by rw [zcl_some e1, zitF (by omega), zcl_some ik, zitT (by omega), zal_in (by omega), znn_in (by have := k.2; omega), zret_ap]) (by rw [zcl_some e2, zitF (by omega), zcl_some (p_inT _ _ _ B), zbi_pos c, zitF (by omega), zi_of (x := 32 * p) (by omega), zi_of (by omega), zal_in (by omega), zret_ap, k.1])
    · rw [zbi_neg (fun x => c x.1)] at ik
      exact yOp_same (r := -1) h (Int.le_refl _) (by rw [zcl_some e1, zitF (by omega), zcl_some ik, zitF (fun x => x rfl), zret_ap]) (by rw [zcl_some e2, zitF (by omega), zcl_some (p_inT _ _ _ B), zbi_neg c, zitT rfl, zret_ap])
  · exact yOp_same (r := -1) h (Int.le_refl _) (by rw [zcl_some e1, zitT (by omega), zret_ap]) (by rw [zcl_some e2, zitT rfl, zret_ap])
theorem o_link {j N : Int} {A B : zM} (h : yInv j N A B) (p v k : Int) : yOp j N A B (fX0_link p v k) (fX67_link p v k) := by
  unfold fX0_link fX67_link
  rcases y_getP h.p p with ⟨e1, e2, hp, l⟩ | ⟨e1, e2⟩
  · have g := h.p.p1 p hp l
    by_cases c1 : 8 ≤ v ∧ v ≤ 31
    · by_cases c2 : 0 ≤ k ∧ k ≤ 15
      · have lk := g.lk (16 * v + k) (by omega) (by omega)
        have b : ∀ x, B 6839 0 (512 * p + (16 * v + k)) = x → (zcl (fX67_isThere p) fun v1 => if v1 = 0 then (zret (-1)) else (zcl (fX67_in v 8 31) fun v2 => if v2 = 0 then (zret (-1)) else (zcl (fX67_in k 0 15) fun v3 => if v3 = 0 then (zret (-1)) else (zal 6839 0 (zi ((zi ((zi (512 * p)) + (zi (16 * v)))) + k)) 4096 fun v4 => zret v4)))) B = some (x, B) := by
          intro x hx
          rw [zcl_some e2, zitF (by omega), zcl_some (p_inT _ _ _ B), zbi_pos c1, zitF (by omega), zcl_some (p_inT _ _ _ B), zbi_pos c2, zitF (by omega), zi_of (x := 16 * v) (by omega), zi_of (x := 512 * p) (by omega), zi_of (x := 512 * p + 16 * v) (by omega), zi_of (by omega), zal_in (by omega), zret_ap, show 512 * p + 16 * v + k = 512 * p + (16 * v + k) by omega, hx]
        rcases lk with ⟨x, y⟩ | ⟨x, y, z⟩
        · exact yOp_same (r := -1) h (Int.le_refl _) (by rw [zcl_some e1, zitF (by omega), zcl_some (p_in0 _ _ _ A), zbi_pos c1, zitF (by omega), zcl_some (p_in0 _ _ _ A), zbi_pos c2, zitF (by omega), zi_of (x := 16 * v) (by omega), zi_of (by omega), zal_in (by omega), zitF (by omega), zret_ap]) (b _ y)
        · exact yOp_same h (Int.le_refl _) (by rw [zcl_some e1, zitF (by omega), zcl_some (p_in0 _ _ _ A), zbi_pos c1, zitF (by omega), zcl_some (p_in0 _ _ _ A), zbi_pos c2, zitF (by omega), zi_of (x := 16 * v) (by omega), zi_of (x := 16 * v + k) (by omega), zal_in (by omega), zitT (by omega), zal_in (by omega), zal_in (by omega), zret_ap, zl_of (x := 262144 * _) (by omega), zl_of (by omega)]) (b _ z)
      · exact yOp_same (r := -1) h (Int.le_refl _) (by rw [zcl_some e1, zitF (by omega), zcl_some (p_in0 _ _ _ A), zbi_pos c1, zitF (by omega), zcl_some (p_in0 _ _ _ A), zbi_neg c2, zitT rfl, zret_ap]) (by rw [zcl_some e2, zitF (by omega), zcl_some (p_inT _ _ _ B), zbi_pos c1, zitF (by omega), zcl_some (p_inT _ _ _ B), zbi_neg c2, zitT rfl, zret_ap])
    · exact yOp_same (r := -1) h (Int.le_refl _) (by rw [zcl_some e1, zitF (by omega), zcl_some (p_in0 _ _ _ A), zbi_neg c1, zitT rfl, zret_ap]) (by rw [zcl_some e2, zitF (by omega), zcl_some (p_inT _ _ _ B), zbi_neg c1, zitT rfl, zret_ap])
  · exact yOp_same (r := -1) h (Int.le_refl _) (by rw [zcl_some e1, zitT (by omega), zret_ap]) (by rw [zcl_some e2, zitT rfl, zret_ap])
theorem o_event {j N : Int} {A B : zM} (h : yInv j N A B) (hN : N ≤ 900000) (p i w : Int) (hi : i ≤ 2147483647) : yOp j N A B (fX0_event p i w) (fX67_event p i w) := by
  unfold fX0_event fX67_event
  rcases y_getP h.p p with ⟨e1, e2, hp, l⟩ | ⟨e1, e2⟩
  · have g := h.p.p1 p hp l
    have bd := h.p.bd p hp l
    have tm := g.tm
    by_cases c1 : i < 0
    · have e : fX10_has p i A = some (0, A) := by unfold fX10_has; rw [zitT c1, zret_ap]
      exact yOp_same (r := -1) h (Int.le_refl _) (by rw [zcl_some e1, zitF (by omega), zcl_some e, zitF (fun x => x rfl), zret_ap]) (by rw [zcl_some e2, zitF (by omega), zitT c1, zret_ap])
    · by_cases c2 : A 1101 p 0 ≤ i
      · have e : fX10_has p i A = some (0, A) := by unfold fX10_has; rw [zitF c1, zgf_ap, zitT c2, zret_ap]
        exact yOp_same (r := -1) h (Int.le_refl _) (by rw [zcl_some e1, zitF (by omega), zcl_some e, zitF (fun x => x rfl), zret_ap]) (by rw [zcl_some e2, zitF (by omega), zitF c1, zal_in hp, tm.1, zitT c2, zret_ap])
      · by_cases c3 : i < A 1101 p 0 - 64
        · have e : fX10_has p i A = some (0, A) := by unfold fX10_has; rw [zitF c1, zgf_ap, zitF c2, zgf_ap, zi_of (by omega), zitT c3, zret_ap]
          exact yOp_same (r := -1) h (Int.le_refl _) (by rw [zcl_some e1, zitF (by omega), zcl_some e, zitF (fun x => x rfl), zret_ap]) (by rw [zcl_some e2, zitF (by omega), zitF c1, zal_in hp, tm.1, zitF c2, zal_in hp, tm.1, zi_of (by omega), zitF (by omega), zret_ap])
        · have e : fX10_has p i A = some (1, A) := by unfold fX10_has; rw [zitF c1, zgf_ap, zitF c2, zgf_ap, zi_of (by omega), zitF c3, zret_ap]
          have t2 : Int.tmod i 64 = i % 64 := Int.tmod_eq_emod_of_nonneg (by omega)
          by_cases q : 0 ≤ w ∧ w ≤ 3
          · have r := h.p.tr p (4 * (i % 64) + w) hp (by omega) (by omega)
            exact yOp_same h (Int.le_refl _) (by rw [zcl_some e1, zitF (by omega), zcl_some e, zitT (by omega), zcl_some (p_in0 _ _ _ A), zbi_pos q, zitF (by omega), t2, zi_of (x := 4 * (i % 64)) (by omega), zi_of (by omega), zal_in (by omega), zret_ap]) (by rw [zcl_some e2, zitF (by omega), zitF c1, zal_in hp, tm.1, zitF c2, zal_in hp, tm.1, zi_of (x := A 1101 p 0 - 64) (by omega), zitT (by omega), zcl_some (p_inT _ _ _ B), zbi_pos q, zitF (by omega), t2, zi_of (x := 4 * (i % 64)) (by omega), zi_of (x := 256 * p) (by omega), zi_of (x := 256 * p + 4 * (i % 64)) (by omega), zi_of (by omega), zal_in (by omega), zret_ap, show 256 * p + 4 * (i % 64) + w = 256 * p + (4 * (i % 64) + w) by omega, r])
          · exact yOp_same (r := -8) h (Int.le_refl _) (by rw [zcl_some e1, zitF (by omega), zcl_some e, zitT (by omega), zcl_some (p_in0 _ _ _ A), zbi_neg q, zitT rfl, zret_ap]) (by rw [zcl_some e2, zitF (by omega), zitF c1, zal_in hp, tm.1, zitF c2, zal_in hp, tm.1, zi_of (by omega), zitT (by omega), zcl_some (p_inT _ _ _ B), zbi_neg q, zitT rfl, zret_ap])
  · exact yOp_same (r := -1) h (Int.le_refl _) (by rw [zcl_some e1, zitT (by omega), zret_ap]) (by rw [zcl_some e2, zitT rfl, zret_ap])
theorem o_register {j N : Int} {A B : zM} (h : yInv j N A B) (p v : Int) : yOp j N A B (fX0_register p v) (fX67_register p v) := by
  unfold fX0_register fX67_register
  rcases y_getP h.p p with ⟨e1, e2, hp, l⟩ | ⟨e1, e2⟩
  · have g := (h.p.p1 p hp l).rg
    by_cases c1 : 2 ≤ v ∧ v ≤ 5
    · have x := g.x (v - 2) (by omega) (by omega)
      exact yOp_same h (Int.le_refl _) (by rw [zcl_some e1, zitF (by omega), zcl_some (p_in0 _ _ _ A), zbi_pos c1, zitF (by omega), zi_of (by omega), zal_in (by omega), zret_ap]) (by rw [zcl_some e2, zitT (by omega), zcl_some (p_inT _ _ _ B), zbi_neg (by omega), zitT rfl, zcl_some (p_inT _ _ _ B), zbi_pos c1, zitF (by omega), zi_of (x := 4 * p) (by omega), zi_of (x := 4 * p + v) (by omega), zi_of (by omega), zal_in (by omega), zret_ap, show 4 * p + v - 2 = 4 * p + (v - 2) by omega, x.1])
    by_cases c2 : 16 ≤ v ∧ v ≤ 23
    · have x1 := g.pn (v - 16) (by omega) (by omega)
      have x2 := g.pp (v - 16) (by omega) (by omega)
      have x3 := g.pr (v - 16) (by omega) (by omega)
      have pw : fX9_pointer p (v - 16) A = some (zoR (zoR (zoR 42949672960 (zl (A 1005 p (v - 16) * 1073741824))) (zl (A 1003 p (v - 16) * 16777216))) (A 1004 p (v - 16)), A) := by
        unfold fX9_pointer
        rw [zal_in (by omega), zal_in (by omega), zal_in (by omega)]
        rfl
      exact yOp_same h (Int.le_refl _) (by rw [zcl_some e1, zitF (by omega), zcl_some (p_in0 _ _ _ A), zbi_neg c1, zitT rfl, zcl_some (p_in0 _ _ _ A), zbi_pos c2, zitF (by omega), zi_of (by omega), zcl_some pw, zret_ap]) (by rw [zcl_some e2, zitT (by omega), zcl_some (p_inT _ _ _ B), zbi_pos c2, zitF (by omega), zlt_ap, zi_of (x := 8 * p) (by omega), zi_of (x := 8 * p + v) (by omega), zi_of (x := 8 * p + v - 16) (by omega), zal_in (by omega), zal_in (by omega), zal_in (by omega), show 8 * p + v - 16 = 8 * p + (v - 16) by omega, x1.1, x2.1, x3.1]; rfl)
    have sA : ∀ X : zX, (zcl (fX0_processAt p) fun v1 => if v1 < 0 then (zret (-1)) else (zcl (fX0_isIn v 2 5) fun v3 => if v3 = 0 then (zcl (fX0_isIn v 16 23) fun v4 => if v4 = 0 then X else (zcl (fX9_pointer v1 (zi (v - 16))) fun v19 => zret v19)) else (zal 1002 v1 (zi (v - 2)) 4 fun v20 => zret v20))) A = X A := by
      intro X
      rw [zcl_some e1, zitF (by omega), zcl_some (p_in0 _ _ _ A), zbi_neg c1, zitT rfl, zcl_some (p_in0 _ _ _ A), zbi_neg c2, zitT rfl]
    by_cases c : v = 0
    · subst c
      exact yOp_same h (Int.le_refl _) (by rw [zcl_some e1, zitF (by omega), zcl_some (p_in0 _ _ _ A), zbi_neg c1, zitT rfl, zcl_some (p_in0 _ _ _ A), zbi_neg c2, zitT rfl, zitT rfl, zgf_ap, zret_ap]) (by rw [zcl_some e2, zitT (by omega), zcl_some (p_inT _ _ _ B), zbi_neg c2, zitT rfl, zcl_some (p_inT _ _ _ B), zbi_neg c1, zitT rfl, zitT rfl, zal_in hp, zret_ap, g.a.1])
    by_cases c : v = 1
    · subst c
      exact yOp_same h (Int.le_refl _) (by rw [zcl_some e1, zitF (by omega), zcl_some (p_in0 _ _ _ A), zbi_neg c1, zitT rfl, zcl_some (p_in0 _ _ _ A), zbi_neg c2, zitT rfl, zitF (by omega), zitT rfl, zgf_ap, zret_ap]) (by rw [zcl_some e2, zitT (by omega), zcl_some (p_inT _ _ _ B), zbi_neg c2, zitT rfl, zcl_some (p_inT _ _ _ B), zbi_neg c1, zitT rfl, zitF (by omega), zitT rfl, zal_in hp, zret_ap, g.q.1])
    by_cases c : v = 6
    · subst c
      exact yOp_same h (Int.le_refl _) (by rw [zcl_some e1, zitF (by omega), zcl_some (p_in0 _ _ _ A), zbi_neg c1, zitT rfl, zcl_some (p_in0 _ _ _ A), zbi_neg c2, zitT rfl, zitF (by omega), zitF (by omega), zitT rfl, zgf_ap, zret_ap]) (by rw [zcl_some e2, zitT (by omega), zcl_some (p_inT _ _ _ B), zbi_neg c2, zitT rfl, zcl_some (p_inT _ _ _ B), zbi_neg c1, zitT rfl, zitF (by omega), zitF (by omega), zitT rfl, zal_in hp, zret_ap, g.nu.1])
    by_cases c : v = 7
    · subst c
      exact yOp_same h (Int.le_refl _) (by rw [zcl_some e1, zitF (by omega), zcl_some (p_in0 _ _ _ A), zbi_neg c1, zitT rfl, zcl_some (p_in0 _ _ _ A), zbi_neg c2, zitT rfl, zitF (by omega), zitF (by omega), zitF (by omega), zitT rfl, zgf_ap, zret_ap]) (by rw [zcl_some e2, zitT (by omega), zcl_some (p_inT _ _ _ B), zbi_neg c2, zitT rfl, zcl_some (p_inT _ _ _ B), zbi_neg c1, zitT rfl, zitF (by omega), zitF (by omega), zitF (by omega), zitT rfl, zal_in hp, zret_ap, g.pl.1])
    by_cases c : v = 8
    · subst c
      exact yOp_same h (Int.le_refl _) (by rw [zcl_some e1, zitF (by omega), zcl_some (p_in0 _ _ _ A), zbi_neg c1, zitT rfl, zcl_some (p_in0 _ _ _ A), zbi_neg c2, zitT rfl, zitF (by omega), zitF (by omega), zitF (by omega), zitF (by omega), zitT rfl, zgf_ap, zret_ap]) (by rw [zcl_some e2, zitT (by omega), zcl_some (p_inT _ _ _ B), zbi_neg c2, zitT rfl, zcl_some (p_inT _ _ _ B), zbi_neg c1, zitT rfl, zitF (by omega), zitF (by omega), zitF (by omega), zitF (by omega), zitT rfl, zal_in hp, zret_ap, g.ri.1])
    by_cases c : v = 9
    · subst c
      by_cases z : A 1009 p 0 = 0
      · exact yOp_same (r := 0) h (Int.le_refl _) (by rw [zcl_some e1, zitF (by omega), zcl_some (p_in0 _ _ _ A), zbi_neg c1, zitT rfl, zcl_some (p_in0 _ _ _ A), zbi_neg c2, zitT rfl, zitF (by omega), zitF (by omega), zitF (by omega), zitF (by omega), zitF (by omega), zitT rfl, zgf_ap, zitT z, zret_ap]) (by rw [zcl_some e2, zitT (by omega), zcl_some (p_inT _ _ _ B), zbi_neg c2, zitT rfl, zcl_some (p_inT _ _ _ B), zbi_neg c1, zitT rfl, zitF (by omega), zitF (by omega), zitF (by omega), zitF (by omega), zitF (by omega), zitT rfl, zal_in hp, g.ze.1, zitT z, zret_ap])
      · exact yOp_same (r := 1) h (Int.le_refl _) (by rw [zcl_some e1, zitF (by omega), zcl_some (p_in0 _ _ _ A), zbi_neg c1, zitT rfl, zcl_some (p_in0 _ _ _ A), zbi_neg c2, zitT rfl, zitF (by omega), zitF (by omega), zitF (by omega), zitF (by omega), zitF (by omega), zitT rfl, zgf_ap, zitF z, zret_ap]) (by rw [zcl_some e2, zitT (by omega), zcl_some (p_inT _ _ _ B), zbi_neg c2, zitT rfl, zcl_some (p_inT _ _ _ B), zbi_neg c1, zitT rfl, zitF (by omega), zitF (by omega), zitF (by omega), zitF (by omega), zitF (by omega), zitT rfl, zal_in hp, g.ze.1, zitF z, zret_ap])
    by_cases c : v = 10
    · subst c
      by_cases z : A 1010 p 0 = 0
      · exact yOp_same (r := 0) h (Int.le_refl _) (by rw [zcl_some e1, zitF (by omega), zcl_some (p_in0 _ _ _ A), zbi_neg c1, zitT rfl, zcl_some (p_in0 _ _ _ A), zbi_neg c2, zitT rfl, zitF (by omega), zitF (by omega), zitF (by omega), zitF (by omega), zitF (by omega), zitF (by omega), zitT rfl, zgf_ap, zitT z, zret_ap]) (by rw [zcl_some e2, zitT (by omega), zcl_some (p_inT _ _ _ B), zbi_neg c2, zitT rfl, zcl_some (p_inT _ _ _ B), zbi_neg c1, zitT rfl, zitF (by omega), zitF (by omega), zitF (by omega), zitF (by omega), zitF (by omega), zitF (by omega), zitT rfl, zal_in hp, g.mi.1, zitT z, zret_ap])
      · exact yOp_same (r := 1) h (Int.le_refl _) (by rw [zcl_some e1, zitF (by omega), zcl_some (p_in0 _ _ _ A), zbi_neg c1, zitT rfl, zcl_some (p_in0 _ _ _ A), zbi_neg c2, zitT rfl, zitF (by omega), zitF (by omega), zitF (by omega), zitF (by omega), zitF (by omega), zitF (by omega), zitT rfl, zgf_ap, zitF z, zret_ap]) (by rw [zcl_some e2, zitT (by omega), zcl_some (p_inT _ _ _ B), zbi_neg c2, zitT rfl, zcl_some (p_inT _ _ _ B), zbi_neg c1, zitT rfl, zitF (by omega), zitF (by omega), zitF (by omega), zitF (by omega), zitF (by omega), zitF (by omega), zitT rfl, zal_in hp, g.mi.1, zitF z, zret_ap])
    exact yOp_same (r := -8) h (Int.le_refl _) (by rw [zcl_some e1, zitF (by omega), zcl_some (p_in0 _ _ _ A), zbi_neg c1, zitT rfl, zcl_some (p_in0 _ _ _ A), zbi_neg c2, zitT rfl, zitF (by omega), zitF (by omega), zitF (by omega), zitF (by omega), zitF (by omega), zitF (by omega), zitF (by omega), zret_ap]) (by rw [zcl_some e2, zitT (by omega), zcl_some (p_inT _ _ _ B), zbi_neg c2, zitT rfl, zcl_some (p_inT _ _ _ B), zbi_neg c1, zitT rfl, zitF (by omega), zitF (by omega), zitF (by omega), zitF (by omega), zitF (by omega), zitF (by omega), zitF (by omega), zret_ap])
  · exact yOp_same (r := -1) h (Int.le_refl _) (by rw [zcl_some e1, zitT (by omega), zret_ap]) (by rw [zcl_some e2, zitF (fun x => x rfl), zret_ap])
theorem o_process {j N : Int} {A B : zM} (h : yInv j N A B) (p v : Int) : yOp j N A B (fX0_process p v) (fX67_process p v) := by
  unfold fX0_process fX67_process
  rcases y_getP h.p p with ⟨e1, e2, hp, l⟩ | ⟨e1, e2⟩
  · have g := h.p.p1 p hp l
    by_cases c1 : 8 ≤ v ∧ v ≤ 11
    · have x := g.se (v - 8) (by omega) (by omega)
      have b : (zcl (fX67_isThere p) fun v1 => if ¬ v1 = 0 then (zcl (fX67_in v 8 11) fun v2 => if v2 = 0 then (zret 0) else (zal 6841 0 (zi ((zi ((zi (4 * p)) + v)) - 8)) 32 fun v23 => zret v23)) else (zret (-1))) B = some (A 921 p (v - 8), B) := by
        rw [zcl_some e2, zitT (by omega), zcl_some (p_inT _ _ _ B), zbi_pos c1, zitF (by omega), zi_of (x := 4 * p) (by omega), zi_of (x := 4 * p + v) (by omega), zi_of (by omega), zal_in (by omega), zret_ap, show 4 * p + v - 8 = 4 * p + (v - 8) by omega, x.1]
      by_cases z : A 921 p (v - 8) < 0
      · have z1 : A 921 p (v - 8) = -1 := by omega
        exact yOp_same (r := -1) h (Int.le_refl _) (by rw [zcl_some e1, zitF (by omega), zcl_some (p_in0 _ _ _ A), zbi_pos c1, zitF (by omega), zi_of (by omega), zal_in (by omega), zitT z, zret_ap]) (by rw [zcl_some e2, zitT (by omega), zcl_some (p_inT _ _ _ B), zbi_pos c1, zitF (by omega), zi_of (x := 4 * p) (by omega), zi_of (x := 4 * p + v) (by omega), zi_of (by omega), zal_in (by omega), zret_ap, show 4 * p + v - 8 = 4 * p + (v - 8) by omega, x.1, z1])
      · exact yOp_same h (Int.le_refl _) (by rw [zcl_some e1, zitF (by omega), zcl_some (p_in0 _ _ _ A), zbi_pos c1, zitF (by omega), zi_of (by omega), zal_in (by omega), zitF z, zret_ap]) (by rw [zcl_some e2, zitT (by omega), zcl_some (p_inT _ _ _ B), zbi_pos c1, zitF (by omega), zi_of (x := 4 * p) (by omega), zi_of (x := 4 * p + v) (by omega), zi_of (by omega), zal_in (by omega), zret_ap, show 4 * p + v - 8 = 4 * p + (v - 8) by omega, x.1])
    by_cases c : v = 0
    · subst c
      exact yOp_same h (Int.le_refl _) (by rw [zcl_some e1, zitF (by omega), zcl_some (p_in0 _ _ _ A), zbi_neg c1, zitT rfl, zitT rfl, zgf_ap, zret_ap]) (by rw [zcl_some e2, zitT (by omega), zcl_some (p_inT _ _ _ B), zbi_neg c1, zitT rfl, zitT rfl, zal_in hp, zret_ap, g.st.1])
    by_cases c : v = 1
    · subst c
      exact yOp_same h (Int.le_refl _) (by rw [zcl_some e1, zitF (by omega), zcl_some (p_in0 _ _ _ A), zbi_neg c1, zitT rfl, zitF (by omega), zitT rfl, zgf_ap, zret_ap]) (by rw [zcl_some e2, zitT (by omega), zcl_some (p_inT _ _ _ B), zbi_neg c1, zitT rfl, zitF (by omega), zitT rfl, zal_in hp, zret_ap, g.pe.1])
    by_cases c : v = 2
    · subst c
      exact yOp_same h (Int.le_refl _) (by rw [zcl_some e1, zitF (by omega), zcl_some (p_in0 _ _ _ A), zbi_neg c1, zitT rfl, zitF (by omega), zitF (by omega), zitT rfl, zgf_ap, zret_ap]) (by rw [zcl_some e2, zitT (by omega), zcl_some (p_inT _ _ _ B), zbi_neg c1, zitT rfl, zitF (by omega), zitF (by omega), zitT rfl, zal_in hp, zret_ap, g.pj.1])
    by_cases c : v = 3
    · subst c
      exact yOp_same h (Int.le_refl _) (by rw [zcl_some e1, zitF (by omega), zcl_some (p_in0 _ _ _ A), zbi_neg c1, zitT rfl, zitF (by omega), zitF (by omega), zitF (by omega), zitT rfl, zgf_ap, zret_ap]) (by rw [zcl_some e2, zitT (by omega), zcl_some (p_inT _ _ _ B), zbi_neg c1, zitT rfl, zitF (by omega), zitF (by omega), zitF (by omega), zitT rfl, zal_in hp, zret_ap, g.lb.1])
    by_cases c : v = 4
    · subst c
      exact yOp_same h (Int.le_refl _) (by rw [zcl_some e1, zitF (by omega), zcl_some (p_in0 _ _ _ A), zbi_neg c1, zitT rfl, zitF (by omega), zitF (by omega), zitF (by omega), zitF (by omega), zitT rfl, zgf_ap, zret_ap]) (by rw [zcl_some e2, zitT (by omega), zcl_some (p_inT _ _ _ B), zbi_neg c1, zitT rfl, zitF (by omega), zitF (by omega), zitF (by omega), zitF (by omega), zitT rfl, zal_in hp, zret_ap, g.ti.1])
    by_cases c : v = 5
    · subst c
      exact yOp_same h (Int.le_refl _) (by rw [zcl_some e1, zitF (by omega), zcl_some (p_in0 _ _ _ A), zbi_neg c1, zitT rfl, zitF (by omega), zitF (by omega), zitF (by omega), zitF (by omega), zitF (by omega), zitT rfl, zgf_ap, zret_ap]) (by rw [zcl_some e2, zitT (by omega), zcl_some (p_inT _ _ _ B), zbi_neg c1, zitT rfl, zitF (by omega), zitF (by omega), zitF (by omega), zitF (by omega), zitF (by omega), zitT rfl, zal_in hp, zret_ap, g.me.1])
    by_cases c : v = 6
    · subst c
      exact yOp_same h (Int.le_refl _) (by rw [zcl_some e1, zitF (by omega), zcl_some (p_in0 _ _ _ A), zbi_neg c1, zitT rfl, zitF (by omega), zitF (by omega), zitF (by omega), zitF (by omega), zitF (by omega), zitF (by omega), zitT rfl, zgf_ap, zret_ap]) (by rw [zcl_some e2, zitT (by omega), zcl_some (p_inT _ _ _ B), zbi_neg c1, zitT rfl, zitF (by omega), zitF (by omega), zitF (by omega), zitF (by omega), zitF (by omega), zitF (by omega), zitT rfl, zal_in hp, zret_ap, g.fm.1])
    by_cases c : v = 7
    · subst c
      exact yOp_same h (Int.le_refl _) (by rw [zcl_some e1, zitF (by omega), zcl_some (p_in0 _ _ _ A), zbi_neg c1, zitT rfl, zitF (by omega), zitF (by omega), zitF (by omega), zitF (by omega), zitF (by omega), zitF (by omega), zitF (by omega), zitT rfl, zgf_ap, znn_in (by have := g.wk; omega), zret_ap]) (by rw [zcl_some e2, zitT (by omega), zcl_some (p_inT _ _ _ B), zbi_neg c1, zitT rfl, zitF (by omega), zitF (by omega), zitF (by omega), zitF (by omega), zitF (by omega), zitF (by omega), zitF (by omega), zitT rfl, zal_in hp, zret_ap, g.wk.1])
    by_cases c : v = 12
    · subst c
      by_cases z : A 911 p 0 = 0
      · exact yOp_same (r := 0) h (Int.le_refl _) (by rw [zcl_some e1, zitF (by omega), zcl_some (p_in0 _ _ _ A), zbi_neg c1, zitT rfl, zitF (by omega), zitF (by omega), zitF (by omega), zitF (by omega), zitF (by omega), zitF (by omega), zitF (by omega), zitF (by omega), zitT rfl, zgf_ap, zitT z, zret_ap]) (by rw [zcl_some e2, zitT (by omega), zcl_some (p_inT _ _ _ B), zbi_neg c1, zitT rfl, zitF (by omega), zitF (by omega), zitF (by omega), zitF (by omega), zitF (by omega), zitF (by omega), zitF (by omega), zitF (by omega), zitT rfl, zal_in hp, g.hh.1, zitT z, zret_ap])
      · exact yOp_same (r := 1) h (Int.le_refl _) (by rw [zcl_some e1, zitF (by omega), zcl_some (p_in0 _ _ _ A), zbi_neg c1, zitT rfl, zitF (by omega), zitF (by omega), zitF (by omega), zitF (by omega), zitF (by omega), zitF (by omega), zitF (by omega), zitF (by omega), zitT rfl, zgf_ap, zitF z, zret_ap]) (by rw [zcl_some e2, zitT (by omega), zcl_some (p_inT _ _ _ B), zbi_neg c1, zitT rfl, zitF (by omega), zitF (by omega), zitF (by omega), zitF (by omega), zitF (by omega), zitF (by omega), zitF (by omega), zitF (by omega), zitT rfl, zal_in hp, g.hh.1, zitF z, zret_ap])
    by_cases c : v = 13
    · subst c
      exact yOp_same h (Int.le_refl _) (by rw [zcl_some e1, zitF (by omega), zcl_some (p_in0 _ _ _ A), zbi_neg c1, zitT rfl, zitF (by omega), zitF (by omega), zitF (by omega), zitF (by omega), zitF (by omega), zitF (by omega), zitF (by omega), zitF (by omega), zitF (by omega), zitT rfl, zgf_ap, zret_ap]) (by rw [zcl_some e2, zitT (by omega), zcl_some (p_inT _ _ _ B), zbi_neg c1, zitT rfl, zitF (by omega), zitF (by omega), zitF (by omega), zitF (by omega), zitF (by omega), zitF (by omega), zitF (by omega), zitF (by omega), zitF (by omega), zitT rfl, zal_in hp, zret_ap, g.tm.1])
    exact yOp_same (r := -8) h (Int.le_refl _) (by rw [zcl_some e1, zitF (by omega), zcl_some (p_in0 _ _ _ A), zbi_neg c1, zitT rfl, zitF (by omega), zitF (by omega), zitF (by omega), zitF (by omega), zitF (by omega), zitF (by omega), zitF (by omega), zitF (by omega), zitF (by omega), zitF (by omega), zret_ap]) (by rw [zcl_some e2, zitT (by omega), zcl_some (p_inT _ _ _ B), zbi_neg c1, zitT rfl, zitF (by omega), zitF (by omega), zitF (by omega), zitF (by omega), zitF (by omega), zitF (by omega), zitF (by omega), zitF (by omega), zitF (by omega), zitF (by omega), zret_ap])
  · exact yOp_same (r := -1) h (Int.le_refl _) (by rw [zcl_some e1, zitT (by omega), zret_ap]) (by rw [zcl_some e2, zitF (fun x => x rfl), zret_ap])
