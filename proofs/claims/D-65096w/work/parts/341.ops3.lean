set_option linter.unusedSimpArgs false
set_option linter.unusedVariables false
/-! operations that change the tree from outside -/
theorem o_item {j N : Int} {A B : zM} (h : yInv j N A B) (hN : N < 890000) (n p q md : Int) : yOp j (N + 1) A B (fX0_item n p q md) (fX67_item n p q md) := by
  have hh := h.t
  obtain ⟨acc, rho, K, hT, b1, b2, b3⟩ := hh
  have bad : ¬ isIt p q md → yLv A n → fX67_isNode n B = some (1, B) → fX67_item n p q md B = some (-8, B) := by
    intro q1 lv e2
    unfold fX67_item
    rw [zcl_some e2, zitF (by omega), zcl_some (p_itT p q md B), zbi_neg q1, zitF (fun x => x rfl), zret_ap]
  unfold fX0_item
  rcases y_getNd hT.nd n with ⟨e1, e2, lv⟩ | ⟨e1, e2⟩
  · have hn := lv.1
    by_cases c1 : 0 ≤ p ∧ p ≤ 16
    · by_cases c2 : 0 ≤ q ∧ q ≤ 8
      · by_cases c3 : 0 ≤ md ∧ md ≤ 8
        · obtain ⟨r, A', m', B', f1, f2, f3, f4, f5, f6⟩ := r_item h.t hN lv c1 c2 c3
          have vb := hT.vb
          have fr := fr_fX5_set (3 * n) p q md A r A' f1
          have frB := fr_fX67_item n p q md B m' B' f2
          refine ⟨m', _, B', ?_, f2, yInv_tree h (by omega) (by omega) f4 f5 ?_ ?_ ?_ ?_⟩
          · rw [zcl_some e1, zitF (by omega), zcl_some (p_in0 _ _ _ A), zbi_pos c1, zitF (by omega), zcl_some (p_in0 _ _ _ A), zbi_pos c2, zitF (by omega), zcl_some (p_in0 _ _ _ A), zbi_pos c3, zitT (by omega), zcl_some f1, zgf_ap, f6, zi_of (by omega), zpf_ap]
            rcases f3 with ⟨g1, g2⟩ | ⟨g1, g2, g3⟩
            · rw [zitF (by omega), zret_ap, g2]
            · rw [zitT (by omega), zgf_ap, zret_ap, zrd_miss (by omega), g3]
          · exact yCo_up (fun c hc => fr c ((show ∀ c ∈ yNtA, ¬ c ∈ W_fX5_set by decide) c hc)) (by decide)
          · exact fun c hc => frB c ((show ∀ c ∈ yNtB, ¬ c ∈ W_fX67_item by decide) c hc)
          · exact yCo_up (fun c hc => fr c ((show ∀ c ∈ yPcA, ¬ c ∈ W_fX5_set by decide) c hc)) (by decide)
          · exact fun c hc => frB c ((show ∀ c ∈ yPcB, ¬ c ∈ W_fX67_item by decide) c hc)
        · exact yOp_same (r := -8) h (by omega) (by rw [zcl_some e1, zitF (by omega), zcl_some (p_in0 _ _ _ A), zbi_pos c1, zitF (by omega), zcl_some (p_in0 _ _ _ A), zbi_pos c2, zitF (by omega), zcl_some (p_in0 _ _ _ A), zbi_neg c3, zitF (fun x => x rfl), zret_ap]) (bad (fun x => c3 x.2.2) lv e2)
      · exact yOp_same (r := -8) h (by omega) (by rw [zcl_some e1, zitF (by omega), zcl_some (p_in0 _ _ _ A), zbi_pos c1, zitF (by omega), zcl_some (p_in0 _ _ _ A), zbi_neg c2, zitT rfl, zret_ap]) (bad (fun x => c2 x.2.1) lv e2)
    · exact yOp_same (r := -8) h (by omega) (by rw [zcl_some e1, zitF (by omega), zcl_some (p_in0 _ _ _ A), zbi_neg c1, zitT rfl, zret_ap]) (bad (fun x => c1 x.1) lv e2)
  · exact yOp_same (r := -8) h (by omega) (by rw [zcl_some e1, zitT (by omega), zret_ap]) (by unfold fX67_item; rw [zcl_some e2, zitT rfl, zret_ap])
/-- an initial item is set or goes -/
theorem r_init {N : Int} {A B : zM} (h : I_TB N A B) (hN : N < 890000) {n k p q md : Int} (lv : yLv A n) (kd : A 501 n 0 = 1) (hk : 1 ≤ k ∧ k ≤ 2) (hp : 0 ≤ p ∧ p ≤ 16) (hq : 0 ≤ q ∧ q ≤ 8) (hd : 0 ≤ md ∧ md ≤ 8) :
    ∃ r A' m' B', fX4_initial n k A = some (if k = 1 then 3 * n + 2 else 3 * n + 1, A) ∧ fX5_set (if k = 1 then 3 * n + 2 else 3 * n + 1) p q md A = some (r, A') ∧ fX67_initial n k p q md B = some (m', B') ∧ ((m' < 0 ∧ r = m') ∨ (0 ≤ m' ∧ r = 0 ∧ A' 602 (if k = 1 then 3 * n + 2 else 3 * n + 1) 0 = m')) ∧ I_TB (N + 1) A' B' ∧ yTr A A' ∧ yCo (yNtA ++ yPcA) A A' ∧ yCo (yNtB ++ yPcB) B B' := by
  have hnd := h
  obtain ⟨acc, rho, K, hT, b1, b2, b3⟩ := hnd
  have hn := lv.1
  have ein : ∀ M : zM, fX4_initial n k M = some (if k = 1 then 3 * n + 2 else 3 * n + 1, M) := by
    intro M
    unfold fX4_initial
    by_cases c : k = 1
    · rw [if_pos c, zitF (fun x => x c), zret_ap]
    · rw [if_neg c, zitT c, zret_ap]
  have e1 := ein A
  obtain ⟨c, hc⟩ : ∃ c, c = if k = 1 then 3 * n + 2 else 3 * n + 1 := ⟨_, rfl⟩
  obtain ⟨t, ht⟩ : ∃ t, t = if k = 1 then 2 * n else 2 * n + 1 := ⟨_, rfl⟩
  rw [← hc] at e1 ⊢
  have hct : (c = 3 * n + 1 ∧ t = 2 * n + 1) ∨ (c = 3 * n + 2 ∧ t = 2 * n) := by
    rw [hc, ht]
    by_cases q : k = 1
    · rw [if_pos q, if_pos q]; exact Or.inr ⟨rfl, rfl⟩
    · rw [if_neg q, if_neg q]; exact Or.inl ⟨rfl, rfl⟩
  have al : I_al A B c 6815 (9 * t) (B 6814 0 t) := by
    rcases hct with ⟨x, y⟩ | ⟨x, y⟩
    · rw [x, y]; exact hT.ls.fs n lv
    · rw [x, y]; exact hT.ls.fd n lv
  have z3 : zacl c = 3 := by unfold zacl; rw [if_neg (by omega)]
  have zl : zlen 6815 = 4608 := by decide
  obtain ⟨r, A', m', B', f1, f2, f3, f4, f5⟩ := r_set al (by rw [z3, zl]; omega) (by rw [zl]; omega) hp hq hd
  rw [z3] at f2 f5
  have e6 := p_itT p q md B
  rw [zbi_pos (show isIt p q md from ⟨hp, hq, hd⟩)] at e6
  have nb : fX67_isOf n 1 B = some (1, B) := by rw [p_ofT n (by omega), zbi_pos ((y_kd hT.nd n 1).2 ⟨by omega, kd⟩)]
  have tk : 2 * n + k - 1 = t := by
    rw [ht]; split <;> omega
  have b14 : B' 6814 0 t = B 6814 0 t := f5 6814 0 t (by omega)
  have frA := fr_fX5_set c p q md A r A' f1
  have ca : ∀ L : List Nat, (∀ x ∈ L, ¬ x ∈ W_fX5_set) → yCo L A A' := fun L d x hx => frA x (d x hx)
  have a7 : A' 207 = A 207 := frA 207 (by decide)
  have cB : ∀ f, ¬ f = 6815 → B' f = B f := fun f hf => by funext x i; exact f5 f x i (fun z => hf z.1)
  refine ⟨r, A', m', if m' < 0 then B' else zup B' 6814 0 t m', e1, f1, ?_, ?_, ?_, ?_, ca _ (by decide), ?_⟩
  · unfold fX67_initial fX67_initial_J95
    have ei : fX67_in k 1 2 B = some (1, B) := by rw [p_inT, zbi_pos hk]
    rw [zcl_some nb, zitF (by omega), zcl_some ei, zitF (by omega), zcl_some e6, zitT (by omega), zi_of (x := 2 * n) (by omega), zi_of (x := 2 * n + k) (by omega), zi_of (x := 2 * n + k - 1) (by omega), zlt_ap, tk, zal_in (by omega), zi_of (by omega), zcl_some f2]
    by_cases c : m' < 0
    · rw [zitT c, zal_in (by omega), zas_in (by omega), zret_ap, zup_id rfl, if_pos c]
    · rw [zitF c, zas_in (by omega), zret_ap, if_neg c]
  · rcases f3 with ⟨x, y, -⟩ | ⟨x, y, z⟩
    · exact Or.inl ⟨x, y⟩
    · exact Or.inr ⟨x, y, z.n⟩
  · refine I_TB_ls h (I_ls_in hT.ls (n := n) (c := c) (t := t) hct (frA 501 (by decide)) (fun f x i hx hf => f4 f x i hx) ?_ ?_ ?_ ?_ ?_) (ca _ (by decide)) ?_ (by rw [a7]; omega) hN
    · intro i hi
      have : B' 6815 0 i = B 6815 0 i := f5 6815 0 i (by omega)
      split
      · exact this
      · simp (disch := omega) only [zrd_hit, zrd_miss]; exact this
    · intro i hi
      split
      · rw [cB 6814 (by decide)]
      · simp (disch := omega) only [zrd_hit, zrd_miss]; rw [cB 6814 (by decide)]
    · split
      · exact cB 6812 (by decide)
      · rw [zup_col (by decide)]; exact cB 6812 (by decide)
    · split
      · exact cB 6813 (by decide)
      · rw [zup_col (by decide)]; exact cB 6813 (by decide)
    · rcases f3 with ⟨x, -, ea, eb⟩ | ⟨x, -, f⟩
      · rw [if_pos x, ea, eb]; exact al
      · rw [if_neg (by omega)]
        exact I_al_fr (fun _ _ _ => rfl) (fun i _ _ => by simp (disch := omega) only [zrd_hit, zrd_miss]) (by simp (disch := omega) only [zrd_hit, zrd_miss]) f
    · intro f hf
      have d1 : ∀ f ∈ [6800, 6801, 6802, 6803, 6804, 6805, 6806, 6807, 6808, 6809, 6810, 6811, 6816, 6817, 6818, 6819], (¬ f = 6814) ∧ ¬ f = 6815 := by decide
      obtain ⟨d1, d2⟩ := d1 f hf
      split
      · exact cB f d2
      · rw [zup_col d1]; exact cB f d2
  · have a5 : A' 501 = A 501 := frA 501 (by decide)
    have a3 : A' 503 = A 503 := frA 503 (by decide)
    exact ⟨by rw [a7]; exact Int.le_refl _, fun m _ => by rw [a5], fun _ m _ => ⟨by rw [a3], fun f i hf => f4 f _ i (by omega)⟩⟩
  · intro f hf
    have d1 : ∀ f ∈ yNtB ++ yPcB, (¬ f = 6814) ∧ ¬ f = 6815 := by decide
    obtain ⟨d1, d2⟩ := d1 f hf
    split
    · exact cB f d2
    · rw [zup_col d1]; exact cB f d2
theorem o_initial {j N : Int} {A B : zM} (h : yInv j N A B) (hN : N < 890000) (n k p q md : Int) : yOp j (N + 1) A B (fX0_initial n k p q md) (fX67_initial n k p q md) := by
  have hh := h.t
  obtain ⟨acc, rho, K, hT, b1, b2, b3⟩ := hh
  unfold fX0_initial
  rcases y_getDir hT.nd n with ⟨e1, e2, lv, kd⟩ | ⟨e1, e2⟩
  · have hn := lv.1
    have bad2 : (1 ≤ k ∧ k ≤ 2) → ¬ isIt p q md → fX67_initial n k p q md B = some (-8, B) := by
      intro ck q1
      have ei : fX67_in k 1 2 B = some (1, B) := by rw [p_inT, zbi_pos ck]
      unfold fX67_initial
      rw [zcl_some e2, zitF (by omega), zcl_some ei, zitF (by omega), zcl_some (p_itT p q md B), zbi_neg q1, zitF (fun x => x rfl), zret_ap]
    by_cases c0 : 1 ≤ k ∧ k ≤ 2
    · by_cases c1 : 0 ≤ p ∧ p ≤ 16
      · by_cases c2 : 0 ≤ q ∧ q ≤ 8
        · by_cases c3 : 0 ≤ md ∧ md ≤ 8
          · obtain ⟨r, A', m', B', f0, f1, f2, f3, f4, f5, f6, f7⟩ := r_init h.t hN lv kd c0 c1 c2 c3
            have f0' : ∀ M : zM, fX4_initial n k M = some (if k = 1 then 3 * n + 2 else 3 * n + 1, M) := by
              intro M
              unfold fX4_initial
              by_cases c : k = 1
              · rw [if_pos c, zitF (fun x => x c), zret_ap]
              · rw [if_neg c, zitT c, zret_ap]
            have c9 : 0 ≤ (if k = 1 then 3 * n + 2 else 3 * n + 1) := by split <;> omega
            refine ⟨m', A', B', ?_, f2, yInv_tree h (by omega) (by omega) f4 f5 (yCo_sub f6 (by decide)) (yCo_sub f7 (by decide)) (yCo_sub f6 (by decide)) (yCo_sub f7 (by decide))⟩
            rw [zcl_some e1, zitF (by omega), zcl_some (p_in0 _ _ _ A), zbi_pos c0, zitF (by omega), zcl_some (p_in0 _ _ _ A), zbi_pos c1, zitF (by omega), zcl_some (p_in0 _ _ _ A), zbi_pos c2, zitF (by omega), zcl_some (p_in0 _ _ _ A), zbi_pos c3, zitT (by omega), zcl_some f0, znn_in c9, zcl_some f1]
            rcases f3 with ⟨g1, g2⟩ | ⟨g1, g2, g3⟩
            · rw [zitF (by omega), zret_ap, g2]
            · rw [zitT (by omega), zcl_some (f0' A'), znn_in c9, zgf_ap, zret_ap, g3]
          · exact yOp_same (r := -8) h (by omega) (by rw [zcl_some e1, zitF (by omega), zcl_some (p_in0 _ _ _ A), zbi_pos c0, zitF (by omega), zcl_some (p_in0 _ _ _ A), zbi_pos c1, zitF (by omega), zcl_some (p_in0 _ _ _ A), zbi_pos c2, zitF (by omega), zcl_some (p_in0 _ _ _ A), zbi_neg c3, zitF (fun x => x rfl), zret_ap]) (bad2 c0 (fun x => c3 x.2.2))
        · exact yOp_same (r := -8) h (by omega) (by rw [zcl_some e1, zitF (by omega), zcl_some (p_in0 _ _ _ A), zbi_pos c0, zitF (by omega), zcl_some (p_in0 _ _ _ A), zbi_pos c1, zitF (by omega), zcl_some (p_in0 _ _ _ A), zbi_neg c2, zitT rfl, zret_ap]) (bad2 c0 (fun x => c2 x.2.1))
      · exact yOp_same (r := -8) h (by omega) (by rw [zcl_some e1, zitF (by omega), zcl_some (p_in0 _ _ _ A), zbi_pos c0, zitF (by omega), zcl_some (p_in0 _ _ _ A), zbi_neg c1, zitT rfl, zret_ap]) (bad2 c0 (fun x => c1 x.1))
    · exact yOp_same (r := -8) h (by omega) (by rw [zcl_some e1, zitF (by omega), zcl_some (p_in0 _ _ _ A), zbi_neg c0, zitT rfl, zret_ap]) (by unfold fX67_initial; rw [zcl_some e2, zitF (by omega), zcl_some (p_inT _ _ _ B), zbi_neg c0, zitT rfl, zret_ap])
  · exact yOp_same (r := -8) h (by omega) (by rw [zcl_some e1, zitT (by omega), zret_ap]) (by unfold fX67_initial; rw [zcl_some e2, zitT rfl, zret_ap])
/-- brackets, gates, denials of one node change -/
theorem I_nd_br {A B A' B' : zM} (h : I_nd A B) (ca : yCo [501, 502, 503, 504, 516, 517, 522] A A') (cb : yCo [6800, 6801, 6802, 6803, 6806, 6807, 6808, 6810, 6811] B B')
    (br : ∀ n, yLv A n → B' 6804 0 (3 * n) = A' 509 n 0 ∧ B' 6804 0 (3 * n + 1) = A' 510 n 0 ∧ B' 6804 0 (3 * n + 2) = A' 511 n 0) (bo : ∀ n, yLv A n → 0 ≤ A' 509 n 0 ∧ A' 509 n 0 ≤ A' 510 n 0 ∧ A' 510 n 0 ≤ A' 511 n 0 ∧ A' 511 n 0 ≤ 7)
    (ga : ∀ n, yLv A n → B' 6805 0 n = A' 521 n 0 ∧ 0 ≤ A' 521 n 0 ∧ A' 521 n 0 ≤ (if A 501 n 0 = 2 then 63 else 0)) (de : ∀ n, yLv A n → B' 6809 0 n = A' 512 n 0) : I_nd A' B' := by
  have a501 : A' 501 = A 501 := ca 501 (by decide)
  have a502 : A' 502 = A 502 := ca 502 (by decide)
  have a503 : A' 503 = A 503 := ca 503 (by decide)
  have a504 : A' 504 = A 504 := ca 504 (by decide)
  have a516 : A' 516 = A 516 := ca 516 (by decide)
  have a517 : A' 517 = A 517 := ca 517 (by decide)
  have a522 : A' 522 = A 522 := ca 522 (by decide)
  have b0 : B' 6800 = B 6800 := cb 6800 (by decide)
  have b1 : B' 6801 = B 6801 := cb 6801 (by decide)
  have b2 : B' 6802 = B 6802 := cb 6802 (by decide)
  have b3 : B' 6803 = B 6803 := cb 6803 (by decide)
  have b6 : B' 6806 = B 6806 := cb 6806 (by decide)
  have b7 : B' 6807 = B 6807 := cb 6807 (by decide)
  have b8 : B' 6808 = B 6808 := cb 6808 (by decide)
  have b10 : B' 6810 = B 6810 := cb 6810 (by decide)
  have b11 : B' 6811 = B 6811 := cb 6811 (by decide)
  simp only [I_nd, yLv] at h br bo ga de ⊢
  simp only [a501, a502, a503, a504, a516, a517, a522, b0, b1, b2, b3, b6, b7, b8, b10, b11]
  obtain ⟨f1, f2, f3, f4, -, -, -, f8, f9, f10, -, f12⟩ := h
  exact ⟨f1, f2, f3, f4, br, bo, ga, f8, f9, f10, de, f12⟩
theorem I_TB_nd {N : Int} {A B A' B' : zM} (h : I_TB N A B) (hl : I_nd A' B') (ca : yCo [203, 204, 206, 207, 300, 400, 401, 402, 501, 502, 503, 504, 505, 506, 507, 513, 514, 515, 516, 517, 520, 522, 523, 600, 601, 602, 700, 701, 702] A A') (cb : yCo [6810, 6811, 6812, 6813, 6814, 6815, 6816, 6817, 6818, 6819] B B') : I_TB N A' B' := by
  obtain ⟨acc, rho, K, hT, b1, b2, b3⟩ := h
  refine ⟨acc, rho, K, ⟨hl, I_sb_fr (yCo_sub ca (by decide)) (yCo_sub cb (by decide)) hT.sb, I_ls_fr (yCo_sub ca (by decide)) (yCo_sub cb (by decide)) hT.ls, I_ix_fr (B := B) (B' := B) (yCo_sub ca (by decide)) hT.ix, I_st_fr (yCo_sub ca (by decide)) (yCo_sub cb (by decide)) hT.st, I_bx_fr (yCo_sub ca (by decide)) (yCo_sub cb (by decide)) hT.bx, I_ac_fr (B := B) (B' := B) (yCo_sub ca (by decide)) hT.ac, ?_, hT.kb, ?_, ?_⟩, b1, ?_, ?_⟩
  · rw [ca 206 (by decide), ca 501 (by decide)]; exact hT.mn
  · rw [cb 6811 (by decide)]; exact hT.cb
  · rw [ca 207 (by decide)]; exact hT.vb
  · rw [cb 6811 (by decide)]; exact b2
  · rw [ca 207 (by decide)]; exact b3
theorem r_brackets {N : Int} {A B : zM} (h : I_TB N A B) {n a b c g : Int} (lv : yLv A n) (hb : 0 ≤ a ∧ a ≤ b ∧ b ≤ c ∧ c ≤ 7) (hg : 0 ≤ g ∧ g ≤ (if A 501 n 0 = 2 then 63 else 0)) :
    I_TB N (zup (zup (zup (zup A 509 n 0 a) 510 n 0 b) 511 n 0 c) 521 n 0 g) (zup (zup (zup (zup B 6804 0 (3 * n) a) 6804 0 (3 * n + 1) b) 6804 0 (3 * n + 2) c) 6805 0 n g) := by
  have hnd := h
  obtain ⟨acc, rho, K, hT, b1, b2, b3⟩ := hnd
  refine I_TB_nd h (I_nd_br hT.nd (yCo_up (yCo_up (yCo_up (yCo_up yCo_rf (by decide)) (by decide)) (by decide)) (by decide)) (yCo_up (yCo_up (yCo_up (yCo_up yCo_rf (by decide)) (by decide)) (by decide)) (by decide)) ?_ ?_ ?_ ?_) (yCo_up (yCo_up (yCo_up (yCo_up yCo_rf (by decide)) (by decide)) (by decide)) (by decide)) (yCo_up (yCo_up (yCo_up (yCo_up yCo_rf (by decide)) (by decide)) (by decide)) (by decide))
  · intro m hm
    by_cases e : m = n
    · subst e; simp (disch := omega) only [zrd_hit, zrd_miss, and_self]
    · simp (disch := omega) only [zrd_hit, zrd_miss]; exact hT.nd.br m hm
  · intro m hm
    by_cases e : m = n
    · subst e; simp (disch := omega) only [zrd_hit, zrd_miss]; exact hb
    · simp (disch := omega) only [zrd_hit, zrd_miss]; exact hT.nd.bo m hm
  · intro m hm
    by_cases e : m = n
    · subst e; simp (disch := omega) only [zrd_hit, zrd_miss]; exact ⟨trivial, hg⟩
    · simp (disch := omega) only [zrd_hit, zrd_miss]; exact hT.nd.ga m hm
  · intro m hm
    simp (disch := omega) only [zrd_hit, zrd_miss]; exact hT.nd.de m hm
theorem o_brackets {j N : Int} {A B : zM} (h : yInv j N A B) (n a b c g : Int) : yOp j N A B (fX0_brackets n a b c g) (fX67_brackets n a b c g) := by
  have hh := h.t
  obtain ⟨acc, rho, K, hT, b1, b2, b3⟩ := hh
  unfold fX0_brackets fX67_brackets
  rcases y_getNd hT.nd n with ⟨e1, e2, lv⟩ | ⟨e1, e2⟩
  · have hn := lv.1
    have kk := (hT.nd.k n hn.1 hn.2).1
    have eb := p_brT (n := n) hn a b c g B
    rw [kk] at eb
    by_cases c1 : 0 ≤ a ∧ a ≤ b ∧ b ≤ c ∧ c ≤ 7
    · have st : (zcl (fX4_isSegment n) fun v4 => if v4 = 0 then (fX0_brackets_J44 a b c g n g 0 0) else (fX0_brackets_J44 a b c g n g 0 63)) A = fX0_brackets_J44 a b c g n g 0 (if A 501 n 0 = 2 then 63 else 0) A := by
        rw [zcl_some (p_iss n A)]
        by_cases q : A 501 n 0 = 2
        · rw [zbi_pos q, zitF (by omega), if_pos q]
        · rw [zbi_neg q, zitT rfl, if_neg q]
      by_cases c2 : 0 ≤ g ∧ g ≤ (if A 501 n 0 = 2 then 63 else 0)
      · rw [zbi_pos ⟨c1, c2⟩] at eb
        refine ⟨0, _, _, ?_, ?_, yInv_tree h (by omega) (Int.le_refl _) (r_brackets h.t lv c1 c2) (yTr_co ?_) ?_ ?_ ?_ ?_⟩
        · rw [zcl_some e1, zitF (by omega), zcl_some (p_br0 a b c A), zbi_pos c1, zitF (by omega), st]
          unfold fX0_brackets_J44 fX4_setBrackets
          rw [zcl_some (p_in0 _ _ _ A), zbi_pos c2, zitT (by omega), znn_in hn.1]
          rfl
        · rw [zcl_some e2, zitF (by omega), zcl_some eb, zitT (by omega), zcl_some (p_sbT hn _), zas_in hn, zret_ap]
        all_goals exact yCo_up (yCo_up (yCo_up (yCo_up yCo_rf (by decide)) (by decide)) (by decide)) (by decide)
      · rw [zbi_neg (fun x => c2 x.2)] at eb
        refine yOp_same (r := -8) h (Int.le_refl _) ?_ ?_
        · rw [zcl_some e1, zitF (by omega), zcl_some (p_br0 a b c A), zbi_pos c1, zitF (by omega), st]
          unfold fX0_brackets_J44
          rw [zcl_some (p_in0 _ _ _ A), zbi_neg c2, zitF (fun x => x rfl), zret_ap]
        · rw [zcl_some e2, zitF (by omega), zcl_some eb, zitF (fun x => x rfl), zret_ap]
    · rw [zbi_neg (fun x => c1 x.1)] at eb
      exact yOp_same (r := -8) h (Int.le_refl _) (by rw [zcl_some e1, zitF (by omega), zcl_some (p_br0 a b c A), zbi_neg c1, zitT rfl, zret_ap]) (by rw [zcl_some e2, zitF (by omega), zcl_some eb, zitF (fun x => x rfl), zret_ap])
  · exact yOp_same (r := -8) h (Int.le_refl _) (by rw [zcl_some e1, zitT (by omega), zret_ap]) (by rw [zcl_some e2, zitT rfl, zret_ap])
theorem o_length {j N : Int} {A B : zM} (h : yInv j N A B) (n s : Int) : yOp j N A B (fX0_length n s) (fX67_length n s) := by
  have hh := h.t
  obtain ⟨acc, rho, K, hT, b1, b2, b3⟩ := hh
  unfold fX0_length fX67_length
  rcases y_getSeg hT.nd n with ⟨e1, e2, lv, kd⟩ | ⟨e1, e2⟩
  · have hn := lv.1
    have le := hT.nd.le n lv
    by_cases c : 0 ≤ s ∧ s ≤ 1024
    · obtain ⟨r, A', B', f1, f2, f3, f4, f5⟩ := r_setLen h.t lv kd c
      have frA := fr_fX12_newLength n s A r A' f1
      have frB := fr_fX67_setLength n s B r B' f2
      have iv : yInv (j + 1) N A' B' := yInv_tree h (by omega) (Int.le_refl _) f4 f5 (fun x hx => frA x ((show ∀ c ∈ yNtA, ¬ c ∈ W_fX12_newLength by decide) x hx)) (fun x hx => frB x ((show ∀ c ∈ yNtB, ¬ c ∈ W_fX67_setLength by decide) x hx)) (fun x hx => frA x ((show ∀ c ∈ yPcA, ¬ c ∈ W_fX12_newLength by decide) x hx)) (fun x hx => frB x ((show ∀ c ∈ yPcB, ¬ c ∈ W_fX67_setLength by decide) x hx))
      rcases f3 with r0 | r1
      · refine ⟨-5, A', B', ?_, ?_, iv⟩
        · rw [zcl_some e1, zitF (by omega), zcl_some (p_in0 _ _ _ A), zbi_pos c, zitT (by omega), zgf_ap, zcl_some f1, zitT r0, zret_ap]
        · rw [zcl_some e2, zitF (by omega), zcl_some (p_inT _ _ _ B), zbi_pos c, zitT (by omega), zal_in hn, zcl_some f2, zitT r0, zret_ap]
      · refine ⟨A 522 n 0, A', B', ?_, ?_, iv⟩
        · rw [zcl_some e1, zitF (by omega), zcl_some (p_in0 _ _ _ A), zbi_pos c, zitT (by omega), zgf_ap, zcl_some f1, zitF (by omega), zret_ap]
        · rw [zcl_some e2, zitF (by omega), zcl_some (p_inT _ _ _ B), zbi_pos c, zitT (by omega), zal_in hn, zcl_some f2, zitF (by omega), zret_ap, le.1]
    · exact yOp_same (r := -8) h (Int.le_refl _) (by rw [zcl_some e1, zitF (by omega), zcl_some (p_in0 _ _ _ A), zbi_neg c, zitF (fun x => x rfl), zret_ap]) (by rw [zcl_some e2, zitF (by omega), zcl_some (p_inT _ _ _ B), zbi_neg c, zitF (fun x => x rfl), zret_ap])
  · exact yOp_same (r := -8) h (Int.le_refl _) (by rw [zcl_some e1, zitT (by omega), zret_ap]) (by rw [zcl_some e2, zitT rfl, zret_ap])
theorem o_limit {j N : Int} {A B : zM} (h : yInv j N A B) (n s : Int) : yOp j N A B (fX0_limit n s) (fX67_limit n s) := by
  have hh := h.t
  obtain ⟨acc, rho, K, hT, b1, b2, b3⟩ := hh
  unfold fX0_limit fX67_limit
  rcases y_getDir hT.nd n with ⟨e1, e2, lv, kd⟩ | ⟨e1, e2⟩
  · have hn := lv.1
    have li := hT.nd.li n lv
    by_cases n0 : n = 0
    · exact yOp_same (r := -8) h (Int.le_refl _) (by rw [zcl_some e1, zitF (by omega), zitT n0, zret_ap]) (by rw [zcl_some e2, zitF (by omega), zitT n0, zret_ap])
    · by_cases l0 : A 516 n 0 = 0
      · exact yOp_same (r := -8) h (Int.le_refl _) (by rw [zcl_some e1, zitF (by omega), zitF n0, zgf_ap, zitT l0, zret_ap]) (by rw [zcl_some e2, zitF (by omega), zitF n0, zal_in hn, li.1, zitT l0, zret_ap])
      · by_cases c : 1 ≤ s ∧ s ≤ 255
        · obtain ⟨r, A', B', f1, f2, f3, f4, f5⟩ := r_limit h.t lv kd n0 l0 c
          have frA := fr_fX1_limit n s A r A' f1
          have frB := fr_fX67_setLimit n s B r B' f2
          have iv : yInv (j + 1) N A' B' := yInv_tree h (by omega) (Int.le_refl _) f4 f5 (fun x hx => frA x ((show ∀ c ∈ yNtA, ¬ c ∈ W_fX1_limit by decide) x hx)) (fun x hx => frB x ((show ∀ c ∈ yNtB, ¬ c ∈ W_fX67_setLimit by decide) x hx)) (fun x hx => frA x ((show ∀ c ∈ yPcA, ¬ c ∈ W_fX1_limit by decide) x hx)) (fun x hx => frB x ((show ∀ c ∈ yPcB, ¬ c ∈ W_fX67_setLimit by decide) x hx))
          rcases f3 with r0 | r1
          · refine ⟨-5, A', B', ?_, ?_, iv⟩
            · rw [zcl_some e1, zitF (by omega), zitF n0, zgf_ap, zitF l0, zcl_some (p_in0 _ _ _ A), zbi_pos c, zitT (by omega), zgf_ap, zcl_some f1, zitT r0, zret_ap]
            · rw [zcl_some e2, zitF (by omega), zitF n0, zal_in hn, li.1, zitF l0, zcl_some (p_inT _ _ _ B), zbi_pos c, zitT (by omega), zal_in hn, zcl_some f2, zitT r0, zret_ap]
          · refine ⟨A 516 n 0, A', B', ?_, ?_, iv⟩
            · rw [zcl_some e1, zitF (by omega), zitF n0, zgf_ap, zitF l0, zcl_some (p_in0 _ _ _ A), zbi_pos c, zitT (by omega), zgf_ap, zcl_some f1, zitF (by omega), zret_ap]
            · rw [zcl_some e2, zitF (by omega), zitF n0, zal_in hn, li.1, zitF l0, zcl_some (p_inT _ _ _ B), zbi_pos c, zitT (by omega), zal_in hn, zcl_some f2, zitF (by omega), zret_ap, li.1]
        · exact yOp_same (r := -8) h (Int.le_refl _) (by rw [zcl_some e1, zitF (by omega), zitF n0, zgf_ap, zitF l0, zcl_some (p_in0 _ _ _ A), zbi_neg c, zitF (fun x => x rfl), zret_ap]) (by rw [zcl_some e2, zitF (by omega), zitF n0, zal_in hn, li.1, zitF l0, zcl_some (p_inT _ _ _ B), zbi_neg c, zitF (fun x => x rfl), zret_ap])
  · exact yOp_same (r := -8) h (Int.le_refl _) (by rw [zcl_some e1, zitT (by omega), zret_ap]) (by rw [zcl_some e2, zitT rfl, zret_ap])
