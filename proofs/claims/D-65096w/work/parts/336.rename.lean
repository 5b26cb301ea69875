set_option linter.unusedSimpArgs false
set_option linter.unusedVariables false
/-! names and limits change: both sides -/
theorem T_rn_nd {A B A' B' : zM} {n w : Int} (h : I_nd A B) (n0 : yLv A n) (nz : n ≠ 0) (hw : isNm w) (hu : ∀ m, yEn A (A 504 n 0) m → A 502 m 0 = w → m = n)
    (ca : yCo [501, 503, 504, 509, 510, 511, 512, 516, 517, 521, 522] A A') (s502 : ∀ i, A' 502 i 0 = if i = n then w else A 502 i 0)
    (cb : yCo [6800, 6802, 6803, 6804, 6805, 6806, 6807, 6808, 6809, 6810, 6811] B B') (t01 : ∀ i, B' 6801 0 i = if i = n then w else B 6801 0 i) : I_nd A' B' := by
  have a501 : A' 501 = A 501 := ca 501 (by decide)
  have a503 : A' 503 = A 503 := ca 503 (by decide)
  have a504 : A' 504 = A 504 := ca 504 (by decide)
  have a509 : A' 509 = A 509 := ca 509 (by decide)
  have a510 : A' 510 = A 510 := ca 510 (by decide)
  have a511 : A' 511 = A 511 := ca 511 (by decide)
  have a512 : A' 512 = A 512 := ca 512 (by decide)
  have a516 : A' 516 = A 516 := ca 516 (by decide)
  have a517 : A' 517 = A 517 := ca 517 (by decide)
  have a521 : A' 521 = A 521 := ca 521 (by decide)
  have a522 : A' 522 = A 522 := ca 522 (by decide)
  have b0 : B' 6800 = B 6800 := cb 6800 (by decide)
  have b2 : B' 6802 = B 6802 := cb 6802 (by decide)
  have b3 : B' 6803 = B 6803 := cb 6803 (by decide)
  have b4 : B' 6804 = B 6804 := cb 6804 (by decide)
  have b5 : B' 6805 = B 6805 := cb 6805 (by decide)
  have b6 : B' 6806 = B 6806 := cb 6806 (by decide)
  have b7 : B' 6807 = B 6807 := cb 6807 (by decide)
  have b8 : B' 6808 = B 6808 := cb 6808 (by decide)
  have b9 : B' 6809 = B 6809 := cb 6809 (by decide)
  have b10 : B' 6810 = B 6810 := cb 6810 (by decide)
  have b11 : B' 6811 = B 6811 := cb 6811 (by decide)
  have hnm := h.nm
  have hna := h.na
  have hun := h.un
  simp only [I_nd, yLv] at h hnm hna hun ⊢
  simp only [a501, a503, a504, a509, a510, a511, a512, a516, a517, a521, a522, b0, b2, b3, b4, b5, b6, b7, b8, b9, b10, b11]
  obtain ⟨f1, -, f3, f4, f5, f6, f7, f8, f9, f10, f11, f12, f13, f14, f15, f16, -, -⟩ := h
  refine ⟨f1, ?_, f3, f4, f5, f6, f7, f8, f9, f10, f11, f12, f13, f14, f15, f16, ?_, ?_⟩
  · intro m hm
    rw [s502, t01]
    by_cases e : m = n
    · rw [if_pos e, if_pos e]
    · rw [if_neg e, if_neg e]; exact hnm m hm
  · intro m hm m0
    rw [s502]
    by_cases e : m = n
    · rw [if_pos e]; exact hw
    · rw [if_neg e]; exact hna m hm m0
  · intro x y hx hy x0 y0 hp
    rw [s502, s502]
    by_cases e : x = n
    · by_cases e' : y = n
      · intro _; rw [e, e']
      · rw [if_pos e, if_neg e']
        intro q
        rw [e, hu y ⟨by omega, hy.2, by rw [← e]; exact hp.symm⟩ q.symm]
    · by_cases e' : y = n
      · rw [if_neg e, if_pos e']
        intro q
        rw [e', hu x ⟨by omega, hx.2, by rw [← e']; exact hp⟩ q]
      · rw [if_neg e, if_neg e']
        exact hun x y hx hy x0 y0 hp
theorem r_rename {N : Int} {A B : zM} (h : I_TB N A B) (hN : N < 890000) {n w : Int} (n0 : yLv A n) (nz : n ≠ 0) (hw : isNm w) (hu : ∀ m, yEn A (A 504 n 0) m → A 502 m 0 = w → m = n) :
    ∃ A', fX1_rename n w A = some (0, A') ∧ I_TB (N + 1) A' (zup B 6801 0 n w) ∧ yTr A A' := by
  obtain ⟨acc, rho, K, hT, b1, b2, b3⟩ := h
  obtain ⟨p0, pk, -⟩ := hT.nd.pr n n0 nz
  obtain ⟨A1, e1, x1, f1⟩ := p_ixrem hT.ix (by have := hT.kb; omega) n0 nz p0.1.1
  have q504 : A1 504 = A 504 := f1 504 (by decide)
  have e2 := p_ixadd (A := zup A1 502 n 0 w) (n := n) (d := A 504 n 0) (w := w) (by omega) (by simp (disch := omega) only [zrd_hit, zrd_miss, q504]) p0.1.1 (by simp (disch := omega) only [zrd_hit, zrd_miss])
  have e3 : fX1_rename n w A = some (0, zup (zup (zup A1 502 n 0 w) 507 n 0 (zup A1 502 n 0 w 300 0 (ybk (A 504 n 0) w))) 300 0 (ybk (A 504 n 0) w) n) := by
    unfold fX1_rename
    rw [zcl_some e1, znn_in (by omega), zpf_ap, zcl_some e2, zret_ap]
  have fr := fr_fX1_rename n w A 0 _ e3
  generalize hA' : zup (zup (zup A1 502 n 0 w) 507 n 0 (zup A1 502 n 0 w 300 0 (ybk (A 504 n 0) w))) 300 0 (ybk (A 504 n 0) w) n = A' at e3 fr
  have s502 : ∀ i, A' 502 i 0 = if i = n then w else A 502 i 0 := by
    intro i
    rw [← hA']
    by_cases e : i = n
    · rw [if_pos e]; simp (disch := omega) only [zrd_hit, zrd_miss]
    · rw [if_neg e]; simp (disch := omega) only [zrd_hit, zrd_miss, f1 502 (by decide)]
  have ca : ∀ L : List Nat, (∀ c ∈ L, ¬ c ∈ W_fX1_rename) → yCo L A A' := fun L d c hc => fr c (d c hc)
  have cb : yCo [6800, 6802, 6803, 6804, 6805, 6806, 6807, 6808, 6809, 6810, 6811, 6812, 6813, 6814, 6815, 6816, 6817, 6818, 6819] B (zup B 6801 0 n w) := yCo_up yCo_rf (by decide)
  have hkb := hT.kb
  refine ⟨A', e3, ⟨acc, _, K + 1, ⟨T_rn_nd hT.nd n0 nz hw hu (ca _ (by decide)) s502 (yCo_sub cb (by decide)) ?_, I_sb_fr (ca _ (by decide)) (yCo_sub cb (by decide)) hT.sb, I_ls_fr (ca _ (by decide)) (yCo_sub cb (by decide)) hT.ls,
    T_ixadd (A := A1) (n := n) (d := A 504 n 0) (w := w) x1 hkb.1 (by omega) (by rw [fr 501 (by decide)]; exact n0.2) ?_ ?_ ?_ (by rw [s502, if_pos rfl]) (by rw [fr 504 (by decide)]) ?_ ?_,
    I_st_fr (ca _ (by decide)) (yCo_sub cb (by decide)) hT.st, I_bx_fr (ca _ (by decide)) (yCo_sub cb (by decide)) hT.bx, I_ac_fr (B := B) (B' := B) (ca _ (by decide)) hT.ac, ?_, by omega, ?_, ?_⟩, by omega, ?_, ?_⟩, yTr_co (ca _ (by decide))⟩
  · intro i
    by_cases e : i = n
    · rw [if_pos e]; simp (disch := omega) only [zrd_hit, zrd_miss]
    · rw [if_neg e]; simp (disch := omega) only [zrd_hit, zrd_miss]
  · intro m _; rw [fr 501 (by decide), f1 501 (by decide)]
  · intro m e; rw [s502, if_neg e, f1 502 (by decide)]
  · intro m _; rw [fr 504 (by decide), f1 504 (by decide)]
  · intro i
    rw [← hA']
    by_cases e : i = n
    · rw [if_pos e]; simp (disch := omega) only [zrd_hit, zrd_miss]
    · rw [if_neg e]; simp (disch := omega) only [zrd_hit, zrd_miss]
  · intro i
    rw [← hA']
    by_cases e : i = ybk (A 504 n 0) w
    · rw [if_pos e]; simp (disch := omega) only [zrd_hit, zrd_miss]
    · rw [if_neg e]; simp (disch := omega) only [zrd_hit, zrd_miss]
  · rw [fr 206 (by decide), fr 501 (by decide)]; exact hT.mn
  · simp (disch := omega) only [zrd_hit, zrd_miss]; exact hT.cb
  · rw [fr 207 (by decide)]; exact hT.vb
  · simp (disch := omega) only [zrd_hit, zrd_miss]; omega
  · rw [fr 207 (by decide)]; omega
theorem y_acCame {A B : zM} {acc : Int → Int} (h : I_nd A B) (ha : I_ac A acc) : ∀ (k : Nat) (d : Int), yLv A d → A 501 d 0 = 1 → B 6810 0 d ≤ k → B 6810 0 (acc d) ≤ B 6810 0 d := by
  intro k
  induction k with
  | zero =>
    intro d hd hk hc
    rw [ha.eq d hd hk]
    by_cases z : A 516 d 0 = 0
    · have d0 : d ≠ 0 := fun e => by rw [e, h.rt.2.2.1] at z; omega
      obtain ⟨p0, pk, pc⟩ := h.pr d hd d0
      have := h.co _ p0
      omega
    · rw [if_neg z]; exact Int.le_refl _
  | succ k ih =>
    intro d hd hk hc
    rw [ha.eq d hd hk]
    by_cases z : A 516 d 0 = 0
    · have d0 : d ≠ 0 := fun e => by rw [e, h.rt.2.2.1] at z; omega
      obtain ⟨p0, pk, pc⟩ := h.pr d hd d0
      rw [if_pos z]
      have := ih _ p0 pk (by omega)
      omega
    · rw [if_neg z]; exact Int.le_refl _
theorem y_acNe {A B : zM} {acc rho : Int → Int} {K : Int} (h : I_T A B acc rho K) {n : Int} (n0 : yLv A n) (nz : n ≠ 0) : acc (A 504 n 0) ≠ n := by
  obtain ⟨p0, pk, pc⟩ := h.nd.pr n n0 nz
  have := y_acCame h.nd h.ac 900000 _ p0 pk (by have := h.nd.co _ p0; have := h.cb; omega)
  intro e
  rw [e] at this
  omega
theorem r_limit {N : Int} {A B : zM} (h : I_TB N A B) {n s : Int} (n0 : yLv A n) (nk : A 501 n 0 = 1) (nz : n ≠ 0) (nl : A 516 n 0 ≠ 0) (hs : 1 ≤ s ∧ s ≤ 255) :
    ∃ r A' B', fX1_limit n s A = some (r, A') ∧ fX67_setLimit n s B = some (r, B') ∧ (r = 0 ∨ r = 1) ∧ I_TB N A' B' ∧ yTr A A' := by
  have hnd := h
  obtain ⟨acc, rho, K, hT, b1, b2, b3⟩ := hnd
  obtain ⟨p0, pk, -⟩ := hT.nd.pr n n0 nz
  obtain ⟨a0, ak, al⟩ := y_ac hT.nd hT.cb hT.ac p0 pk
  have us := y_us0 hT a0 ak al
  have usT := hT.nd.us _ a0
  have li := hT.nd.li n n0
  rw [if_pos nk] at li
  have lia := hT.nd.li _ a0
  rw [if_pos ak] at lia
  have pa := hT.nd.pa n n0
  have un := hT.nd.us n n0
  have han := y_acNe hT n0 nz
  obtain ⟨e4, e5⟩ := p_bears hT p0 pk (c := s - A 516 n 0) (by omega)
  unfold fX1_limit fX67_setLimit
  rw [znn_in (by omega), zgf_ap, zal_in n0.1, un]
  by_cases c : s < A 517 n 0
  · rw [zitT c, zitT c, zret_ap, zret_ap]
    exact ⟨0, A, B, rfl, rfl, Or.inl rfl, h, yTr_rf⟩
  · rw [zitF c, zitF c, zgf_ap, zgf_ap, zi_of (by omega), zcl_some e4, zal_in n0.1, zal_in n0.1, pa, li.1, zi_of (by omega), zcl_some e5]
    by_cases q : A 517 (acc (A 504 n 0)) 0 + (s - A 516 n 0) ≤ A 516 (acc (A 504 n 0)) 0
    · obtain ⟨p1, p2, -⟩ := p_acc hT.nd (by have := hT.cb; omega) hT.ac.eq p0 pk
      have ch := p_charge (A := A) (c := s - A 516 n 0) p1 a0.1.1 (by omega)
      rw [zbi_pos q, zitT (by omega), zitT (by omega), zgf_ap, zgf_ap, zi_of (by omega), zcl_some ch, zpf_ap, zret_ap, zal_in n0.1, pa, zcl_some p2, zal_in a0.1, zal_in n0.1, usT, li.1, zi_of (x := s - A 516 n 0) (by omega), zi_of (by omega), zas_in a0.1, zas_in n0.1, zret_ap]
      generalize hA' : zup (zup A 517 (acc (A 504 n 0)) 0 (A 517 (acc (A 504 n 0)) 0 + (s - A 516 n 0))) 516 n 0 s = A'
      generalize hB' : zup (zup B 6808 0 (acc (A 504 n 0)) (A 517 (acc (A 504 n 0)) 0 + (s - A 516 n 0))) 6807 0 n s = B'
      have ca : ∀ L : List Nat, (∀ c ∈ L, ¬ c = 516 ∧ ¬ c = 517) → yCo L A A' := fun L d c hc => by rw [← hA', zup_col (d c hc).1, zup_col (d c hc).2]
      have cb : ∀ L : List Nat, (∀ c ∈ L, ¬ c = 6807 ∧ ¬ c = 6808) → yCo L B B' := fun L d c hc => by rw [← hB', zup_col (d c hc).1, zup_col (d c hc).2]
      have s517 : ∀ i, A' 517 i 0 = if i = acc (A 504 n 0) then A 517 (acc (A 504 n 0)) 0 + (s - A 516 n 0) else A 517 i 0 := by
        intro i
        rw [← hA']
        by_cases e : i = acc (A 504 n 0)
        · rw [if_pos e]; simp (disch := omega) only [zrd_hit, zrd_miss]
        · rw [if_neg e]; simp (disch := omega) only [zrd_hit, zrd_miss]
      have s516 : ∀ i, A' 516 i 0 = if i = n then s else A 516 i 0 := by
        intro i
        rw [← hA']
        by_cases e : i = n
        · rw [if_pos e]; simp (disch := omega) only [zrd_hit, zrd_miss]
        · rw [if_neg e]; simp (disch := omega) only [zrd_hit, zrd_miss]
      have t08 : ∀ i, B' 6808 0 i = if i = acc (A 504 n 0) then A 517 (acc (A 504 n 0)) 0 + (s - A 516 n 0) else B 6808 0 i := by
        intro i
        rw [← hB']
        by_cases e : i = acc (A 504 n 0)
        · rw [if_pos e]; simp (disch := omega) only [zrd_hit, zrd_miss]
        · rw [if_neg e]; simp (disch := omega) only [zrd_hit, zrd_miss]
      have t07 : ∀ i, B' 6807 0 i = if i = n then s else B 6807 0 i := by
        intro i
        rw [← hB']
        by_cases e : i = n
        · rw [if_pos e]; simp (disch := omega) only [zrd_hit, zrd_miss]
        · rw [if_neg e]; simp (disch := omega) only [zrd_hit, zrd_miss]
      have a501 : A' 501 = A 501 := ca [501] (by decide) 501 (by decide)
      have a504 : A' 504 = A 504 := ca [504] (by decide) 504 (by decide)
      have a522 : A' 522 = A 522 := ca [522] (by decide) 522 (by decide)
      have nd' : I_nd A' B' := by
        have h0 := hT.nd
        have hli := hT.nd.li
        have hus := hT.nd.us
        have hrt := hT.nd.rt
        have a502 : A' 502 = A 502 := ca [502] (by decide) 502 (by decide)
        have a503 : A' 503 = A 503 := ca [503] (by decide) 503 (by decide)
        have a509 : A' 509 = A 509 := ca [509] (by decide) 509 (by decide)
        have a510 : A' 510 = A 510 := ca [510] (by decide) 510 (by decide)
        have a511 : A' 511 = A 511 := ca [511] (by decide) 511 (by decide)
        have a512 : A' 512 = A 512 := ca [512] (by decide) 512 (by decide)
        have a521 : A' 521 = A 521 := ca [521] (by decide) 521 (by decide)
        have b0 : B' 6800 = B 6800 := cb [6800] (by decide) 6800 (by decide)
        have b1 : B' 6801 = B 6801 := cb [6801] (by decide) 6801 (by decide)
        have b2 : B' 6802 = B 6802 := cb [6802] (by decide) 6802 (by decide)
        have b3 : B' 6803 = B 6803 := cb [6803] (by decide) 6803 (by decide)
        have b4 : B' 6804 = B 6804 := cb [6804] (by decide) 6804 (by decide)
        have b5 : B' 6805 = B 6805 := cb [6805] (by decide) 6805 (by decide)
        have b6 : B' 6806 = B 6806 := cb [6806] (by decide) 6806 (by decide)
        have b9 : B' 6809 = B 6809 := cb [6809] (by decide) 6809 (by decide)
        have b10 : B' 6810 = B 6810 := cb [6810] (by decide) 6810 (by decide)
        have b11 : B' 6811 = B 6811 := cb [6811] (by decide) 6811 (by decide)
        simp only [I_nd, yLv] at h0 hli hus ⊢
        simp only [a501, a502, a503, a504, a509, a510, a511, a512, a521, a522, b0, b1, b2, b3, b4, b5, b6, b9, b10, b11]
        obtain ⟨f1, f2, f3, f4, f5, f6, f7, f8, -, -, f11, -, f13⟩ := h0
        refine ⟨f1, f2, f3, f4, f5, f6, f7, f8, ?_, ?_, f11, ?_, f13⟩
        · intro m hm
          rw [s516, t07]
          by_cases e : m = n
          · rw [if_pos e, if_pos e, e, if_pos nk]; omega
          · rw [if_neg e, if_neg e]; exact hli m hm
        · intro m hm
          rw [s517, t08]
          by_cases e : m = acc (A 504 n 0)
          · rw [if_pos e, if_pos e]
          · rw [if_neg e, if_neg e]; exact hus m hm
        · rw [s516, if_neg (fun e => nz e.symm)]; exact hrt
      have ac' : I_ac A' acc := by
        have yc : ∀ m, m ≠ n → yco A' m = yco A m := by
          intro m e
          unfold yco
          rw [a501, a522, s516, if_neg e]
        have ycn : yco A' n = yco A n + (s - A 516 n 0) := by
          have sn : A' 516 n 0 = s := by rw [s516, if_pos rfl]
          unfold yco zco
          rw [a501, sn]
          simp only [if_neg (show ¬ A 501 n 0 = 2 by omega), if_neg (show ¬ A 501 n 0 = 3 by omega)]
          omega
        have lv : ∀ x, yLv A' x → yLv A x := fun x hx => ⟨hx.1, by have := hx.2; rw [a501] at this; exact this⟩
        refine ⟨?_, ?_, ?_⟩
        · intro d hd hk
          rw [a501] at hk
          rw [s516, a504, hT.ac.eq d (lv d hd) hk]
          by_cases e : d = n
          · rw [if_pos e, if_neg (by rw [e]; exact nl), if_neg (by omega)]
          · rw [if_neg e]
        · intro x hx hk hl
          have hx := lv x hx
          rw [a501] at hk
          have hl : 0 < A 516 x 0 := by
            rw [s516] at hl
            by_cases e : x = n
            · rw [e]; omega
            · rw [if_neg e] at hl; exact hl
          rw [s517]
          have u := zsm_upd (f := fun m => if ((0 < m ∧ m < 256) ∧ 0 < A 501 m 0) ∧ acc (A 504 m 0) = x then yco A m else 0) (g := fun m => if ((0 < m ∧ m < 256) ∧ 0 < A' 501 m 0) ∧ acc (A' 504 m 0) = x then yco A' m else 0) (i := n) 256 n0.1.1 n0.1.2 (by
            intro m _ _ mn
            show (if ((0 < m ∧ m < 256) ∧ 0 < A' 501 m 0) ∧ acc (A' 504 m 0) = x then yco A' m else 0) = (if ((0 < m ∧ m < 256) ∧ 0 < A 501 m 0) ∧ acc (A 504 m 0) = x then yco A m else 0)
            rw [a501, a504, yc m mn])
          refine Eq.trans ?_ u.symm
          rw [← hT.ac.us x hx hk hl]
          show _ = _ + ((if ((0 < n ∧ n < 256) ∧ 0 < A' 501 n 0) ∧ acc (A' 504 n 0) = x then yco A' n else 0) - (if ((0 < n ∧ n < 256) ∧ 0 < A 501 n 0) ∧ acc (A 504 n 0) = x then yco A n else 0))
          rw [a501, a504, ycn]
          by_cases e : acc (A 504 n 0) = x
          · rw [if_pos e.symm, if_pos ⟨⟨by omega, n0.2⟩, e⟩, if_pos ⟨⟨by omega, n0.2⟩, e⟩, e]; omega
          · rw [if_neg (fun q => e q.symm), if_neg (fun q => e q.2), if_neg (fun q => e q.2)]; omega
        · intro x hx hk hl
          have hx := lv x hx
          rw [a501] at hk
          rw [s517, s516]
          by_cases e : x = n
          · rw [if_pos e, if_neg (by rw [e]; exact fun q => han q.symm), e]; omega
          · rw [s516, if_neg e] at hl
            rw [if_neg e]
            by_cases e2 : x = acc (A 504 n 0)
            · rw [if_pos e2, e2]; exact q
            · rw [if_neg e2]; exact hT.ac.le x hx hk hl
      refine ⟨1, A', B', rfl, rfl, Or.inr rfl, ⟨acc, rho, K, ⟨nd', I_sb_fr (ca _ (by decide)) (cb _ (by decide)) hT.sb, I_ls_fr (ca _ (by decide)) (cb _ (by decide)) hT.ls, I_ix_fr (B := B) (B' := B) (ca _ (by decide)) hT.ix, I_st_fr (ca _ (by decide)) (cb _ (by decide)) hT.st, I_bx_fr (ca _ (by decide)) (cb _ (by decide)) hT.bx, ac', ?_, hT.kb, ?_, ?_⟩, b1, ?_, ?_⟩, yTr_co (ca _ (by decide))⟩
      · rw [ca [206] (by decide) 206 (by decide), a501]; exact hT.mn
      · rw [cb [6811] (by decide) 6811 (by decide)]; exact hT.cb
      · rw [ca [207] (by decide) 207 (by decide)]; exact hT.vb
      · rw [cb [6811] (by decide) 6811 (by decide)]; exact b2
      · rw [ca [207] (by decide) 207 (by decide)]; exact b3
    · rw [zbi_neg q, zitF (fun x => x rfl), zitF (fun x => x rfl), zret_ap, zret_ap]
      exact ⟨0, A, B, rfl, rfl, Or.inl rfl, h, yTr_rf⟩
