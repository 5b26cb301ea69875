set_option linter.unusedSimpArgs false
set_option linter.unusedVariables false
/-! a segment's length changes, on both sides -/
theorem T_rs_nd {A B A' B' : zM} {n len' a dl : Int} (h : I_nd A B) (n0 : yLv A n) (nk : A 501 n 0 = 2) (a0 : yLv A a) (hl : 0 ≤ len' ∧ len' ≤ 1024)
    (ca : yCo [501, 502, 503, 504, 509, 510, 511, 512, 516, 521] A A') (s522 : ∀ i, A' 522 i 0 = if i = n then len' else A 522 i 0) (s517 : ∀ i, A' 517 i 0 = if i = a then A 517 a 0 + dl else A 517 i 0)
    (cb : yCo [6800, 6801, 6802, 6803, 6804, 6805, 6807, 6809, 6810, 6811] B B') (t06 : ∀ i, B' 6806 0 i = if i = n then len' else B 6806 0 i) (t08 : ∀ i, B' 6808 0 i = if i = a then B 6808 0 a + dl else B 6808 0 i) : I_nd A' B' := by
  have a501 : A' 501 = A 501 := ca 501 (by decide)
  have a502 : A' 502 = A 502 := ca 502 (by decide)
  have a503 : A' 503 = A 503 := ca 503 (by decide)
  have a504 : A' 504 = A 504 := ca 504 (by decide)
  have a509 : A' 509 = A 509 := ca 509 (by decide)
  have a510 : A' 510 = A 510 := ca 510 (by decide)
  have a511 : A' 511 = A 511 := ca 511 (by decide)
  have a512 : A' 512 = A 512 := ca 512 (by decide)
  have a516 : A' 516 = A 516 := ca 516 (by decide)
  have a521 : A' 521 = A 521 := ca 521 (by decide)
  have b0 : B' 6800 = B 6800 := cb 6800 (by decide)
  have b1 : B' 6801 = B 6801 := cb 6801 (by decide)
  have b2 : B' 6802 = B 6802 := cb 6802 (by decide)
  have b3 : B' 6803 = B 6803 := cb 6803 (by decide)
  have b4 : B' 6804 = B 6804 := cb 6804 (by decide)
  have b5 : B' 6805 = B 6805 := cb 6805 (by decide)
  have b7 : B' 6807 = B 6807 := cb 6807 (by decide)
  have b9 : B' 6809 = B 6809 := cb 6809 (by decide)
  have b10 : B' 6810 = B 6810 := cb 6810 (by decide)
  have b11 : B' 6811 = B 6811 := cb 6811 (by decide)
  have hle := h.le
  have hus := h.us
  have usa := h.us a a0
  simp only [I_nd, yLv] at h hle hus ⊢
  simp only [a501, a502, a503, a504, a509, a510, a511, a512, a516, a521, b0, b1, b2, b3, b4, b5, b7, b9, b10, b11]
  obtain ⟨f1, f2, f3, f4, f5, f6, f7, -, f9, -, f11⟩ := h
  refine ⟨f1, f2, f3, f4, f5, f6, f7, ?_, f9, ?_, f11⟩
  · intro m hm
    rw [s522, t06]
    by_cases e : m = n
    · rw [if_pos e, if_pos e, if_pos (by rw [e]; exact nk)]; exact ⟨rfl, hl⟩
    · rw [if_neg e, if_neg e]; exact hle m hm
  · intro m hm
    rw [s517, t08]
    by_cases e : m = a
    · rw [if_pos e, if_pos e, usa]
    · rw [if_neg e, if_neg e]; exact hus m hm
theorem T_rs_ac {A B A' : zM} {acc : Int → Int} {n len' a dl : Int} (hn : I_nd A B) (h : I_ac A acc) (n0 : yLv A n) (nk : A 501 n 0 = 2) (nz : n ≠ 0) (ha : a = acc (A 504 n 0))
    (ca : yCo [501, 504, 516] A A') (s522 : ∀ i, A' 522 i 0 = if i = n then len' else A 522 i 0) (s517 : ∀ i, A' 517 i 0 = if i = a then A 517 a 0 + dl else A 517 i 0) (hd : dl = zrec len' - zrec (A 522 n 0)) (hr : A 517 a 0 + dl ≤ A 516 a 0) : I_ac A' acc := by
  have a501 : A' 501 = A 501 := ca 501 (by decide)
  have a504 : A' 504 = A 504 := ca 504 (by decide)
  have a516 : A' 516 = A 516 := ca 516 (by decide)
  have yc : ∀ m, m ≠ n → yco A' m = yco A m := by
    intro m e
    unfold yco
    rw [a501, a516, s522, if_neg e]
  have ycn : yco A' n = yco A n + dl := by
    unfold yco zco
    rw [a501, s522, if_pos nk, if_pos nk, if_pos nk, if_pos rfl, if_pos nk, hd]
    omega
  refine ⟨?_, ?_, ?_⟩
  · intro d hd hk
    rw [a516, a504]
    exact h.eq d ⟨hd.1, by have := hd.2; rw [a501] at this; exact this⟩ (by rw [a501] at hk; exact hk)
  · intro x hx hk hl
    rw [a501] at hk
    rw [a516] at hl
    have hx : yLv A x := ⟨hx.1, by have := hx.2; rw [a501] at this; exact this⟩
    rw [s517]
    have u := zsm_upd (f := fun m => if ((0 < m ∧ m < 256) ∧ 0 < A 501 m 0) ∧ acc (A 504 m 0) = x then yco A m else 0) (g := fun m => if ((0 < m ∧ m < 256) ∧ 0 < A' 501 m 0) ∧ acc (A' 504 m 0) = x then yco A' m else 0) (i := n) 256 n0.1.1 n0.1.2 (by
      intro m _ _ mn
      show (if ((0 < m ∧ m < 256) ∧ 0 < A' 501 m 0) ∧ acc (A' 504 m 0) = x then yco A' m else 0) = (if ((0 < m ∧ m < 256) ∧ 0 < A 501 m 0) ∧ acc (A 504 m 0) = x then yco A m else 0)
      rw [a501, a504, yc m mn])
    refine Eq.trans ?_ u.symm
    rw [← h.us x hx hk hl]
    show _ = _ + ((if ((0 < n ∧ n < 256) ∧ 0 < A' 501 n 0) ∧ acc (A' 504 n 0) = x then yco A' n else 0) - (if ((0 < n ∧ n < 256) ∧ 0 < A 501 n 0) ∧ acc (A 504 n 0) = x then yco A n else 0))
    rw [a501, a504, ycn, ← ha]
    by_cases e : a = x
    · rw [if_pos e.symm, if_pos ⟨⟨by omega, n0.2⟩, e⟩, if_pos ⟨⟨by omega, n0.2⟩, e⟩, e]; omega
    · rw [if_neg (fun q => e q.symm), if_neg (fun q => e q.2), if_neg (fun q => e q.2)]; omega
  · intro x hx hk hl
    rw [a501] at hk
    rw [a516] at hl
    have hx : yLv A x := ⟨hx.1, by have := hx.2; rw [a501] at this; exact this⟩
    rw [s517, a516]
    by_cases e : x = a
    · rw [if_pos e, e]; exact hr
    · rw [if_neg e]; exact h.le x hx hk hl
theorem r_resize {A B B' : zM} {acc rho : Int → Int} {K : Int} (h : I_T A B acc rho K) {n len' : Int} (n0 : yLv A n) (nk : A 501 n 0 = 2) (hl : 0 ≤ len' ∧ len' ≤ 1024)
    (hr : A 517 (acc (A 504 n 0)) 0 + (zrec len' - zrec (A 522 n 0)) ≤ A 516 (acc (A 504 n 0)) 0)
    (cb : yCo [6800, 6801, 6802, 6803, 6804, 6805, 6807, 6809, 6810, 6811, 6812, 6813, 6814, 6815, 6817, 6818, 6819] B B') (t06 : ∀ i, B' 6806 0 i = if i = n then len' else B 6806 0 i) (t08 : ∀ i, B' 6808 0 i = if i = acc (A 504 n 0) then B 6808 0 (acc (A 504 n 0)) + (zrec len' - zrec (A 522 n 0)) else B 6808 0 i)
    (t16 : ∀ i, ¬ (1024 * n + A 522 n 0 ≤ i ∧ i < 1024 * n + len') → B' 6816 0 i = B 6816 0 i) (t0 : ∀ k, A 522 n 0 ≤ k → k < len' → B' 6816 0 (1024 * n + k) = 0) :
    ∃ A', fX1_resize n len' A = some (0, A') ∧ I_T A' B' acc rho K ∧ (∀ i, A' 522 i 0 = if i = n then len' else A 522 i 0) := by
  have nz : n ≠ 0 := fun e => by rw [e, h.nd.rt.1] at nk; omega
  obtain ⟨p0, pk, -⟩ := h.nd.pr n n0 nz
  obtain ⟨a0, ak, al⟩ := y_ac h.nd h.cb h.ac p0 pk
  have us := y_us0 h a0 ak al
  have le := h.nd.le n n0
  rw [if_pos nk] at le
  obtain ⟨-, -, rm⟩ := y_room h a0 ak al hr
  have fr := h.st.fr
  have zr := zrec_rng hl
  have zL := zrec_rng le.2
  have zz : zrec len' = (len' + 63) / 64 := rfl
  have zz2 : zrec (A 522 n 0) = (A 522 n 0 + 63) / 64 := rfl
  have ac5 := (y_acc5 h p0 pk).1
  -- the end of it, from any memory that keeps the accounts
  have fin : ∀ M : zM, M 516 = A 516 → M 504 = A 504 → M 517 = A 517 → fX1_resize_J109 n len' (zrec (A 522 n 0)) (zrec len') M = some (0, zup (zup M 522 n 0 len') 517 (acc (A 504 n 0)) 0 (A 517 (acc (A 504 n 0)) 0 + (zrec len' - zrec (A 522 n 0)))) := by
    intro M e1 e2 e3
    have c := p_charge (A := zup M 522 n 0 len') (d := A 504 n 0) (a := acc (A 504 n 0)) (c := zrec len' - zrec (A 522 n 0)) (ac5 _ (by
      intro x hx
      constructor
      · simp (disch := omega) only [zrd_hit, zrd_miss, e1]
      · simp (disch := omega) only [zrd_hit, zrd_miss, e2])) a0.1.1 (by simp (disch := omega) only [zrd_hit, zrd_miss, e3]; have := h.nd.li _ a0; rw [if_pos ak] at this; omega)
    have e4 : zup M 522 n 0 len' 517 (acc (A 504 n 0)) 0 = A 517 (acc (A 504 n 0)) 0 := by simp (disch := omega) only [zrd_hit, zrd_miss, e3]
    rw [e4] at c
    unfold fX1_resize_J109
    have e5 : zup M 522 n 0 len' 504 n 0 = A 504 n 0 := by simp (disch := omega) only [zrd_hit, zrd_miss, e2]
    rw [znn_in (by omega), zpf_ap, zgf_ap, e5, zi_of (by omega), zcl_some c, zret_ap]
  have hd0 : fX1_resize n len' A = zlp (fX1_resize_B18 n len' (zrec (A 522 n 0)) (zrec len')) zBIG (zrec len') A := by
    unfold fX1_resize
    rw [znn_in (by omega), zgf_ap, zcl_some (p_rec le.2 A), zcl_some (p_rec hl A)]
  have tm : Int.tmod len' 64 = len' % 64 := Int.tmod_eq_emod_of_nonneg hl.1
  -- what stays, whatever the way
  have all : ∀ A' : zM, yCo [203, 204, 206, 207, 300, 501, 502, 503, 504, 505, 506, 507, 509, 510, 511, 512, 513, 514, 515, 516, 520, 521, 600, 601, 602, 700, 701, 702] A A' → (∀ i, A' 522 i 0 = if i = n then len' else A 522 i 0) → (∀ i, A' 517 i 0 = if i = acc (A 504 n 0) then A 517 (acc (A 504 n 0)) 0 + (zrec len' - zrec (A 522 n 0)) else A 517 i 0) → I_st A' B' → I_T A' B' acc rho K := by
    intro A' ca s522 s517 st
    refine ⟨T_rs_nd h.nd n0 nk a0 hl (yCo_sub ca (by decide)) s522 s517 (yCo_sub cb (by decide)) t06 t08, I_sb_fr (yCo_sub ca (by decide)) (yCo_sub cb (by decide)) h.sb, I_ls_fr (yCo_sub ca (by decide)) (yCo_sub cb (by decide)) h.ls, I_ix_fr (B := B) (B' := B') (yCo_sub ca (by decide)) h.ix, st, I_bx_fr (yCo_sub ca (by decide)) (yCo_sub cb (by decide)) h.bx,
      T_rs_ac h.nd h.ac n0 nk nz rfl (yCo_sub ca (by decide)) s522 s517 rfl hr, ?_, h.kb, ?_, ?_⟩
    · rw [ca 206 (by decide), ca 501 (by decide)]; exact h.mn
    · rw [cb 6811 (by decide)]; exact h.cb
    · rw [ca 207 (by decide)]; exact h.vb
  have m517 : ∀ M : zM, M 517 = A 517 → ∀ i, zup (zup M 522 n 0 len') 517 (acc (A 504 n 0)) 0 (A 517 (acc (A 504 n 0)) 0 + (zrec len' - zrec (A 522 n 0))) 517 i 0 = if i = acc (A 504 n 0) then A 517 (acc (A 504 n 0)) 0 + (zrec len' - zrec (A 522 n 0)) else A 517 i 0 := by
    intro M e i
    by_cases q : i = acc (A 504 n 0)
    · rw [if_pos q, zrd_hit (by omega)]
    · rw [if_neg q, zrd_miss (by omega), zrd_miss (by omega), e]
  have m522 : ∀ M : zM, M 522 = A 522 → ∀ i, zup (zup M 522 n 0 len') 517 (acc (A 504 n 0)) 0 (A 517 (acc (A 504 n 0)) 0 + (zrec len' - zrec (A 522 n 0))) 522 i 0 = if i = n then len' else A 522 i 0 := by
    intro M e i
    by_cases q : i = n
    · rw [if_pos q, zrd_miss (by omega), zrd_hit (by omega)]
    · rw [if_neg q, zrd_miss (by omega), zrd_miss (by omega), e]
  have mco : ∀ M : zM, (∀ f, ¬ f ∈ [400, 401, 402, 523] → M f = A f) → yCo [203, 204, 206, 207, 300, 501, 502, 503, 504, 505, 506, 507, 509, 510, 511, 512, 513, 514, 515, 516, 520, 521, 600, 601, 602, 700, 701, 702] A (zup (zup M 522 n 0 len') 517 (acc (A 504 n 0)) 0 (A 517 (acc (A 504 n 0)) 0 + (zrec len' - zrec (A 522 n 0)))) := by
    intro M e f hf
    have d1 : ∀ f ∈ [203, 204, 206, 207, 300, 501, 502, 503, 504, 505, 506, 507, 509, 510, 511, 512, 513, 514, 515, 516, 520, 521, 600, 601, 602, 700, 701, 702], (¬ f = 517) ∧ (¬ f = 522) ∧ ¬ f ∈ [400, 401, 402, 523] := by decide
    obtain ⟨d1, d2, d3⟩ := d1 f hf
    rw [zup_col d1, zup_col d2]
    exact e f d3
  by_cases hc : zrec len' ≤ zrec (A 522 n 0)
  · -- records go back
    obtain ⟨M, e1, m2, m1, mf⟩ := p_rs1 (A := A) (n := n) (len := len') (had := zrec (A 522 n 0)) (has := zrec len') (by omega) (by omega) (by
      refine ⟨fr.1, ?_⟩
      have ct := h.st.ct
      have v : zrec (A 522 n 0) ≤ zsm (fun n => if A 501 n 0 = 2 then zrec (A 522 n 0) else 0) 256 := by
        have q := zsm_le (f := fun m => if n = m then zrec (A 522 n 0) else 0) (g := fun n => if A 501 n 0 = 2 then zrec (A 522 n 0) else 0) 256 (by
          intro m m0 m1
          show (if n = m then zrec (A 522 n 0) else 0) ≤ if A 501 m 0 = 2 then zrec (A 522 m 0) else 0
          by_cases e : n = m
          · rw [if_pos e, ← e, if_pos nk]; exact Int.le_refl _
          · rw [if_neg e]
            by_cases e2 : A 501 m 0 = 2
            · rw [if_pos e2]
              have := h.nd.le m ⟨⟨m0, m1⟩, by omega⟩
              unfold zrec; omega
            · rw [if_neg e2]; exact Int.le_refl _)
        rw [zsm_one 256 n0.1] at q
        exact q
      omega)
    have mf' : ∀ f, ¬ f ∈ [400, 401, 402, 523] → M f = A f := fun f hf => mf f (fun x => hf (by simp only [List.mem_cons, List.not_mem_nil, or_false] at x ⊢; omega))
    have m523 : M 523 = A 523 := mf 523 (by decide)
    have m400 : M 400 = A 400 := mf 400 (by decide)
    have m522' : M 522 = A 522 := mf 522 (by decide)
    obtain ⟨M2, e2, z4, zf⟩ : ∃ M2, fX1_resize_J44 n len' (zrec (A 522 n 0)) (zrec len') M = fX1_resize_J79 n len' (zrec (A 522 n 0)) (zrec len') M2 ∧ (∀ i, M2 400 0 i = if (len' < A 522 n 0 ∧ 0 < len' % 64) ∧ 64 * A 523 n (zrec len' - 1) + len' % 64 ≤ i ∧ i < 64 * A 523 n (zrec len' - 1) + 64 then 0 else A 400 0 i) ∧ (∀ f, ¬ f = 400 → M2 f = M f) := by
      have q522 : M 522 n 0 = A 522 n 0 := by rw [m522']
      by_cases c1 : A 522 n 0 ≤ len'
      · refine ⟨M, ?_, ?_, fun _ _ => rfl⟩
        · unfold fX1_resize_J44
          rw [znn_in (by omega), zgf_ap, q522, zitT c1]
        · intro i
          rw [if_neg (by omega), m400]
      · by_cases c2 : len' % 64 ≤ 0
        · refine ⟨M, ?_, ?_, fun _ _ => rfl⟩
          · unfold fX1_resize_J44
            rw [znn_in (by omega), zgf_ap, q522, zitF c1, tm, zitT c2]
          · intro i
            rw [if_neg (by omega), m400]
        · have rg := h.st.rg n (zrec len' - 1) ⟨n0, nk, by omega, by omega⟩
          have pc := p_clear (r := A 523 n (zrec len' - 1)) rg (A := M) (fr := len' % 64) (by omega)
          have q523 : M 523 n (zrec len' - 1) = A 523 n (zrec len' - 1) := by rw [m523]
          refine ⟨zfil M 400 0 (64 * A 523 n (zrec len' - 1) + len' % 64) (64 * A 523 n (zrec len' - 1) + 64) (fun _ => 0), ?_, ?_, ?_⟩
          rotate_left 1
          · intro i
            by_cases q : 64 * A 523 n (zrec len' - 1) + len' % 64 ≤ i ∧ i < 64 * A 523 n (zrec len' - 1) + 64
            · rw [if_pos ⟨⟨by omega, by omega⟩, q⟩]
              exact zfil_hit (M := M) (f := 400) (x := 0) (g := fun _ => 0) ⟨rfl, rfl, q⟩
            · rw [if_neg (fun x => q x.2), ← m400]
              exact zfil_miss (M := M) (f := 400) (x := 0) (g := fun _ => 0) (fun x => q x.2.2)
          · intro f hf
            funext x i
            exact zfil_miss (fun q => hf q.1)
          · unfold fX1_resize_J44
            rw [znn_in (by omega), zgf_ap, q522, zitF c1, tm, zitF c2, zi_of (by omega), zal_in (by omega), q523, zcl_some pc]
    -- no records come
    have e3 : fX1_resize_J79 n len' (zrec (A 522 n 0)) (zrec len') M2 = fX1_resize_J109 n len' (zrec (A 522 n 0)) (zrec len') M2 := by
      unfold fX1_resize_J79
      show fX1_resize_B82 n len' (zrec (A 522 n 0)) (zrec len') (zlp (fX1_resize_B82 n len' (zrec (A 522 n 0)) (zrec len')) 1048575) (zrec (A 522 n 0)) M2 = _
      generalize zlp (fX1_resize_B82 n len' (zrec (A 522 n 0)) (zrec len')) 1048575 = g
      unfold fX1_resize_B82
      rw [zitT hc]
    have zf' : ∀ f, ¬ f ∈ [400, 401, 402, 523] → M2 f = A f := fun f hf => (zf f (fun x => hf (by rw [x]; decide))).trans (mf' f hf)
    refine ⟨_, ?_, all _ (mco M2 zf') (m522 M2 (zf' 522 (by decide))) (m517 M2 (zf' 517 (by decide))) ?_, m522 M2 (zf' 522 (by decide))⟩
    · rw [hd0, e1, e2, e3, fin M2 (zf' 516 (by decide)) (zf' 504 (by decide)) (zf' 517 (by decide))]
    · refine T_shrink h.nd h.st n0 nk hl hc ?_ ?_ ?_ ?_ ?_ (m522 M2 (zf' 522 (by decide))) t16 t0
      · rw [zrd_miss (by omega), zrd_miss (by omega), zf 402 (by decide)]; exact m2
      · intro j; rw [zrd_miss (by omega), zrd_miss (by omega), zf 401 (by decide)]; exact m1 j
      · intro i; rw [zrd_miss (by omega), zrd_miss (by omega)]; exact z4 i
      · rw [zup_col (by decide), zup_col (by decide), zf 523 (by decide)]; exact m523
      · rw [zup_col (by decide), zup_col (by decide), zf' 501 (by decide)]
  · -- records come
    have e1 : zlp (fX1_resize_B18 n len' (zrec (A 522 n 0)) (zrec len')) zBIG (zrec len') A = fX1_resize_J79 n len' (zrec (A 522 n 0)) (zrec len') A := by
      show fX1_resize_B18 n len' (zrec (A 522 n 0)) (zrec len') (zlp (fX1_resize_B18 n len' (zrec (A 522 n 0)) (zrec len')) 1048575) (zrec len') A = _
      generalize zlp (fX1_resize_B18 n len' (zrec (A 522 n 0)) (zrec len')) 1048575 = g
      unfold fX1_resize_B18 fX1_resize_J44
      rw [zitT (by omega), znn_in (by omega), zgf_ap, zitT (by omega)]
    obtain ⟨M, e2, m2, m5, m4, m4n, mf⟩ := p_rs2 (A := A) (n := n) (len := len') (had := zrec (A 522 n 0)) (has := zrec len') (by omega) (by omega) ⟨rm, fr.2⟩ h.st.fg
    have mf' : ∀ f, ¬ f ∈ [400, 401, 402, 523] → M f = A f := fun f hf => mf f (fun x => hf (by simp only [List.mem_cons, List.not_mem_nil, or_false] at x ⊢; omega))
    refine ⟨_, ?_, all _ (mco M mf') (m522 M (mf' 522 (by decide))) (m517 M (mf' 517 (by decide))) ?_, m522 M (mf' 522 (by decide))⟩
    · rw [hd0, e1]
      unfold fX1_resize_J79
      rw [e2, fin M (mf' 516 (by decide)) (mf' 504 (by decide)) (mf' 517 (by decide))]
    · refine T_grow h.nd h.st n0 nk hl (by omega) rm ?_ ?_ ?_ ?_ ?_ ?_ (m522 M (mf' 522 (by decide))) t16 t0
      · rw [zrd_miss (by omega), zrd_miss (by omega)]; exact m2
      · rw [zup_col (by decide), zup_col (by decide)]; exact mf 401 (by decide)
      · intro x k; rw [zrd_miss (by omega), zrd_miss (by omega)]; exact m5 x k
      · intro j o j0 j1 o0 o1; rw [zrd_miss (by omega), zrd_miss (by omega)]; exact m4 j o j0 j1 o0 o1
      · intro i hi; rw [zrd_miss (by omega), zrd_miss (by omega)]; exact m4n i hi
      · rw [zup_col (by decide), zup_col (by decide)]; exact mf 501 (by decide)
