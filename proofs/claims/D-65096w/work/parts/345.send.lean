set_option linter.unusedSimpArgs false
set_option linter.unusedVariables false
/-! messages from outside; a process ends -/
theorem y_mB {B : zM} {p : Int} {f f0 : Nat} {i i0 v : Int} (ho : ¬ yOB p f i) (h : yOB p f0 i0) : zup B f0 0 i0 v f 0 i = B f 0 i := zrd_miss (fun z => ho (by rw [z.1, z.2.2]; exact h))
/-- one process changes, nothing else -/
theorem yInv_p {j N N' : Int} {A A' B B' : zM} {p : Int} (hp : yPr p) (h : yInv j N A B) (hN : N ≤ N') (ca : ∀ f, ¬ f ∈ yPcA → (f ∈ yNtA ∨ f ∈ [203, 204, 206, 207, 300, 400, 401, 402, 501, 502, 503, 504, 505, 506, 507, 509, 510, 511, 512, 513, 514, 515, 516, 517, 520, 521, 522, 523, 600, 601, 602, 700, 701, 702]) → A' f = A f) (cb : ∀ f, ¬ f ∈ yPcB → (f ∈ yNtB ∨ f ∈ [6800, 6801, 6802, 6803, 6804, 6805, 6806, 6807, 6808, 6809, 6810, 6811, 6812, 6813, 6814, 6815, 6816, 6817, 6818, 6819]) → B' f = B f)
    (hA : ∀ f x i, f ∈ yPcA → ¬ yOA p f x → A' f x i = A f x i) (hB : ∀ f i, f ∈ yPcB → ¬ yOB p f i → B' f 0 i = B f 0 i)
    (lv : B' 6820 0 p = A' 902 p 0 ∧ (A' 902 p 0 = 0 ∨ A' 902 p 0 = 1)) (trc : ∀ i, 0 ≤ i → i < 256 → B' 6861 0 (256 * p + i) = A' 1100 p i) (rv : ∀ k, 8 ≤ k → k < 32 → 0 ≤ A' 1200 (32 * p + k) 0 ∧ A' 1200 (32 * p + k) 0 ≤ A' 207 0 0) (p1 : A' 902 p 0 = 1 → I_p1 A' B' p) (bd : A' 902 p 0 = 1 → A' 907 p 0 ≤ N' ∧ A' 1101 p 0 ≤ 4 * N') : yInv j N' A' B' := by
  have c1 : yCo yNtA A A' := fun f hf => ca f ((show ∀ f ∈ yNtA, ¬ f ∈ yPcA by decide) f hf) (Or.inl hf)
  have c2 : yCo yNtB B B' := fun f hf => cb f ((show ∀ f ∈ yNtB, ¬ f ∈ yPcB by decide) f hf) (Or.inl hf)
  have c3 : yCo [203, 204, 206, 207, 300, 400, 401, 402, 501, 502, 503, 504, 505, 506, 507, 509, 510, 511, 512, 513, 514, 515, 516, 517, 520, 521, 522, 523, 600, 601, 602, 700, 701, 702] A A' := fun f hf => ca f ((show ∀ f ∈ [203, 204, 206, 207, 300, 400, 401, 402, 501, 502, 503, 504, 505, 506, 507, 509, 510, 511, 512, 513, 514, 515, 516, 517, 520, 521, 522, 523, 600, 601, 602, 700, 701, 702], ¬ f ∈ yPcA by decide) f hf) (Or.inr hf)
  have c4 : yCo [6800, 6801, 6802, 6803, 6804, 6805, 6806, 6807, 6808, 6809, 6810, 6811, 6812, 6813, 6814, 6815, 6816, 6817, 6818, 6819] B B' := fun f hf => cb f ((show ∀ f ∈ [6800, 6801, 6802, 6803, 6804, 6805, 6806, 6807, 6808, 6809, 6810, 6811, 6812, 6813, 6814, 6815, 6816, 6817, 6818, 6819], ¬ f ∈ yPcB by decide) f hf) (Or.inr hf)
  obtain ⟨acc, rho, K, hT, b1, b2, b3⟩ := h.t
  have tr : yTr A A' := yTr_co (yCo_sub c3 (by decide))
  refine ⟨⟨acc, rho, K, ⟨I_nd_fr (yCo_sub c3 (by decide)) (yCo_sub c4 (by decide)) hT.nd, I_sb_fr (yCo_sub c3 (by decide)) (yCo_sub c4 (by decide)) hT.sb, I_ls_fr (yCo_sub c3 (by decide)) (yCo_sub c4 (by decide)) hT.ls, I_ix_fr (B := B) (B' := B) (yCo_sub c3 (by decide)) hT.ix, I_st_fr (yCo_sub c3 (by decide)) (yCo_sub c4 (by decide)) hT.st, I_bx_fr (yCo_sub c3 (by decide)) (yCo_sub c4 (by decide)) hT.bx, I_ac_fr (B := B) (B' := B) (yCo_sub c3 (by decide)) hT.ac, ?_, hT.kb, ?_, ?_⟩, by omega, ?_, ?_⟩, I_p0_one hp h.p hN tr hA hB lv trc rv p1 bd, I_misc_fr (yCo_sub c1 (by decide)) (yCo_sub c2 (by decide)) h.m, I_text_fr (yCo_sub c1 (by decide)) (yCo_sub c2 (by decide)) h.x, I_lst_fr (yCo_sub c1 (by decide)) (yCo_sub c2 (by decide)) h.l, I_tape_fr (Int.le_refl _) (yCo_sub c1 (by decide)) (yCo_sub c2 (by decide)) h.e, I_au_fr hN (yCo_sub c1 (by decide)) (yCo_sub c2 (by decide)) h.u, I_dc_fr (yCo_sub c1 (by decide)) h.d⟩
  · rw [c3 206 (by decide), c3 501 (by decide)]; exact hT.mn
  · rw [c4 6811 (by decide)]; exact hT.cb
  · rw [c3 207 (by decide)]; exact hT.vb
  · rw [c4 6811 (by decide)]; omega
  · rw [c3 207 (by decide)]; omega
theorem yNp {f : Nat} {L : List Nat} (h : ¬ f ∈ L) {g : Nat} (hg : g ∈ L) : ¬ f = g := fun e => h (by rw [e]; exact hg)
theorem o_logout {j N : Int} {A B : zM} (h : yInv j N A B) (p : Int) : yOp j N A B (fX0_logout p) (fX67_logout p) := by
  unfold fX0_logout fX67_logout
  rcases y_getP h.p p with ⟨e1, e2, hp, l⟩ | ⟨e1, e2⟩
  · refine ⟨0, zup A 902 p 0 0, zup B 6820 0 p 0, by rw [zcl_some e1, zitF (by omega), zpf_ap, zret_ap], by rw [zcl_some e2, zitT (by omega), zas_in hp]; rfl, yInv_up (yInv_p hp h (Int.le_refl _) ?_ ?_ ?_ ?_ ?_ ?_ ?_ ?_ ?_) (by omega) (Int.le_refl _)⟩
    · intro f hf _; exact zup_col (yNp hf (by decide))
    · intro f hf _; exact zup_col (yNp hf (by decide))
    · intro f x i hf ho; simp (disch := omega) only [zrd_hit, zrd_miss]
    · intro f i hf ho; exact y_mB ho (by rw [yOB, show ysz 6820 = 1 by decide]; omega)
    · simp (disch := omega) only [zrd_hit, zrd_miss]; simp
    · intro i i0 i1; simp (disch := omega) only [zrd_hit, zrd_miss]; exact h.p.tr p i hp i0 i1
    · intro k k0 k1; simp (disch := omega) only [zrd_hit, zrd_miss]; exact h.p.rv p k hp k0 k1
    · simp (disch := omega) only [zrd_hit, zrd_miss]; intro q; omega
    · simp (disch := omega) only [zrd_hit, zrd_miss]; intro q; omega
  · exact yOp_same (r := -8) h (Int.le_refl _) (by rw [zcl_some e1, zitT (by omega), zret_ap]) (by rw [zcl_some e2, zitF (fun x => x rfl), zret_ap])
/-- a message comes to a process -/
theorem r_recv {j N : Int} {A B : zM} (h : yInv j N A B) {p w : Int} (hp : yPr p) (l : A 902 p 0 = 1) (hw : 0 ≤ w ∧ w ≤ 68719476735) (hm : A 924 p 0 < 8) :
    fX8_receive p w A = some (0, zup (zup A 922 p ((A 923 p 0 + A 924 p 0) % 8) w) 924 p 0 (A 924 p 0 + 1)) ∧ yInv j N (zup (zup A 922 p ((A 923 p 0 + A 924 p 0) % 8) w) 924 p 0 (A 924 p 0 + 1)) (zup (zup B 6847 0 (8 * p + A 924 p 0) w) 6846 0 p (A 924 p 0 + 1)) := by
  have g := h.p.p1 p hp l
  have me := g.me
  constructor
  · have t : Int.tmod (A 923 p 0 + A 924 p 0) 8 = (A 923 p 0 + A 924 p 0) % 8 := Int.tmod_eq_emod_of_nonneg (by omega)
    unfold fX8_receive
    rw [zgf_ap, zgf_ap, zi_of (by omega), t, zas_in (by omega), zgf_ap, zpf_ap, zret_ap, zrd_miss (by omega), zi_of (by omega)]
  · refine yInv_p hp h (Int.le_refl _) ?_ ?_ ?_ ?_ ?_ ?_ ?_ ?_ ?_
    · intro f hf _; rw [zup_col (yNp hf (by decide)), zup_col (yNp hf (by decide))]
    · intro f hf _; rw [zup_col (yNp hf (by decide)), zup_col (yNp hf (by decide))]
    · intro f x i hf ho; simp (disch := omega) only [zrd_hit, zrd_miss]
    · intro f i hf ho; exact (y_mB (f0 := 6846) (i0 := p) ho (by rw [yOB, show ysz 6846 = 1 by decide]; omega)).trans (y_mB (f0 := 6847) (i0 := 8 * p + A 924 p 0) ho (by rw [yOB, show ysz 6847 = 8 by decide]; omega))
    · simp (disch := omega) only [zrd_hit, zrd_miss]; exact h.p.lv p hp
    · intro i i0 i1; simp (disch := omega) only [zrd_hit, zrd_miss]; exact h.p.tr p i hp i0 i1
    · intro k k0 k1; simp (disch := omega) only [zrd_hit, zrd_miss]; exact h.p.rv p k hp k0 k1
    · intro _
      refine ⟨by simp (disch := omega) only [zrd_hit, zrd_miss, yLv]; exact g.st, by simp (disch := omega) only [zrd_hit, zrd_miss, yLv]; exact g.pe, by simp (disch := omega) only [zrd_hit, zrd_miss, yLv]; exact g.pj, by simp (disch := omega) only [zrd_hit, zrd_miss, yLv]; exact g.lb, by simp (disch := omega) only [zrd_hit, zrd_miss, yLv]; exact g.ti, by simp (disch := omega) only [zrd_hit, zrd_miss, yLv, I_rg]; exact g.rg, by simp (disch := omega) only [zrd_hit, zrd_miss, yLv]; exact g.fm, by simp (disch := omega) only [zrd_hit, zrd_miss, yLv, I_fg]; exact g.fr, by simp (disch := omega) only [zrd_hit, zrd_miss, yLv]; exact g.hh, by simp (disch := omega) only [zrd_hit, zrd_miss, yLv]; exact g.hn, by simp (disch := omega) only [zrd_hit, zrd_miss, yLv]; exact g.hp, by simp (disch := omega) only [zrd_hit, zrd_miss, yLv]; exact g.hr, by simp (disch := omega) only [zrd_hit, zrd_miss, yLv]; exact g.sk, by simp (disch := omega) only [zrd_hit, zrd_miss, yLv]; exact g.kn, by simp (disch := omega) only [zrd_hit, zrd_miss, yLv]; exact g.ki, by simp (disch := omega) only [zrd_hit, zrd_miss, yLv]; exact g.lk, by simp (disch := omega) only [zrd_hit, zrd_miss, yLv]; exact g.wk, by simp (disch := omega) only [zrd_hit, zrd_miss, yLv]; exact g.se, ?_, ?_, by simp (disch := omega) only [zrd_hit, zrd_miss, yLv]; exact g.tm, by simp (disch := omega) only [zrd_hit, zrd_miss, yLv]; exact g.ts, ?_⟩
      · simp (disch := omega) only [zrd_hit, zrd_miss, true_and]; omega
      · intro i i0 i1
        have i1 : i < A 924 p 0 + 1 := by revert i1; simp (disch := omega) only [zrd_hit, zrd_miss]; exact id
        simp (disch := omega) only [zrd_hit, zrd_miss]
        by_cases e : i = A 924 p 0
        · subst e; simp (disch := omega) only [zrd_hit, zrd_miss]; exact ⟨trivial, hw⟩
        · have := g.mw i i0 (by omega)
          simp (disch := omega) only [zrd_hit, zrd_miss]
          exact this
      · intro k k0 k1
        have e : ∀ c x y, yof (zup (zup A 922 p ((A 923 p 0 + A 924 p 0) % 8) w) 924 p 0 (A 924 p 0 + 1)) c x y = yof A c x y := fun c x y => yof_fr (fun f i hf => by simp (disch := omega) only [zrd_hit, zrd_miss])
        simp (disch := omega) only [zrd_hit, zrd_miss, e]
        exact g.rr k k0 k1
    · intro _; simp (disch := omega) only [zrd_hit, zrd_miss]; exact h.p.bd p hp l
theorem o_send {j N : Int} {A B : zM} (h : yInv j N A B) (p w : Int) : yOp j N A B (fX0_send p w) (fX67_send p w) := by
  unfold fX0_send fX67_send
  rcases y_getP h.p p with ⟨e1, e2, hp, l⟩ | ⟨e1, e2⟩
  · have g := h.p.p1 p hp l
    have me := g.me
    by_cases hw : 0 ≤ w ∧ w ≤ 68719476735
    · by_cases m8 : A 924 p 0 = 8
      · have ef : fX8_isFull p A = some (1, A) := by unfold fX8_isFull; rw [zgf_ap, zitF (fun x => x m8), zret_ap]
        exact yOp_same (r := -5) h (Int.le_refl _) (by rw [zcl_some e1, zitF (by omega), zcl_some (p_wd0 w A), zbi_pos hw, zitT (by omega), zcl_some ef, zitF (by omega), zret_ap]) (by rw [zcl_some e2, zitF (by omega), zcl_some (p_wdT w B), zbi_pos hw, zitT (by omega), zal_in hp, me.1, zitF (fun x => x m8), zret_ap])
      · have ef : fX8_isFull p A = some (0, A) := by unfold fX8_isFull; rw [zgf_ap, zitT m8, zret_ap]
        obtain ⟨r1, r2⟩ := r_recv h hp l hw (by omega)
        refine ⟨A 924 p 0 + 1, _, _, ?_, ?_, yInv_up r2 (by omega) (Int.le_refl _)⟩
        · rw [zcl_some e1, zitF (by omega), zcl_some (p_wd0 w A), zbi_pos hw, zitT (by omega), zcl_some ef, zitT rfl, zcl_some r1, zgf_ap, zret_ap, zrd_hit (by omega)]
        · rw [zcl_some e2, zitF (by omega), zcl_some (p_wdT w B), zbi_pos hw, zitT (by omega), zal_in hp, me.1, zitT m8, zal_in hp, me.1, zi_of (x := 8 * p) (by omega), zi_of (x := 8 * p + A 924 p 0) (by omega), zas_in (by omega), zal_in hp, zrd_miss (by omega), me.1, zi_of (by omega), zas_in hp, zal_in hp, zret_ap, zrd_hit (by omega)]
    · exact yOp_same (r := -8) h (Int.le_refl _) (by rw [zcl_some e1, zitF (by omega), zcl_some (p_wd0 w A), zbi_neg hw, zitF (fun x => x rfl), zret_ap]) (by rw [zcl_some e2, zitF (by omega), zcl_some (p_wdT w B), zbi_neg hw, zitF (fun x => x rfl), zret_ap])
  · exact yOp_same (r := -8) h (Int.le_refl _) (by rw [zcl_some e1, zitT (by omega), zret_ap]) (by rw [zcl_some e2, zitT rfl, zret_ap])
