set_option linter.unusedSimpArgs false
set_option linter.unusedVariables false
/-! more operations of the tree from outside -/
theorem p_ceT {A B : zM} (h : I_nd A B) (d : Int) : fX67_countEntries d B = some (zsm (fun m => if yEn A d m then 1 else 0) 256, B) := by
  have lp : ∀ (r : Nat) (i : Nat) (fuel : Nat), 1 ≤ i → i + r = 256 → r < fuel → zlp (fX67_countEntries_B4 d) fuel (zsm (fun m => if yEn A d m then 1 else 0) i, (i : Int)) B = some (zsm (fun m => if yEn A d m then 1 else 0) 256, B) := by
    intro r
    induction r with
    | zero =>
      intro i fuel hi hr hf
      obtain ⟨f, rfl⟩ : ∃ f, fuel = f + 1 := ⟨fuel - 1, by omega⟩
      show fX67_countEntries_B4 d (zlp (fX67_countEntries_B4 d) f) _ B = _
      generalize zlp (fX67_countEntries_B4 d) f = g
      have e : i = 256 := by omega
      subst e
      unfold fX67_countEntries_B4
      show (if (256 : Int) ≤ ((256 : Nat) : Int) then zret _ else _ : zX) B = _
      rw [zitT (by omega), zret_ap]
    | succ r ih =>
      intro i fuel hi hr hf
      obtain ⟨f, rfl⟩ : ∃ f, fuel = f + 1 := ⟨fuel - 1, by omega⟩
      have ihn := ih (i + 1) f (by omega) (by omega) (by omega)
      show fX67_countEntries_B4 d (zlp (fX67_countEntries_B4 d) f) _ B = _
      rw [← ihn]
      generalize zlp (fX67_countEntries_B4 d) f = g
      have hk := h.k i (by omega) (by omega)
      have z01 := zsm_01 (f := fun m => if yEn A d m then 1 else 0) i (fun m _ _ => by show 0 ≤ (if yEn A d m then (1 : Int) else 0) ∧ (if yEn A d m then (1 : Int) else 0) ≤ 1; split <;> omega)
      have st : zsm (fun m => if yEn A d m then 1 else 0) (i + 1) = zsm (fun m => if yEn A d m then 1 else 0) i + (if yEn A d i then 1 else 0) := rfl
      have ci : ((i + 1 : Nat) : Int) = (i : Int) + 1 := by omega
      unfold fX67_countEntries_B4 fX67_countEntries_J36 fX67_countEntries_J37
      show (if (256 : Int) ≤ (i : Int) then zret _ else _ : zX) B = _
      rw [zitF (by omega), zal_in (by omega), st, ci]
      by_cases k0 : B 6800 0 i ≤ 0
      · rw [zitT k0, zlt_ap, zi_of (by omega), if_neg (by omega), Int.add_zero]
      · have lv : yLv A i := ⟨by omega, by omega⟩
        rw [zitF k0, zal_in (by omega), h.pa i lv]
        by_cases e : A 504 i 0 = d
        · rw [zitF (fun x => x e), zlt_ap, zi_of (by omega), zi_of (by omega), if_pos ⟨by omega, lv.2, e⟩]
        · rw [zitT e, zlt_ap, zi_of (by omega), if_neg (fun x => e x.2.2), Int.add_zero]
  have := lp 255 1 zBIG (by omega) (by omega) (by show 255 < 1048576; omega)
  have z : zsm (fun m => if yEn A d m then 1 else 0) 1 = 0 := by
    show (0 : Int) + (if yEn A d ((0 : Nat) : Int) then 1 else 0) = 0
    rw [if_neg (fun x => by have := x.1.1; omega)]
    rfl
  rw [z] at this
  exact this
theorem o_about {j N : Int} {A B : zM} (h : yInv j N A B) (n w : Int) : yOp j N A B (fX0_about n w) (fX67_about n w) := by
  obtain ⟨acc, rho, K, hT, -⟩ := h.t
  unfold fX0_about fX67_about
  rcases y_getNd hT.nd n with ⟨e1, e2, lv⟩ | ⟨e1, e2⟩
  · have hn := lv.1
    have nd := hT.nd
    by_cases c : w = 0
    · subst c
      exact yOp_same h (Int.le_refl _) (by rw [zcl_some e1, zitF (by omega), zitT rfl, zgf_ap, zret_ap]) (by rw [zcl_some e2, zitT (by omega), zitT rfl, zal_in hn, zret_ap, (nd.k n hn.1 hn.2).1])
    by_cases c : w = 1
    · subst c
      by_cases z : A 504 n 0 < 0
      · have : n = 0 := Classical.byContradiction (fun q => by have := (nd.pr n lv q).1; omega)
        exact yOp_same (r := -1) h (Int.le_refl _) (by rw [zcl_some e1, zitF (by omega), zitF (by omega), zitT rfl, zgf_ap, zitT z, zret_ap]) (by rw [zcl_some e2, zitT (by omega), zitF (by omega), zitT rfl, zal_in hn, zret_ap, nd.pa n lv, this, nd.rt.2.1])
      · exact yOp_same (r := A 504 n 0) h (Int.le_refl _) (by rw [zcl_some e1, zitF (by omega), zitF (by omega), zitT rfl, zgf_ap, zitF z, zgf_ap, znn_in (by omega), zret_ap]) (by rw [zcl_some e2, zitT (by omega), zitF (by omega), zitT rfl, zal_in hn, zret_ap, nd.pa n lv])
    by_cases c : w = 2
    · subst c
      exact yOp_same h (Int.le_refl _) (by rw [zcl_some e1, zitF (by omega), zitF (by omega), zitF (by omega), zitT rfl, zgf_ap, zret_ap]) (by rw [zcl_some e2, zitT (by omega), zitF (by omega), zitF (by omega), zitT rfl, zal_in hn, zret_ap, (nd.lb n lv).1])
    by_cases c : w = 3
    · subst c
      exact yOp_same h (Int.le_refl _) (by rw [zcl_some e1, zitF (by omega), zitF (by omega), zitF (by omega), zitF (by omega), zitT rfl, zgf_ap, zret_ap]) (by rw [zcl_some e2, zitT (by omega), zitF (by omega), zitF (by omega), zitF (by omega), zitT rfl, zi_of (x := 3 * n) (by omega), zi_of (x := 3 * n + 3) (by omega), zi_of (by omega), zal_in (by omega), zret_ap, show 3 * n + 3 - 3 = 3 * n by omega, (nd.br n lv).1])
    by_cases c : w = 4
    · subst c
      exact yOp_same h (Int.le_refl _) (by rw [zcl_some e1, zitF (by omega), zitF (by omega), zitF (by omega), zitF (by omega), zitF (by omega), zitT rfl, zgf_ap, zret_ap]) (by rw [zcl_some e2, zitT (by omega), zitF (by omega), zitF (by omega), zitF (by omega), zitF (by omega), zitT rfl, zi_of (x := 3 * n) (by omega), zi_of (x := 3 * n + 4) (by omega), zi_of (by omega), zal_in (by omega), zret_ap, show 3 * n + 4 - 3 = 3 * n + 1 by omega, (nd.br n lv).2.1])
    by_cases c : w = 5
    · subst c
      exact yOp_same h (Int.le_refl _) (by rw [zcl_some e1, zitF (by omega), zitF (by omega), zitF (by omega), zitF (by omega), zitF (by omega), zitF (by omega), zitT rfl, zgf_ap, zret_ap]) (by rw [zcl_some e2, zitT (by omega), zitF (by omega), zitF (by omega), zitF (by omega), zitF (by omega), zitF (by omega), zitT rfl, zi_of (x := 3 * n) (by omega), zi_of (x := 3 * n + 5) (by omega), zi_of (by omega), zal_in (by omega), zret_ap, show 3 * n + 5 - 3 = 3 * n + 2 by omega, (nd.br n lv).2.2])
    by_cases c : w = 6
    · subst c
      exact yOp_same h (Int.le_refl _) (by rw [zcl_some e1, zitF (by omega), zitF (by omega), zitF (by omega), zitF (by omega), zitF (by omega), zitF (by omega), zitF (by omega), zitT rfl, zgf_ap, zret_ap]) (by rw [zcl_some e2, zitT (by omega), zitF (by omega), zitF (by omega), zitF (by omega), zitF (by omega), zitF (by omega), zitF (by omega), zitT rfl, zal_in hn, zret_ap, (nd.ga n lv).1])
    by_cases c : w = 7
    · subst c
      exact yOp_same h (Int.le_refl _) (by rw [zcl_some e1, zitF (by omega), zitF (by omega), zitF (by omega), zitF (by omega), zitF (by omega), zitF (by omega), zitF (by omega), zitF (by omega), zitT rfl, zgf_ap, zret_ap]) (by rw [zcl_some e2, zitT (by omega), zitF (by omega), zitF (by omega), zitF (by omega), zitF (by omega), zitF (by omega), zitF (by omega), zitF (by omega), zitT rfl, zal_in hn, zret_ap, (nd.le n lv).1])
    by_cases c : w = 8
    · subst c
      exact yOp_same h (Int.le_refl _) (by rw [zcl_some e1, zitF (by omega), zitF (by omega), zitF (by omega), zitF (by omega), zitF (by omega), zitF (by omega), zitF (by omega), zitF (by omega), zitF (by omega), zitT rfl, zgf_ap, zret_ap]) (by rw [zcl_some e2, zitT (by omega), zitF (by omega), zitF (by omega), zitF (by omega), zitF (by omega), zitF (by omega), zitF (by omega), zitF (by omega), zitF (by omega), zitT rfl, zal_in hn, zret_ap, (nd.li n lv).1])
    by_cases c : w = 9
    · subst c
      exact yOp_same h (Int.le_refl _) (by rw [zcl_some e1, zitF (by omega), zitF (by omega), zitF (by omega), zitF (by omega), zitF (by omega), zitF (by omega), zitF (by omega), zitF (by omega), zitF (by omega), zitF (by omega), zitT rfl, zgf_ap, zret_ap]) (by rw [zcl_some e2, zitT (by omega), zitF (by omega), zitF (by omega), zitF (by omega), zitF (by omega), zitF (by omega), zitF (by omega), zitF (by omega), zitF (by omega), zitF (by omega), zitT rfl, zal_in hn, zret_ap, nd.us n lv])
    by_cases c : w = 10
    · subst c
      exact yOp_same h (Int.le_refl _) (by rw [zcl_some e1, zitF (by omega), zitF (by omega), zitF (by omega), zitF (by omega), zitF (by omega), zitF (by omega), zitF (by omega), zitF (by omega), zitF (by omega), zitF (by omega), zitF (by omega), zitT rfl, zgf_ap, zret_ap]) (by rw [zcl_some e2, zitT (by omega), zitF (by omega), zitF (by omega), zitF (by omega), zitF (by omega), zitF (by omega), zitF (by omega), zitF (by omega), zitF (by omega), zitF (by omega), zitF (by omega), zitT rfl, zcl_some (p_ceT nd n), zret_ap, hT.sb.en n lv])
    by_cases c : w = 11
    · subst c
      exact yOp_same h (Int.le_refl _) (by rw [zcl_some e1, zitF (by omega), zitF (by omega), zitF (by omega), zitF (by omega), zitF (by omega), zitF (by omega), zitF (by omega), zitF (by omega), zitF (by omega), zitF (by omega), zitF (by omega), zitF (by omega), zitT rfl, zgf_ap, zret_ap]) (by rw [zcl_some e2, zitT (by omega), zitF (by omega), zitF (by omega), zitF (by omega), zitF (by omega), zitF (by omega), zitF (by omega), zitF (by omega), zitF (by omega), zitF (by omega), zitF (by omega), zitF (by omega), zitT rfl, zal_in hn, zret_ap, (hT.ls.ac n lv).n])
    by_cases c : w = 12
    · subst c
      exact yOp_same h (Int.le_refl _) (by rw [zcl_some e1, zitF (by omega), zitF (by omega), zitF (by omega), zitF (by omega), zitF (by omega), zitF (by omega), zitF (by omega), zitF (by omega), zitF (by omega), zitF (by omega), zitF (by omega), zitF (by omega), zitF (by omega), zitT rfl, zgf_ap, zret_ap]) (by rw [zcl_some e2, zitT (by omega), zitF (by omega), zitF (by omega), zitF (by omega), zitF (by omega), zitF (by omega), zitF (by omega), zitF (by omega), zitF (by omega), zitF (by omega), zitF (by omega), zitF (by omega), zitF (by omega), zitT rfl, zal_in hn, zret_ap, nd.de n lv])
    by_cases c : w = 13
    · subst c
      exact yOp_same h (Int.le_refl _) (by rw [zcl_some e1, zitF (by omega), zitF (by omega), zitF (by omega), zitF (by omega), zitF (by omega), zitF (by omega), zitF (by omega), zitF (by omega), zitF (by omega), zitF (by omega), zitF (by omega), zitF (by omega), zitF (by omega), zitF (by omega), zitT rfl, zgf_ap, zret_ap]) (by rw [zcl_some e2, zitT (by omega), zitF (by omega), zitF (by omega), zitF (by omega), zitF (by omega), zitF (by omega), zitF (by omega), zitF (by omega), zitF (by omega), zitF (by omega), zitF (by omega), zitF (by omega), zitF (by omega), zitF (by omega), zitT rfl, zal_in hn, zret_ap, nd.nm n lv])
    by_cases c : w = 14
    · subst c
      by_cases z : A 501 n 0 = 3
      · have bo := hT.bx.bo n ⟨lv, z⟩
        exact yOp_same (r := B 6817 0 n) h (Int.le_refl _) (by rw [zcl_some e1, zitF (by omega), zitF (by omega), zitF (by omega), zitF (by omega), zitF (by omega), zitF (by omega), zitF (by omega), zitF (by omega), zitF (by omega), zitF (by omega), zitF (by omega), zitF (by omega), zitF (by omega), zitF (by omega), zitF (by omega), zitT rfl, zcl_some (p_ism n A), zbi_pos z, zitF (by omega), zgf_ap, znn_in bo.1, zgf_ap, zret_ap, (hT.bx.le n ⟨lv, z⟩).1]) (by rw [zcl_some e2, zitT (by omega), zitF (by omega), zitF (by omega), zitF (by omega), zitF (by omega), zitF (by omega), zitF (by omega), zitF (by omega), zitF (by omega), zitF (by omega), zitF (by omega), zitF (by omega), zitF (by omega), zitF (by omega), zitF (by omega), zitT rfl, zal_in hn, zret_ap])
      · exact yOp_same (r := 0) h (Int.le_refl _) (by rw [zcl_some e1, zitF (by omega), zitF (by omega), zitF (by omega), zitF (by omega), zitF (by omega), zitF (by omega), zitF (by omega), zitF (by omega), zitF (by omega), zitF (by omega), zitF (by omega), zitF (by omega), zitF (by omega), zitF (by omega), zitF (by omega), zitT rfl, zcl_some (p_ism n A), zbi_neg z, zitT rfl, zret_ap]) (by rw [zcl_some e2, zitT (by omega), zitF (by omega), zitF (by omega), zitF (by omega), zitF (by omega), zitF (by omega), zitF (by omega), zitF (by omega), zitF (by omega), zitF (by omega), zitF (by omega), zitF (by omega), zitF (by omega), zitF (by omega), zitF (by omega), zitT rfl, zal_in hn, zret_ap, hT.bx.no n lv z])
    by_cases c : w = 15
    · subst c
      exact yOp_same h (Int.le_refl _) (by rw [zcl_some e1, zitF (by omega), zitF (by omega), zitF (by omega), zitF (by omega), zitF (by omega), zitF (by omega), zitF (by omega), zitF (by omega), zitF (by omega), zitF (by omega), zitF (by omega), zitF (by omega), zitF (by omega), zitF (by omega), zitF (by omega), zitF (by omega), zitT rfl, zgf_ap, zret_ap]) (by rw [zcl_some e2, zitT (by omega), zitF (by omega), zitF (by omega), zitF (by omega), zitF (by omega), zitF (by omega), zitF (by omega), zitF (by omega), zitF (by omega), zitF (by omega), zitF (by omega), zitF (by omega), zitF (by omega), zitF (by omega), zitF (by omega), zitF (by omega), zitT rfl, zi_of (x := 2 * n) (by omega), zi_of (x := 2 * n + 15) (by omega), zi_of (by omega), zal_in (by omega), zret_ap, show 2 * n + 15 - 15 = 2 * n by omega, (hT.ls.fd n lv).n])
    by_cases c : w = 16
    · subst c
      exact yOp_same h (Int.le_refl _) (by rw [zcl_some e1, zitF (by omega), zitF (by omega), zitF (by omega), zitF (by omega), zitF (by omega), zitF (by omega), zitF (by omega), zitF (by omega), zitF (by omega), zitF (by omega), zitF (by omega), zitF (by omega), zitF (by omega), zitF (by omega), zitF (by omega), zitF (by omega), zitF (by omega), zitT rfl, zgf_ap, zret_ap]) (by rw [zcl_some e2, zitT (by omega), zitF (by omega), zitF (by omega), zitF (by omega), zitF (by omega), zitF (by omega), zitF (by omega), zitF (by omega), zitF (by omega), zitF (by omega), zitF (by omega), zitF (by omega), zitF (by omega), zitF (by omega), zitF (by omega), zitF (by omega), zitF (by omega), zitT rfl, zi_of (x := 2 * n) (by omega), zi_of (x := 2 * n + 16) (by omega), zi_of (by omega), zal_in (by omega), zret_ap, show 2 * n + 16 - 15 = 2 * n + 1 by omega, (hT.ls.fs n lv).n])
    exact yOp_same (r := -8) h (Int.le_refl _) (by rw [zcl_some e1, zitF (by omega), zitF (by omega), zitF (by omega), zitF (by omega), zitF (by omega), zitF (by omega), zitF (by omega), zitF (by omega), zitF (by omega), zitF (by omega), zitF (by omega), zitF (by omega), zitF (by omega), zitF (by omega), zitF (by omega), zitF (by omega), zitF (by omega), zitF (by omega), zret_ap]) (by rw [zcl_some e2, zitT (by omega), zitF (by omega), zitF (by omega), zitF (by omega), zitF (by omega), zitF (by omega), zitF (by omega), zitF (by omega), zitF (by omega), zitF (by omega), zitF (by omega), zitF (by omega), zitF (by omega), zitF (by omega), zitF (by omega), zitF (by omega), zitF (by omega), zitF (by omega), zret_ap])
  · exact yOp_same (r := -1) h (Int.le_refl _) (by rw [zcl_some e1, zitT (by omega), zret_ap]) (by rw [zcl_some e2, zitF (by omega), zret_ap])
/-- lists of one node change -/
theorem I_TB_ls {N : Int} {A B A' B' : zM} (h : I_TB N A B) (hl : I_ls A' B') (ca : yCo [203, 204, 206, 300, 400, 401, 402, 501, 502, 503, 504, 505, 506, 507, 509, 510, 511, 512, 513, 514, 515, 516, 517, 520, 521, 522, 523, 700, 701, 702] A A') (cb : yCo [6800, 6801, 6802, 6803, 6804, 6805, 6806, 6807, 6808, 6809, 6810, 6811, 6816, 6817, 6818, 6819] B B') (hv : A 207 0 0 ≤ A' 207 0 0 ∧ A' 207 0 0 ≤ N + 2) (hN : N < 890000) : I_TB (N + 1) A' B' := by
  obtain ⟨acc, rho, K, hT, b1, b2, b3⟩ := h
  have vb := hT.vb
  refine ⟨acc, rho, K, ⟨I_nd_fr (yCo_sub ca (by decide)) (yCo_sub cb (by decide)) hT.nd, I_sb_fr (yCo_sub ca (by decide)) (yCo_sub cb (by decide)) hT.sb, hl, I_ix_fr (B := B) (B' := B) (yCo_sub ca (by decide)) hT.ix, I_st_fr (yCo_sub ca (by decide)) (yCo_sub cb (by decide)) hT.st, I_bx_fr (yCo_sub ca (by decide)) (yCo_sub cb (by decide)) hT.bx, I_ac_fr (B := B) (B' := B) (yCo_sub ca (by decide)) hT.ac, ?_, hT.kb, ?_, by omega⟩, by omega, ?_, by omega⟩
  · rw [ca 206 (by decide), ca 501 (by decide)]; exact hT.mn
  · rw [cb 6811 (by decide)]; exact hT.cb
  · rw [cb 6811 (by decide)]; omega
theorem I_ls_ac {A B A' B' : zM} (h : I_ls A B) {n : Int} (a501 : A' 501 = A 501) (fa : ∀ f x i, ¬ (x = 3 * n ∧ (f = 600 ∨ f = 601 ∨ f = 602)) → (f = 600 ∨ f = 601 ∨ f = 602) → A' f x i = A f x i) (f13 : ∀ i, ¬ (18 * n ≤ i ∧ i < 18 * n + 18) → B' 6813 0 i = B 6813 0 i) (f12 : ∀ i, i ≠ n → B' 6812 0 i = B 6812 0 i) (f14 : B' 6814 = B 6814) (f15 : B' 6815 = B 6815) (hl : yLv A n → I_al A' B' (3 * n) 6813 (18 * n) (B' 6812 0 n)) : I_ls A' B' := by
  have lv : ∀ m, yLv A' m → yLv A m := fun m hm => ⟨hm.1, by have := hm.2; rw [a501] at this; exact this⟩
  have z0 : ∀ m : Int, zacl (3 * m) = 6 := fun m => by unfold zacl; rw [if_pos (by omega)]
  refine ⟨?_, ?_, ?_⟩
  · intro m hm
    by_cases e : m = n
    · rw [e]; exact hl (by rw [← e]; exact lv m hm)
    · refine I_al_fr ?_ ?_ (f12 m e) (h.ac m (lv m hm))
      · intro f i hf
        exact fa f _ i (by omega) hf
      · intro i i0 i1
        rw [z0] at i1
        exact f13 i (by omega)
  · intro m hm
    exact I_al_fr (fun f i hf => fa f _ i (by omega) hf) (fun i _ _ => by rw [f15]) (by rw [f14]) (h.fs m (lv m hm))
  · intro m hm
    exact I_al_fr (fun f i hf => fa f _ i (by omega) hf) (fun i _ _ => by rw [f15]) (by rw [f14]) (h.fd m (lv m hm))
theorem I_ls_in {A B A' B' : zM} (h : I_ls A B) {n c t : Int} (hct : (c = 3 * n + 1 ∧ t = 2 * n + 1) ∨ (c = 3 * n + 2 ∧ t = 2 * n)) (a501 : A' 501 = A 501) (fa : ∀ f x i, ¬ (x = c ∧ (f = 600 ∨ f = 601 ∨ f = 602)) → (f = 600 ∨ f = 601 ∨ f = 602) → A' f x i = A f x i) (f15 : ∀ i, ¬ (9 * t ≤ i ∧ i < 9 * t + 9) → B' 6815 0 i = B 6815 0 i) (f14 : ∀ i, i ≠ t → B' 6814 0 i = B 6814 0 i) (f12 : B' 6812 = B 6812) (f13 : B' 6813 = B 6813) (hl : I_al A' B' c 6815 (9 * t) (B' 6814 0 t)) : I_ls A' B' := by
  have lv : ∀ m, yLv A' m → yLv A m := fun m hm => ⟨hm.1, by have := hm.2; rw [a501] at this; exact this⟩
  have z1 : ∀ m : Int, zacl (3 * m + 1) = 3 := fun m => by unfold zacl; rw [if_neg (by omega)]
  have z2 : ∀ m : Int, zacl (3 * m + 2) = 3 := fun m => by unfold zacl; rw [if_neg (by omega)]
  refine ⟨?_, ?_, ?_⟩
  · intro m hm
    exact I_al_fr (fun f i hf => fa f _ i (by omega) hf) (fun i _ _ => by rw [f13]) (by rw [f12]) (h.ac m (lv m hm))
  · intro m hm
    by_cases e : 3 * m + 1 = c
    · have et : 2 * m + 1 = t := by omega
      rw [e, et]; exact hl
    · refine I_al_fr ?_ ?_ (f14 _ (by omega)) (h.fs m (lv m hm))
      · intro f i hf
        exact fa f _ i (by omega) hf
      · intro i i0 i1
        rw [z1] at i1
        exact f15 i (by omega)
  · intro m hm
    by_cases e : 3 * m + 2 = c
    · have et : 2 * m = t := by omega
      rw [e, et]; exact hl
    · refine I_al_fr ?_ ?_ (f14 _ (by omega)) (h.fd m (lv m hm))
      · intro f i hf
        exact fa f _ i (by omega) hf
      · intro i i0 i1
        rw [z2] at i1
        exact f15 i (by omega)
/-- an own item of a node is set or goes: both sides, with the twin's number of items -/
theorem r_item {N : Int} {A B : zM} (h : I_TB N A B) (hN : N < 890000) {n p q md : Int} (lv : yLv A n) (hp : 0 ≤ p ∧ p ≤ 16) (hq : 0 ≤ q ∧ q ≤ 8) (hd : 0 ≤ md ∧ md ≤ 8) :
    ∃ r A' m' B', fX5_set (3 * n) p q md A = some (r, A') ∧ fX67_item n p q md B = some (m', B') ∧ ((m' < 0 ∧ r = m') ∨ (0 ≤ m' ∧ r = 0 ∧ A' 602 (3 * n) 0 = m')) ∧ I_TB (N + 1) (zup A' 207 0 0 (A 207 0 0 + 1)) B' ∧ yTr A (zup A' 207 0 0 (A 207 0 0 + 1)) ∧ A' 207 0 0 = A 207 0 0 := by
  have hnd := h
  obtain ⟨acc, rho, K, hT, b1, b2, b3⟩ := hnd
  have al := hT.ls.ac n lv
  have z6 : zacl (3 * n) = 6 := by unfold zacl; rw [if_pos (by omega)]
  have hn := lv.1
  have zl : zlen 6813 = 4608 := by decide
  obtain ⟨r, A', m', B', e1, e2, e3, e4, e5⟩ := r_set al (by rw [z6, zl]; omega) (by rw [zl]; omega) hp hq hd
  rw [z6] at e2 e5
  have e6 := p_itT p q md B
  rw [zbi_pos (show isIt p q md from ⟨hp, hq, hd⟩)] at e6
  have nb : fX67_isNode n B = some (1, B) := by rw [p_ndT, zbi_pos ((y_nd hT.nd n).2 ⟨by omega, lv.2⟩)]
  have c7 : A' 207 0 0 = A 207 0 0 := e4 207 0 0 (by omega)
  have b12 : B' 6812 0 n = B 6812 0 n := e5 6812 0 n (by omega)
  have tr : yTr A (zup A' 207 0 0 (A 207 0 0 + 1)) := by
    refine ⟨by simp (disch := omega) only [zrd_hit, zrd_miss]; omega, fun m _ => by simp (disch := omega) only [zrd_hit, zrd_miss]; exact e4 501 m 0 (by omega), fun e => ?_⟩
    exfalso
    revert e
    simp (disch := omega) only [zrd_hit, zrd_miss]
    omega
  refine ⟨r, A', m', if m' < 0 then B' else zup B' 6812 0 n m', e1, ?_, ?_, ?_, tr, c7⟩
  · unfold fX67_item fX67_item_J68
    by_cases c : m' < 0
    · rw [if_pos c]
      simp (disch := omega) only [↓zal_in, ↓zas_in, ↓zib_in, ↓znn_in, ↓zne_in, ↓zgf_ap, ↓zpf_ap, ↓zpb_in, ↓zlt_ap, ↓zret_ap, ↓zrb_in, zitT, zitF, zi_of, zl_of, zrd_hit, zrd_miss, if_true, if_false, not_true_eq_false, not_false_eq_true, zcl_some nb, zcl_some e6, zcl_some e2]
      rw [zup_id rfl]
    · rw [if_neg c]
      simp (disch := omega) only [↓zal_in, ↓zas_in, ↓zib_in, ↓znn_in, ↓zne_in, ↓zgf_ap, ↓zpf_ap, ↓zpb_in, ↓zlt_ap, ↓zret_ap, ↓zrb_in, zitT, zitF, zi_of, zl_of, zrd_hit, zrd_miss, if_true, if_false, not_true_eq_false, not_false_eq_true, zcl_some nb, zcl_some e6, zcl_some e2]
  · rcases e3 with ⟨c, d, -⟩ | ⟨c, d, f⟩
    · exact Or.inl ⟨c, d⟩
    · exact Or.inr ⟨c, d, f.n⟩
  · refine I_TB_ls h (I_ls_ac hT.ls (n := n) ?_ ?_ ?_ ?_ ?_ ?_ ?_) ?_ ?_ ?_ hN
    · rw [zup_col (by decide)]; funext x i; exact e4 501 x i (by omega)
    · intro f x i hx hf
      simp (disch := omega) only [zrd_hit, zrd_miss]
      exact e4 f x i hx
    · intro i hi
      have : B' 6813 0 i = B 6813 0 i := e5 6813 0 i (by omega)
      split
      · exact this
      · simp (disch := omega) only [zrd_hit, zrd_miss]; exact this
    · intro i hi
      have : B' 6812 0 i = B 6812 0 i := e5 6812 0 i (by omega)
      split
      · exact this
      · simp (disch := omega) only [zrd_hit, zrd_miss]; exact this
    · have : B' 6814 = B 6814 := by funext x i; exact e5 6814 x i (by omega)
      split
      · exact this
      · rw [zup_col (by decide)]; exact this
    · have : B' 6815 = B 6815 := by funext x i; exact e5 6815 x i (by omega)
      split
      · exact this
      · rw [zup_col (by decide)]; exact this
    · intro _
      rcases e3 with ⟨c, -, ea, eb⟩ | ⟨c, -, f⟩
      · rw [if_pos c, b12]
        rw [ea, eb]
        exact I_al_fr (fun f i hf => by simp (disch := omega) only [zrd_hit, zrd_miss]) (fun i _ _ => rfl) rfl al
      · rw [if_neg (by omega)]
        exact I_al_fr (fun f i hf => by simp (disch := omega) only [zrd_hit, zrd_miss]) (fun i _ _ => by simp (disch := omega) only [zrd_hit, zrd_miss]) (by simp (disch := omega) only [zrd_hit, zrd_miss]) f
    · intro f hf
      have d1 : ∀ f ∈ [203, 204, 206, 300, 400, 401, 402, 501, 502, 503, 504, 505, 506, 507, 509, 510, 511, 512, 513, 514, 515, 516, 517, 520, 521, 522, 523, 700, 701, 702], (¬ f = 207) ∧ ¬ (f = 600 ∨ f = 601 ∨ f = 602) := by decide
      obtain ⟨d1, d2⟩ := d1 f hf
      rw [zup_col d1]
      funext x i
      exact e4 f x i (fun z => d2 z.2)
    · intro f hf
      have d1 : ∀ f ∈ [6800, 6801, 6802, 6803, 6804, 6805, 6806, 6807, 6808, 6809, 6810, 6811, 6816, 6817, 6818, 6819], (¬ f = 6812) ∧ ¬ f = 6813 := by decide
      obtain ⟨d1, d2⟩ := d1 f hf
      have : B' f = B f := by funext x i; exact e5 f x i (fun z => d2 z.1)
      split
      · exact this
      · rw [zup_col d1]; exact this
    · simp (disch := omega) only [zrd_hit, zrd_miss]; omega
