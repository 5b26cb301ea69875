set_option linter.unusedSimpArgs false
set_option linter.unusedVariables false
/-! new entries, new lengths: both sides -/
def I_TB (N : Int) (A B : zM) : Prop := ∃ (acc rho : Int → Int) (K : Int), I_T A B acc rho K ∧ K ≤ N ∧ B 6811 0 0 ≤ N ∧ A 207 0 0 ≤ N + 1
theorem I_TB_up {N N' : Int} {A B : zM} (h : I_TB N A B) (hN : N ≤ N') : I_TB N' A B := by
  obtain ⟨acc, rho, K, q, a, b, c⟩ := h
  exact ⟨acc, rho, K, q, by omega, by omega, by omega⟩
/-- what those who know nodes may rely on -/
def yTr (A A' : zM) : Prop :=
  (A 207 0 0 ≤ A' 207 0 0) ∧
  (∀ n, yLv A n → A' 501 n 0 = A 501 n 0) ∧
  (A' 207 0 0 = A 207 0 0 → ∀ n, yLv A n → A' 503 n 0 = A 503 n 0 ∧ ∀ f i, f = 600 ∨ f = 601 ∨ f = 602 → A' f (3 * n) i = A f (3 * n) i)
theorem yTr.v {A A' : zM} (h : yTr A A') : A 207 0 0 ≤ A' 207 0 0 := h.1
theorem yTr.k {A A' : zM} (h : yTr A A') : ∀ n, yLv A n → A' 501 n 0 = A 501 n 0 := h.2.1
theorem yTr.s {A A' : zM} (h : yTr A A') : A' 207 0 0 = A 207 0 0 → ∀ n, yLv A n → A' 503 n 0 = A 503 n 0 ∧ ∀ f i, f = 600 ∨ f = 601 ∨ f = 602 → A' f (3 * n) i = A f (3 * n) i := h.2.2
theorem yTr_rf {A : zM} : yTr A A := ⟨Int.le_refl _, fun _ _ => rfl, fun _ _ _ => ⟨rfl, fun _ _ _ => rfl⟩⟩
theorem yTr_tr {A A' A'' : zM} (h : yTr A A') (g : yTr A' A'') : yTr A A'' := by
  have lv : ∀ n, yLv A n → yLv A' n := fun n hn => ⟨hn.1, by rw [h.k n hn]; exact hn.2⟩
  have hv := h.v
  have gv := g.v
  refine ⟨by omega, fun n hn => (g.k n (lv n hn)).trans (h.k n hn), fun e n hn => ?_⟩
  obtain ⟨a1, a2⟩ := h.s (by omega) n hn
  obtain ⟨b1, b2⟩ := g.s (by omega) n (lv n hn)
  exact ⟨b1.trans a1, fun f i hf => (b2 f i hf).trans (a2 f i hf)⟩
theorem yTr_co {A A' : zM} (h : yCo [207, 501, 503, 600, 601, 602] A A') : yTr A A' := by
  have a2 : A' 207 = A 207 := h 207 (by decide)
  have a5 : A' 501 = A 501 := h 501 (by decide)
  have a3 : A' 503 = A 503 := h 503 (by decide)
  refine ⟨by rw [a2]; exact Int.le_refl _, fun n _ => by rw [a5], fun _ n _ => ⟨by rw [a3], fun f i hf => ?_⟩⟩
  rcases hf with rfl | rfl | rfl
  · rw [h 600 (by decide)]
  · rw [h 601 (by decide)]
  · rw [h 602 (by decide)]
theorem p_fnd2 {A B : zM} {acc rho : Int → Int} {K d : Int} (w : Int) (h : I_T A B acc rho K) (hd : 0 ≤ d) : ∃ r, fX2_find d w A = some (r, A) ∧ fX67_entryNamed d w B = some (r, B) ∧ yFd A d w r := by
  obtain ⟨r, e1, e2⟩ := p_fnd (d := d) (w := w) h.ix (by have := h.kb; omega) h.kb.1 hd
  obtain ⟨r', e3, e4⟩ := p_enT (d := d) (w := w) h.nd
  rw [yFd_uni h.nd e4 e2] at e3
  exact ⟨r, e1, e3, e2⟩
theorem p_bears {A B : zM} {acc rho : Int → Int} {K d c : Int} (h : I_T A B acc rho K) (hd : yLv A d) (hk : A 501 d 0 = 1) (hc : -2000 ≤ c ∧ c ≤ 2000) :
    fX1_bears d c A = some (zbi (A 517 (acc d) 0 + c ≤ A 516 (acc d) 0), A) ∧ fX67_hasRoom d c B = some (zbi (A 517 (acc d) 0 + c ≤ A 516 (acc d) 0), B) := by
  obtain ⟨p1, p2, p3, p4, p5⟩ := p_acc h.nd (by have := h.cb; omega) h.ac.eq hd hk
  have us := y_us0 h p3 p4 p5
  have u2 := h.nd.us _ p3
  have l2 := h.nd.li _ p3
  unfold fX1_bears fX67_hasRoom
  rw [zcl_some p1, zcl_some p2, znn_in p3.1.1, zgf_ap, zgf_ap, zi_of (by omega), zal_in p3.1, zal_in p3.1, u2, l2.1, zi_of (by omega)]
  by_cases q : A 517 (acc d) 0 + c ≤ A 516 (acc d) 0
  · rw [zbi_pos q, zitF (by omega), zitF (by omega), zret_ap, zret_ap]; exact ⟨rfl, rfl⟩
  · rw [zbi_neg q, zitT (by omega), zitT (by omega), zret_ap, zret_ap]; exact ⟨rfl, rfl⟩
theorem yMkA_tr {A A' : zM} {n d k w l lim a c bx : Int} (fa : yMkA A A' n d k w l lim a c bx) (hn : A 501 n 0 = 0) (hv : A 207 0 0 < A' 207 0 0) : yTr A A' := by
  refine ⟨by omega, fun m hm => ?_, fun e => by omega⟩
  rw [fa.c501, if_neg (fun e => by rw [e] at hm; omega)]
theorem yFd_no {A : zM} {d w r : Int} (h : yFd A d w r) (hr : r < 0) : ∀ m, yEn A d m → A 502 m 0 ≠ w := by
  rcases h with ⟨-, h⟩ | ⟨h, -⟩
  · exact h
  · omega
/-- directories and mailboxes -/
theorem r_newN {N : Int} {A B : zM} (h : I_TB N A B) (hN : N < 890000) {d k w l s : Int} (hd : yLv A d ∧ A 501 d 0 = 1) (hk : k = 1 ∨ k = 3) (hw : isNm w) (hl : 0 ≤ l ∧ l < 32) (he : k ≠ 1 → l = A 503 d 0) (hs : 0 ≤ s ∧ s ≤ (if k = 1 then 255 else 0)) :
    ∃ (acc : Int → Int) (r0 : Int), fX2_find d w A = some (r0, A) ∧ fX67_entryNamed d w B = some (r0, B) ∧ fX1_bears d (zco k s) A = some (zbi (A 517 (acc d) 0 + zco k s ≤ A 516 (acc d) 0), A) ∧ fX67_hasRoom d (zco k s) B = some (zbi (A 517 (acc d) 0 + zco k s ≤ A 516 (acc d) 0), B) ∧
      (r0 < 0 → A 517 (acc d) 0 + zco k s ≤ A 516 (acc d) 0 → ∃ n A' B1 B', fX1_make d k w l s A = some (n, A') ∧ fX67_make k d w l s B = some (n, B1) ∧ fX67_made n B1 = some (n, B') ∧ 0 ≤ n ∧ I_TB (N + 1) A' B' ∧ yTr A A') := by
  obtain ⟨acc, rho, K, hT, b1, b2, b3⟩ := h
  obtain ⟨r0, e1, e2, e3⟩ := p_fnd2 w hT hd.1.1.1
  have cr : -2000 ≤ zco k s ∧ zco k s ≤ 2000 := by
    have := hs.2
    have q : s ≤ 255 := by split at this <;> omega
    unfold zco zrec; split <;> (try split) <;> omega
  obtain ⟨e4, e5⟩ := p_bears hT hd.1 hd.2 cr
  refine ⟨acc, r0, e1, e2, e4, e5, fun hr hc => ?_⟩
  have hlim : s = if k = 1 then s else 0 := by
    rcases hk with e | e
    · rw [if_pos e]
    · have := hs.2; rw [if_neg (by omega)] at this ⊢; omega
  obtain ⟨n, A', B1, B', bx, q1, q2, q3, q4, q5, q6, q7, q8, q9, q10⟩ := r_make hT (d := d) (k := k) (w := w) (l := l) (s := s) (lim := s) (len := 0) hd (by omega) hw (yFd_no e3 hr) hl he (by
      refine ⟨hs.1, ?_⟩
      rcases hk with e | e
      · have := hs.2; rw [if_pos e] at this ⊢; exact this
      · have := hs.2; rw [if_neg (by omega)] at this ⊢; rw [if_neg (by omega)]; exact this) hlim (by rw [if_neg (by omega)]) hc (by omega) (by omega) (by omega)
  have fB := yMkB_gf q6 q8
  have c0 : zco k (if k = 2 then 0 else s) = zco k s := by rw [if_neg (by omega)]
  rw [c0] at q5 q10
  have hac := y_ac hT.nd hT.cb hT.ac hd.1 hd.2
  have han : acc d ≠ n := fun e => by rw [e] at hac; omega
  rw [zup_id (M := B') (f := 6806) (by rw [fB.c6806, if_pos rfl]), zup_id (M := B') (f := 6808) (by rw [fB.c6808, if_neg han, if_pos rfl])] at q10
  refine ⟨n, A', B1, B', q1, q2, ?_, by omega, ⟨_, _, _, q10, by omega, by rw [fB.c6811]; omega, by omega⟩, yMkA_tr q5 q4.2 (by omega)⟩
  unfold fX67_made
  rw [zcl_some q3, zret_ap]
theorem r_newDir {N : Int} {A B : zM} (h : I_TB N A B) (hN : N < 890000) {d w l m : Int} (hd : yLv A d ∧ A 501 d 0 = 1) (hw : isNm w) (hl : 0 ≤ l ∧ l < 32) (hm : 0 ≤ m ∧ m ≤ 255) :
    ∃ r A' B', fX12_newDirectory d w l m A = some (r, A') ∧ fX67_directory_J75 d w l m B = some (r, B') ∧ I_TB (N + 1) A' B' ∧ yTr A A' := by
  obtain ⟨acc, r0, e1, e2, e3, e4, e5⟩ := r_newN h hN (k := 1) (s := m) hd (Or.inl rfl) hw hl (fun x => absurd rfl x) (by rw [if_pos rfl]; exact hm)
  have c : zco 1 m = 1 + m := by unfold zco; rw [if_neg (by omega), if_neg (by omega)]
  rw [c] at e3 e4 e5
  have c2 := p_coT (k := 1) (s := m) (by omega) B
  rw [c] at c2
  unfold fX12_newDirectory fX67_directory_J75
  rw [zcl_some e1, zcl_some e2]
  by_cases hr : r0 < 0
  · rw [zitT hr, zitT hr, zi_of (by omega), zcl_some e3, zcl_some c2, zcl_some e4]
    by_cases q : A 517 (acc d) 0 + (1 + m) ≤ A 516 (acc d) 0
    · obtain ⟨n, A', B1, B', q1, q2, q3, q4, q5, q6⟩ := e5 hr q
      rw [zbi_pos q, zitF (by omega), zitT (by omega), zcl_some q1, zcl_some q2, zcl_some q3, znn_in q4, zret_ap, zret_ap]
      exact ⟨n, A', B', rfl, rfl, q5, q6⟩
    · rw [zbi_neg q, zitT rfl, zitF (fun x => x rfl), zret_ap, zret_ap]
      exact ⟨-5, A, B, rfl, rfl, I_TB_up h (by omega), yTr_rf⟩
  · rw [zitF hr, zitF hr, zret_ap, zret_ap]
    exact ⟨-6, A, B, rfl, rfl, I_TB_up h (by omega), yTr_rf⟩
theorem r_newMb {N : Int} {A B : zM} (h : I_TB N A B) (hN : N < 890000) {d w : Int} (hd : yLv A d ∧ A 501 d 0 = 1) (hw : isNm w) :
    ∃ r A' B', fX12_newMailbox d w A = some (r, A') ∧ (zcl (fX67_entryNamed d w) fun v3 => if v3 < 0 then (zcl (fX67_costOf 3 0) fun v4 => zcl (fX67_hasRoom d v4) fun v5 => if ¬ v5 = 0 then (zal 6803 0 d 256 fun v6 => zcl (fX67_make 3 d w v6 0) fun v7 => zcl (fX67_made v7) fun v8 => zret v8) else (zret (-5))) else (zret (-6))) B = some (r, B') ∧ I_TB (N + 1) A' B' ∧ yTr A A' := by
  have hnd := h
  obtain ⟨_, _, _, hT, -⟩ := hnd
  have lb := hT.nd.lb d hd.1
  obtain ⟨acc, r0, e1, e2, e3, e4, e5⟩ := r_newN h hN (k := 3) (l := A 503 d 0) (s := 0) hd (Or.inr rfl) hw lb.2 (fun _ => rfl) (by rw [if_neg (by omega)]; omega)
  have c : zco 3 0 = 17 := by decide
  rw [c] at e3 e4 e5
  have c2 := p_coT (k := 3) (s := 0) (by omega) B
  rw [c] at c2
  unfold fX12_newMailbox
  rw [zcl_some e1, zcl_some e2]
  by_cases hr : r0 < 0
  · rw [zitT hr, zitT hr, zcl_some e3, zcl_some c2, zcl_some e4]
    by_cases q : A 517 (acc d) 0 + 17 ≤ A 516 (acc d) 0
    · obtain ⟨n, A', B1, B', q1, q2, q3, q4, q5, q6⟩ := e5 hr q
      rw [zbi_pos q, zitF (by omega), zitT (by omega), znn_in hd.1.1.1, zgf_ap, zal_in hd.1.1, lb.1, zcl_some q1, zcl_some q2, zcl_some q3, znn_in q4, zret_ap, zret_ap]
      exact ⟨n, A', B', rfl, rfl, q5, q6⟩
    · rw [zbi_neg q, zitT rfl, zitF (fun x => x rfl), zret_ap, zret_ap]
      exact ⟨-5, A, B, rfl, rfl, I_TB_up h (by omega), yTr_rf⟩
  · rw [zitF hr, zitF hr, zret_ap, zret_ap]
    exact ⟨-6, A, B, rfl, rfl, I_TB_up h (by omega), yTr_rf⟩
/-- a segment with its length -/
theorem r_mkSeg {N : Int} {A B : zM} {acc rho : Int → Int} {K : Int} (hT : I_T A B acc rho K) (b1 : K ≤ N) (b2 : B 6811 0 0 ≤ N) (b3 : A 207 0 0 ≤ N + 1) (hN : N < 890000) {d w s : Int} (hd : yLv A d ∧ A 501 d 0 = 1) (hw : isNm w) (hu : ∀ m, yEn A d m → A 502 m 0 ≠ w) (hs : 0 ≤ s ∧ s ≤ 1024) (hc : A 517 (acc d) 0 + zco 2 s ≤ A 516 (acc d) 0) :
    ∃ n A1 A' B1 B', fX1_make d 2 w (A 503 d 0) 0 A = some (n, A1) ∧ fX1_resize n s A1 = some (0, A') ∧ fX67_make 2 d w (A 503 d 0) s B = some (n, B1) ∧ fX67_giveFirsts n (-1) (-1) B1 = some (0, B') ∧ ((0 < n ∧ n < 256) ∧ A 501 n 0 = 0) ∧ I_TB (N + 1) A' B' ∧ yTr A A' ∧ B1 6812 0 n = 0 ∧ B1 6800 0 n = 2 ∧ B1 6802 0 n = d ∧ A' 501 n 0 = 2 ∧ A' 504 n 0 = d ∧ A' 207 0 0 = A 207 0 0 + 1 ∧
      (∀ f x i, ¬ (x = 0 ∧ ((f = 6813 ∧ 18 * n ≤ i ∧ i < 18 * n + 18) ∨ (f = 6812 ∧ i = n))) → B' f x i = B1 f x i) := by
  have lb := hT.nd.lb d hd.1
  obtain ⟨n, A1, B1, B', bx, q1, q2, q3, q4, q5, q6, q7, q8, q9, q10⟩ := r_make hT (d := d) (k := 2) (w := w) (l := A 503 d 0) (s := s) (lim := 0) (len := s) hd (by omega) hw hu lb.2 (fun _ => rfl) (by rw [if_neg (by omega), if_pos rfl]; exact hs) (by rw [if_neg (by omega)]) (by rw [if_pos rfl]) hc (by omega) (by omega) (by omega)
  have fB := yMkB_gf q6 q8
  have c0 : zco 2 (if (2 : Int) = 2 then 0 else 0) = 1 := by decide
  rw [c0] at q5 q10
  have cs : zco 2 s = 1 + zrec s := by unfold zco; rw [if_pos rfl]
  have zs := zrec_rng hs
  have z0 : zrec 0 = 0 := by decide
  have hac := y_ac hT.nd hT.cb hT.ac hd.1 hd.2
  have han : acc d ≠ n := fun e => by rw [e] at hac; omega
  have hdn : d ≠ n := fun e => by rw [e] at hd; omega
  have p504 : A1 504 n 0 = d := by rw [q5.c504, if_pos rfl]
  have p522 : A1 522 n 0 = 0 := by rw [q5.c522, if_pos rfl]
  have p501 : A1 501 n 0 = 2 := by rw [q5.c501, if_pos rfl]
  have ad : (if A1 504 n 0 = n then (if (0 : Int) = 0 then acc d else n) else acc (A1 504 n 0)) = acc d := by rw [p504]; exact if_neg hdn
  have b08 : B' 6808 0 (acc d) = B 6808 0 (acc d) + zco 2 s := by rw [fB.c6808, if_neg han, if_pos rfl]
  have b06 : B' 6806 0 n = s := by rw [fB.c6806, if_pos rfl]
  obtain ⟨A', e1, e2, e3⟩ := r_resize (B' := B') q10 (n := n) (len' := s) ⟨by omega, by omega⟩ p501 hs
    (by
      rw [ad, p522, z0, q5.c517, if_neg han, if_pos rfl, q5.c516, if_neg han]
      omega)
    (by
      intro f hf
      have d1 : ∀ f ∈ [6800, 6801, 6802, 6803, 6804, 6805, 6807, 6809, 6810, 6811, 6812, 6813, 6814, 6815, 6817, 6818, 6819], ¬ f = 6806 ∧ ¬ f = 6808 := by decide
      have d1 := d1 f hf
      rw [zup_col d1.2, zup_col d1.1])
    (by
      intro i
      by_cases e : i = n
      · rw [if_pos e, e]; exact b06
      · rw [if_neg e]; simp (disch := omega) only [zrd_hit, zrd_miss])
    (by
      intro i
      rw [ad, p522, z0]
      by_cases e : i = acc d
      · rw [if_pos e, e, zrd_hit (by omega), b08, cs]; omega
      · rw [if_neg e]; simp (disch := omega) only [zrd_hit, zrd_miss])
    (by
      intro i hi
      simp (disch := omega) only [zrd_hit, zrd_miss])
    (by
      intro k k0 k1
      rw [p522] at k0
      rw [q8 6816 0 _ (by omega), q6.c6816, if_pos (by omega)])
  have cr := fr_fX1_resize n s A1 0 A' e1
  have v1 : A' 207 0 0 = A 207 0 0 + 1 := by rw [cr 207 (by decide)]; exact q9
  refine ⟨n, A1, A', B1, B', q1, e1, q2, q3, q4, ⟨_, _, _, e2, by omega, by rw [fB.c6811]; omega, by omega⟩, yTr_tr (yMkA_tr q5 q4.2 (by omega)) (yTr_co (yCo_fr (fr_fX1_resize n s) e1 (by decide))), q7, by rw [q6.c6800, if_pos rfl], by rw [q6.c6802, if_pos rfl], by rw [cr 501 (by decide)]; exact p501, by rw [cr 504 (by decide)]; exact p504, v1, q8⟩
theorem r_newSeg {N : Int} {A B : zM} (h : I_TB N A B) (hN : N < 890000) {d w s : Int} (hd : yLv A d ∧ A 501 d 0 = 1) (hw : isNm w) (hs : 0 ≤ s ∧ s ≤ 1024) :
    ∃ r A' B', fX12_newSegment d w s A = some (r, A') ∧ (zcl (fX67_entryNamed d w) fun v4 => if v4 < 0 then (zcl (fX67_costOf 2 s) fun v5 => zcl (fX67_hasRoom d v5) fun v6 => if ¬ v6 = 0 then (zal 6803 0 d 256 fun v7 => zcl (fX67_make 2 d w v7 s) fun v8 => zcl (fX67_made v8) fun v9 => zret v9) else (zret (-5))) else (zret (-6))) B = some (r, B') ∧ I_TB (N + 1) A' B' ∧ yTr A A' := by
  have hnd := h
  obtain ⟨acc, rho, K, hT, b1, b2, b3⟩ := hnd
  have lb := hT.nd.lb d hd.1
  have zs := zrec_rng hs
  have cs : zco 2 s = 1 + zrec s := by unfold zco; rw [if_pos rfl]
  obtain ⟨r0, e1, e2, e3⟩ := p_fnd2 w hT hd.1.1.1
  obtain ⟨e4, e5⟩ := p_bears hT hd.1 hd.2 (c := 1 + zrec s) (by omega)
  have c2 := p_coT (k := 2) (s := s) hs B
  rw [cs] at c2
  unfold fX12_newSegment
  rw [zcl_some e1, zcl_some e2]
  by_cases hr : r0 < 0
  · rw [zitT hr, zitT hr, zcl_some (p_rec hs A), zi_of (by omega), zcl_some e4, zcl_some c2, zcl_some e5]
    by_cases q : A 517 (acc d) 0 + (1 + zrec s) ≤ A 516 (acc d) 0
    · obtain ⟨n, A1, A', B1, B', q1, q2, q3, q4, q5, q6, q7, -⟩ := r_mkSeg hT b1 b2 b3 hN hd hw (yFd_no e3 hr) hs (by rw [cs]; exact q)
      have m : fX67_made n B1 = some (n, B') := by unfold fX67_made; rw [zcl_some q4, zret_ap]
      rw [zbi_pos q, zitT (by omega), zitT (by omega), znn_in hd.1.1.1, zgf_ap, zal_in hd.1.1, lb.1, zcl_some q1, zcl_some q2, zcl_some q3, zcl_some m, znn_in (by omega), zret_ap, zret_ap]
      exact ⟨n, A', B', rfl, rfl, q6, q7⟩
    · rw [zbi_neg q, zitF (fun x => x rfl), zitF (fun x => x rfl), zret_ap, zret_ap]
      exact ⟨-5, A, B, rfl, rfl, I_TB_up h (by omega), yTr_rf⟩
  · rw [zitF hr, zitF hr, zret_ap, zret_ap]
    exact ⟨-6, A, B, rfl, rfl, I_TB_up h (by omega), yTr_rf⟩
theorem p_slT_loop {n len : Int} (hn : 0 ≤ n ∧ n < 256) (hl : 0 ≤ len ∧ len ≤ 1024) {M : zM} {L : Int} (hL : 0 ≤ L) : ∀ (r : Nat) (i : Int) (fuel : Nat), L ≤ i → i + r = len → r < fuel → zlp (fX67_setLength_B55 n len) fuel i (zfil M 6816 0 (1024 * n + L) (1024 * n + i) (fun _ => 0)) = fX67_setLength_J81 n len (zfil M 6816 0 (1024 * n + L) (1024 * n + len) (fun _ => 0)) := by
  intro r
  induction r with
  | zero =>
    intro i fuel hi hr hf
    obtain ⟨f, rfl⟩ : ∃ f, fuel = f + 1 := ⟨fuel - 1, by omega⟩
    show fX67_setLength_B55 n len (zlp (fX67_setLength_B55 n len) f) i _ = _
    generalize zlp (fX67_setLength_B55 n len) f = g
    have e : i = len := by omega
    subst e
    unfold fX67_setLength_B55
    rw [zitT (by omega)]
  | succ r ih =>
    intro i fuel hi hr hf
    obtain ⟨f, rfl⟩ : ∃ f, fuel = f + 1 := ⟨fuel - 1, by omega⟩
    show fX67_setLength_B55 n len (zlp (fX67_setLength_B55 n len) f) i _ = _
    rw [← ih (i + 1) f (by omega) (by omega) (by omega)]
    generalize zlp (fX67_setLength_B55 n len) f = g
    unfold fX67_setLength_B55
    rw [zitF (by omega), zi_of (x := 1024 * n) (by omega), zi_of (x := 1024 * n + i) (by omega), zas_in (by omega), zlt_ap, zi_of (by omega)]
    have := zfil_up (M := M) (f := 6816) (x := 0) (lo := 1024 * n + L) (hi := 1024 * n + i) (g := fun _ => 0) (by omega)
    rw [show 1024 * n + (i + 1) = 1024 * n + i + 1 by omega, ← this]
theorem p_costT {A B : zM} (h : I_nd A B) {n : Int} (hn : yLv A n) : fX67_cost n B = some (yco A n, B) := by
  have hk := h.k n hn.1.1 hn.1.2
  have le := h.le n hn
  have li := h.li n hn
  have l1 : 0 ≤ A 522 n 0 ∧ A 522 n 0 ≤ 1024 := by have := le.2.2; split at this <;> omega
  have l2 : 0 ≤ A 516 n 0 ∧ A 516 n 0 ≤ 1024 := by have := li.2.2; split at this <;> omega
  unfold fX67_cost fX67_cost_J31 yco
  rw [zal_in hn.1, zal_in hn.1, hk.1]
  by_cases q : A 501 n 0 = 2
  · rw [zitF (fun x => x q), zal_in hn.1, le.1, zcl_some (p_coT l1 B), zret_ap, if_pos q]
  · rw [zitT q, zal_in hn.1, li.1, zcl_some (p_coT l2 B), zret_ap, if_neg q]
theorem r_setLen {N : Int} {A B : zM} (h : I_TB N A B) {n s : Int} (n0 : yLv A n) (nk : A 501 n 0 = 2) (hs : 0 ≤ s ∧ s ≤ 1024) :
    ∃ r A' B', fX12_newLength n s A = some (r, A') ∧ fX67_setLength n s B = some (r, B') ∧ (r = 0 ∨ r = 1) ∧ I_TB N A' B' ∧ yTr A A' := by
  have hnd := h
  obtain ⟨acc, rho, K, hT, b1, b2, b3⟩ := hnd
  have nz : n ≠ 0 := fun e => by rw [e, hT.nd.rt.1] at nk; omega
  obtain ⟨p0, pk, -⟩ := hT.nd.pr n n0 nz
  obtain ⟨a0, ak, al⟩ := y_ac hT.nd hT.cb hT.ac p0 pk
  have us := y_us0 hT a0 ak al
  have usT := hT.nd.us _ a0
  have le := hT.nd.le n n0
  rw [if_pos nk] at le
  have pa := hT.nd.pa n n0
  have zs := zrec_rng hs
  have zL := zrec_rng le.2
  have c2 := p_coT (k := 2) (s := s) hs B
  have cs : zco 2 s = 1 + zrec s := by unfold zco; rw [if_pos rfl]
  have cn : yco A n = 1 + zrec (A 522 n 0) := by unfold yco zco; rw [if_pos nk, if_pos nk]
  obtain ⟨e4, e5⟩ := p_bears hT p0 pk (c := zrec s - zrec (A 522 n 0)) (by omega)
  have cT := p_costT hT.nd n0
  unfold fX12_newLength fX67_setLength
  rw [znn_in (by omega), zgf_ap, zcl_some (p_rec hs A), zgf_ap, zcl_some (p_rec le.2 A), zi_of (by omega), zcl_some e4, zcl_some c2, zcl_some cT, zlt_ap, cs, cn, zal_in n0.1, pa, zi_of (by omega), show 1 + zrec s - (1 + zrec (A 522 n 0)) = zrec s - zrec (A 522 n 0) by omega, zcl_some e5]
  by_cases q : A 517 (acc (A 504 n 0)) 0 + (zrec s - zrec (A 522 n 0)) ≤ A 516 (acc (A 504 n 0)) 0
  · have acT := (p_acc hT.nd (by have := hT.cb; omega) hT.ac.eq p0 pk).2.1
    rw [zbi_pos q, zitT (by omega), zitT (by omega), zal_in n0.1, pa, zcl_some acT, zal_in a0.1, zas_in a0.1, usT, zi_of (by omega)]
    generalize hM : zup B 6808 0 (acc (A 504 n 0)) (A 517 (acc (A 504 n 0)) 0 + (zrec s - zrec (A 522 n 0))) = M
    have m06 : M 6806 0 n = A 522 n 0 := by rw [← hM]; simp (disch := omega) only [zrd_hit, zrd_miss]; exact le.1
    rw [zal_in n0.1, m06]
    -- the twin's words
    have lp : ∃ M2, zlp (fX67_setLength_B55 n s) zBIG (A 522 n 0) M = fX67_setLength_J81 n s M2 ∧ (∀ i, ¬ (1024 * n + A 522 n 0 ≤ i ∧ i < 1024 * n + s) → M2 6816 0 i = M 6816 0 i) ∧ (∀ k, A 522 n 0 ≤ k → k < s → M2 6816 0 (1024 * n + k) = 0) ∧ (∀ f, ¬ f = 6816 → M2 f = M f) := by
      by_cases c : A 522 n 0 ≤ s
      · have := p_slT_loop n0.1 hs (M := M) (L := A 522 n 0) le.2.1 (s - A 522 n 0).toNat (A 522 n 0) zBIG (by omega) (by omega) (by show _ < 1048576; omega)
        rw [zfil_nil] at this
        refine ⟨_, this, ?_, ?_, ?_⟩
        · intro i hi
          exact zfil_miss (by omega)
        · intro k k0 k1
          exact zfil_hit (f := 6816) (x := 0) (g := fun _ => 0) (by omega)
        · intro f hf
          funext x i
          exact zfil_miss (fun z => hf z.1)
      · refine ⟨M, ?_, fun _ _ => rfl, fun k k0 k1 => by omega, fun _ _ => rfl⟩
        show fX67_setLength_B55 n s (zlp (fX67_setLength_B55 n s) 1048575) (A 522 n 0) M = _
        generalize zlp (fX67_setLength_B55 n s) 1048575 = g
        unfold fX67_setLength_B55
        rw [zitT (by omega)]
    obtain ⟨M2, l1, l2, l3, l4⟩ := lp
    have j : fX67_setLength_J81 n s M2 = some (1, zup M2 6806 0 n s) := by unfold fX67_setLength_J81; rw [zas_in n0.1, zret_ap]
    rw [l1, j]
    have mc : ∀ f, ¬ f = 6816 → ¬ f = 6808 → M2 f = B f := fun f h1 h2 => by rw [l4 f h1, ← hM, zup_col h2]
    have m16 : M 6816 = B 6816 := by rw [← hM, zup_col (by decide)]
    obtain ⟨A', e1, e2, e3⟩ := r_resize (B' := zup M2 6806 0 n s) hT (n := n) (len' := s) n0 nk hs q
      (by
        intro f hf
        have d1 : ∀ f ∈ [6800, 6801, 6802, 6803, 6804, 6805, 6807, 6809, 6810, 6811, 6812, 6813, 6814, 6815, 6817, 6818, 6819], (¬ f = 6806) ∧ (¬ f = 6816) ∧ ¬ f = 6808 := by decide
        obtain ⟨d1, d2, d3⟩ := d1 f hf
        rw [zup_col d1, mc f d2 d3])
      (by
        intro i
        by_cases e : i = n
        · rw [if_pos e]; simp (disch := omega) only [zrd_hit, zrd_miss]
        · rw [if_neg e]; simp (disch := omega) only [zrd_hit, zrd_miss, mc 6806 (by decide) (by decide)])
      (by
        intro i
        rw [zrd_miss (by omega), l4 6808 (by decide), ← hM]
        by_cases e : i = acc (A 504 n 0)
        · rw [if_pos e]; simp (disch := omega) only [zrd_hit, zrd_miss, usT]
        · rw [if_neg e]; simp (disch := omega) only [zrd_hit, zrd_miss])
      (by
        intro i hi
        rw [zrd_miss (by omega), l2 i hi, m16])
      (by
        intro k k0 k1
        rw [zrd_miss (by omega)]
        exact l3 k k0 k1)
    have cr := fr_fX1_resize n s A 0 A' e1
    rw [zcl_some e1, zret_ap]
    exact ⟨1, A', _, rfl, rfl, Or.inr rfl, ⟨acc, rho, K, e2, b1, by rw [zrd_miss (by omega), mc 6811 (by decide) (by decide)]; exact b2, by rw [cr 207 (by decide)]; exact b3⟩, yTr_co (yCo_fr (fr_fX1_resize n s) e1 (by decide))⟩
  · rw [zbi_neg q, zitF (fun x => x rfl), zitF (fun x => x rfl), zret_ap, zret_ap]
    exact ⟨0, A, B, rfl, rfl, Or.inl rfl, h, yTr_rf⟩
