set_option linter.unusedSimpArgs false
set_option linter.unusedVariables false
/-! a node is made, on both sides -/
theorem zup_id {M : zM} {f : Nat} {x i v : Int} (h : M f x i = v) : zup M f x i v = M := by
  funext f' x' i'
  unfold zup
  by_cases q : f' = f ∧ x' = x ∧ i' = i
  · rw [if_pos q]; obtain ⟨rfl, rfl, rfl⟩ := q; exact h.symm
  · rw [if_neg q]
theorem zsm_01 {f : Int → Int} (n : Nat) (h : ∀ k : Int, 0 ≤ k → k < n → 0 ≤ f k ∧ f k ≤ 1) : 0 ≤ zsm f n ∧ zsm f n ≤ n := by
  refine ⟨zsm_nn n (fun k a b => (h k a b).1), ?_⟩
  have := zsm_le (f := f) (g := fun _ => 1) n (fun k a b => (h k a b).2)
  rw [zsm_const] at this
  omega
theorem yco_nn {A B : zM} (h : I_nd A B) {m : Int} (hm : yLv A m) : 0 ≤ yco A m := by
  have a := yco_own h hm
  have b := yown_pos h hm
  have c := h.li m hm
  omega
theorem y_us0 {A B : zM} {acc rho : Int → Int} {K : Int} (h : I_T A B acc rho K) {a : Int} (h0 : yLv A a) (hk : A 501 a 0 = 1) (hl : 0 < A 516 a 0) : 0 ≤ A 517 a 0 ∧ A 517 a 0 ≤ 255 := by
  have u := h.ac.us a h0 hk hl
  have v := h.ac.le a h0 hk hl
  have li := h.nd.li a h0
  rw [if_pos hk] at li
  refine ⟨?_, by omega⟩
  rw [u]
  refine zsm_nn 256 (fun m m0 m1 => ?_)
  show 0 ≤ if ((0 < m ∧ m < 256) ∧ 0 < A 501 m 0) ∧ acc (A 504 m 0) = a then yco A m else 0
  by_cases q : ((0 < m ∧ m < 256) ∧ 0 < A 501 m 0) ∧ acc (A 504 m 0) = a
  · rw [if_pos q]; exact yco_nn h.nd ⟨by omega, q.1.2⟩
  · rw [if_neg q]; exact Int.le_refl _
theorem y_acc4 {A B : zM} {acc rho : Int → Int} {K n : Int} (h : I_T A B acc rho K) (hn : A 501 n 0 = 0) {d : Int} (hd : yLv A d) (hk : A 501 d 0 = 1) :
    (∀ A4 : zM, (∀ x, x ≠ n → A4 516 x 0 = A 516 x 0 ∧ A4 504 x 0 = A 504 x 0) → fX1_account d A4 = some (acc d, A4)) ∧ (∀ B4 : zM, (∀ x, x ≠ n → B4 6807 0 x = B 6807 0 x ∧ B4 6802 0 x = B 6802 0 x) → fX67_account d B4 = some (acc d, B4)) := by
  obtain ⟨p1, p2, -⟩ := p_acc h.nd (by have := h.cb; omega) h.ac.eq hd hk
  have ne : ∀ x, yLv A x → x ≠ n := fun x hx e => by rw [e] at hx; omega
  have up : ∀ x, yLv A x → A 501 x 0 = 1 → A 516 x 0 = 0 → yLv A (A 504 x 0) ∧ A 501 (A 504 x 0) 0 = 1 := by
    intro x hx hk z
    have : x ≠ 0 := fun e => by rw [e, h.nd.rt.2.2.1] at z; omega
    obtain ⟨q1, q2, -⟩ := h.nd.pr x hx this
    exact ⟨q1, q2⟩
  constructor
  · intro A4 h4
    refine p_accM (A := A) (P := fun x => yLv A x ∧ A 501 x 0 = 1) ?_ zBIG d (acc d) ⟨hd, hk⟩ p1
    rintro x ⟨hx, hk⟩
    obtain ⟨q1, q2⟩ := h4 x (ne x hx)
    exact ⟨hx.1.1, q1, fun z => ⟨q2, up x hx hk z⟩⟩
  · intro B4 h4
    refine p_accMT (A := B) (P := fun x => yLv A x ∧ A 501 x 0 = 1) ?_ zBIG d (acc d) ⟨hd, hk⟩ p2
    rintro x ⟨hx, hk⟩
    obtain ⟨q1, q2⟩ := h4 x (ne x hx)
    refine ⟨hx.1, q1, fun z => ⟨q2, ?_⟩⟩
    rw [h.nd.pa x hx]
    exact up x hx hk (by rw [← (h.nd.li x hx).1]; exact z)
theorem p_gfT {B : zM} {n d k ep eg : Int} (hn : 0 ≤ n ∧ n < 256) (hd : 0 ≤ d ∧ d < 256) (h2 : B 6802 0 n = d) (h0 : B 6800 0 n = k) : fX67_giveFirsts n ep eg B = zlp (fX67_giveFirsts_B29 n ep eg (if k = 1 then 2 * d else 2 * d + 1)) zBIG 0 B := by
  unfold fX67_giveFirsts fX67_giveFirsts_J23
  rw [zal_in hn, zal_in hn, h2, h0, zi_of (x := 2 * d) (by omega)]
  by_cases q : k = 1
  · rw [zitF (fun x => x q), zlt_ap, zi_of (by omega), if_pos q, show 2 * d + 0 = 2 * d by omega]
  · rw [zitT q, zlt_ap, zi_of (by omega), if_neg q]
theorem r_make {A B : zM} {acc rho : Int → Int} {K : Int} (h : I_T A B acc rho K) {d k w l s lim len : Int} (hd : yLv A d ∧ A 501 d 0 = 1) (hk : 1 ≤ k ∧ k ≤ 3) (hw : isNm w) (hu : ∀ m, yEn A d m → A 502 m 0 ≠ w) (hl : 0 ≤ l ∧ l < 32) (he : k ≠ 1 → l = A 503 d 0)
    (hs : 0 ≤ s ∧ s ≤ (if k = 1 then 255 else if k = 2 then 1024 else 0)) (hlim : lim = if k = 1 then s else 0) (hlen : len = if k = 2 then s else 0) (hr : A 517 (acc d) 0 + zco k s ≤ A 516 (acc d) 0)
    (kb : K + 1 < 900000) (cb : B 6811 0 0 + 1 < 900000) (vb : A 207 0 0 + 1 < 2000000000) :
    ∃ n A' B1 B' bx, fX1_make d k w l lim A = some (n, A') ∧ fX67_make k d w l s B = some (n, B1) ∧ fX67_giveFirsts n (-1) (-1) B1 = some (0, B') ∧ ((0 < n ∧ n < 256) ∧ A 501 n 0 = 0) ∧
      yMkA A A' n d k w l lim (acc d) (zco k (if k = 2 then 0 else lim)) bx ∧ yMkB B B1 n d k w l lim (acc d) (zco k s) len ∧ B1 6812 0 n = 0 ∧
      (∀ f x i, ¬ (x = 0 ∧ ((f = 6813 ∧ 18 * n ≤ i ∧ i < 18 * n + 18) ∨ (f = 6812 ∧ i = n))) → B' f x i = B1 f x i) ∧ A' 207 0 0 = A 207 0 0 + 1 ∧
      I_T A' (zup (zup B' 6806 0 n 0) 6808 0 (acc d) (B 6808 0 (acc d) + zco k (if k = 2 then 0 else lim))) (fun x => if x = n then (if lim = 0 then acc d else n) else acc x) (fun x => if x = n then K else rho x) (K + 1) := by
  have hac := y_ac h.nd h.cb h.ac hd.1 hd.2
  obtain ⟨a0, ak, al⟩ := hac
  have us := y_us0 h a0 ak al
  have usT := h.nd.us _ a0
  have sr : 0 ≤ s ∧ s ≤ 1024 := by
    have := hs.2
    split at this
    · omega
    · split at this <;> omega
  have lr : 0 ≤ lim ∧ lim ≤ 255 := by
    rw [hlim]
    by_cases q : k = 1
    · rw [if_pos q]; have := hs.2; rw [if_pos q] at this; omega
    · rw [if_neg q]; omega
  have cc : zco k (if k = 2 then 0 else lim) ≤ zco k s ∧ 1 ≤ zco k (if k = 2 then 0 else lim) ∧ (k = 3 → 17 ≤ zco k s) ∧ (k ≠ 2 → zco k (if k = 2 then 0 else lim) = zco k s) := by
    unfold zco zrec
    by_cases k2 : k = 2
    · simp only [if_pos k2]
      refine ⟨?_, ?_, ?_, ?_⟩ <;> first | trivial | omega | (intro e; first | trivial | omega | rfl)
    · simp only [if_neg k2]
      by_cases k3 : k = 3
      · simp only [if_pos k3]
        refine ⟨?_, ?_, ?_, ?_⟩ <;> first | trivial | omega | (intro e; first | trivial | omega | rfl)
      · simp only [if_neg k3]
        rw [hlim, if_pos (by omega)]
        refine ⟨?_, ?_, ?_, ?_⟩ <;> first | trivial | omega | (intro e; first | trivial | omega | rfl)
  obtain ⟨rm1, rm2, rm3⟩ := y_room h a0 ak al hr
  obtain ⟨n, n1, n2, n3, n4⟩ := p_free h.nd (rm1 (by omega))
  have hnd : n ≠ d := fun e => by rw [← e] at hd; omega
  have han : acc d ≠ n := fun e => by rw [e] at a0; omega
  obtain ⟨ac4, ac4T⟩ := y_acc4 h n2 hd.1 hd.2
  have hlen0 := h.sb.en d hd.1
  have e01 := zsm_01 (f := fun m => if yEn A d m then 1 else 0) 256 (fun m _ _ => by show 0 ≤ (if yEn A d m then (1 : Int) else 0) ∧ (if yEn A d m then (1 : Int) else 0) ≤ 1; split <;> omega)
  have m01 := zsm_01 (f := fun n => if 0 < A 501 n 0 then 1 else 0) 256 (fun m _ _ => by show 0 ≤ (if 0 < A 501 m 0 then (1 : Int) else 0) ∧ (if 0 < A 501 m 0 then (1 : Int) else 0) ≤ 1; split <;> omega)
  have mn := h.mn
  have cm : 0 ≤ B 6811 0 0 := by have := h.nd.co d hd.1; omega
  -- the twin
  have eT := p_makeT (B := B) (n := n) (d := d) (k := k) (w := w) (l := l) (s := s) (a := acc d) (lim := lim) (len := len) (c := zco k s) n1 n4 hk sr hlim hlen rfl ⟨cm, h.cb⟩
    (ac4T _ (by
      intro x hx
      unfold yMk2 yMk1
      constructor
      · simp (disch := omega) only [zrd_hit, zrd_miss, zfil_miss]
      · simp (disch := omega) only [zrd_hit, zrd_miss, zfil_miss])) ⟨a0.1.1, a0.1.2, han⟩ (by rw [usT]; exact us)
  obtain ⟨fT, fT0⟩ := p_mkT_facts (B := B) (n := n) (d := d) (k := k) (w := w) (l := l) (a := acc d) (lim := lim) (len := len) (c := zco k s) n1 han
  generalize hB1 : zup (yMk2 B n d k w l lim len) 6808 0 (acc d) (B 6808 0 (acc d) + zco k s) = B1 at eT fT fT0
  -- lists
  have c15 : B1 6815 = B 6815 := fT.cco 6815 (by decide)
  have tk := r_take (A := zup (yBg A n k w l) 516 n 0 lim) (B := B1) (n := n) (d := d) (c2 := if k = 1 then 3 * d + 2 else 3 * d + 1) (fr := if k = 1 then 2 * d else 2 * d + 1) (m := 0) (m2 := B 6814 0 (if k = 1 then 2 * d else 2 * d + 1)) (ep := -1) (eg := -1) (by omega) hd.1.1 hnd
    (by by_cases q : k = 1
        · rw [if_pos q, if_pos q]; exact Or.inr ⟨rfl, rfl⟩
        · rw [if_neg q, if_neg q]; exact Or.inl ⟨rfl, rfl⟩)
    (I_al_nil yBg_602.1 rfl) fT0
    (by
      by_cases q : k = 1
      · rw [if_pos q, if_pos q]
        exact I_al_fr (fun f i hf => yBg_600 f _ i hf (by omega)) (fun i _ _ => by rw [c15]) rfl (h.ls.fd d hd.1)
      · rw [if_neg q, if_neg q]
        exact I_al_fr (fun f i hf => yBg_600 f _ i hf (by omega)) (fun i _ _ => by rw [c15]) rfl (h.ls.fs d hd.1))
    (by rw [fT.c6814, if_neg (by split <;> omega)]) (by omega)
    (by
      intro p q p0 q0 q8
      constructor
      · rintro ⟨k, k0, k1, -⟩; omega
      · rintro ⟨e, -⟩; omega)
  obtain ⟨A2, B', m', t1, t2, t3, t4, t5, t6⟩ := tk
  have eG : fX67_giveFirsts n (-1) (-1) B1 = some (0, B') := by
    rw [p_gfT (by omega) hd.1.1 (by rw [fT.c6802, if_pos rfl]) (by rw [fT.c6800, if_pos rfl])]
    exact t2
  -- the component
  have fr := h.bx.fr
  obtain ⟨A', bx, eC, fC, cb', cv, cl⟩ := p_makeC (A := A) (A2 := A2) (n := n) (d := d) (k := k) (w := w) (l := l) (lim := lim) (a := acc d) (c := zco k (if k = 2 then 0 else lim)) ⟨n1, n2⟩ hd.1.1 hnd hk lr n3 t1 t5 (by omega)
    (by
      rcases h.sb.la d hd.1 hd.2 with ⟨q, -⟩ | ⟨q, -⟩
      · exact Or.inl q
      · exact Or.inr ⟨by omega, fun e => by rw [e] at q; omega⟩)
    ac4 ⟨a0.1.1, a0.1.2, han⟩ us rfl (by omega) ⟨h.vb.1, by omega⟩
    (by
      intro k3
      have f1 := rm2 (cc.2.2.1 k3)
      exact ⟨by omega, h.bx.fg _ (by omega) (by omega)⟩)
  refine ⟨n, A', B1, B', bx, eC, eT, eG, ⟨n1, n2⟩, fC, fT, fT0, t6, cv, ?_⟩
  have fB := yMkB_gf fT t6
  have fB0 : yMkB B (zup (zup B' 6806 0 n 0) 6808 0 (acc d) (B 6808 0 (acc d) + zco k (if k = 2 then 0 else lim))) n d k w l lim (acc d) (zco k (if k = 2 then 0 else lim)) 0 := by
    refine ⟨?_, ?_, ?_, ?_, ?_, ?_, ?_, ?_, ?_, ?_, ?_, ?_, ?_, ?_, ?_, ?_, ?_, ?_⟩
    · intro i; simp (disch := omega) only [zrd_hit, zrd_miss]; exact fB.c6800 i
    · intro i; simp (disch := omega) only [zrd_hit, zrd_miss]; exact fB.c6801 i
    · intro i; simp (disch := omega) only [zrd_hit, zrd_miss]; exact fB.c6802 i
    · intro i; simp (disch := omega) only [zrd_hit, zrd_miss]; exact fB.c6803 i
    · intro i; simp (disch := omega) only [zrd_hit, zrd_miss]; exact fB.c6804 i
    · intro i; simp (disch := omega) only [zrd_hit, zrd_miss]; exact fB.c6805 i
    · intro i
      by_cases e : i = n
      · rw [if_pos e]; simp (disch := omega) only [zrd_hit, zrd_miss]
      · rw [if_neg e]; simp (disch := omega) only [zrd_hit, zrd_miss, fB.c6806, if_neg e]
    · intro i; simp (disch := omega) only [zrd_hit, zrd_miss]; exact fB.c6807 i
    · intro i
      by_cases e : i = acc d
      · have : ¬ i = n := by rw [e]; exact han
        rw [if_neg this, if_pos e]; simp (disch := omega) only [zrd_hit, zrd_miss]
      · simp (disch := omega) only [zrd_hit, zrd_miss, fB.c6808]
        by_cases e' : i = n
        · rw [if_pos e', if_pos e']
        · rw [if_neg e', if_neg e', if_neg e, if_neg e]
    · intro i; simp (disch := omega) only [zrd_hit, zrd_miss]; exact fB.c6809 i
    · intro i; simp (disch := omega) only [zrd_hit, zrd_miss]; exact fB.c6810 i
    · simp (disch := omega) only [zrd_hit, zrd_miss]; exact fB.c6811
    · intro i e; simp (disch := omega) only [zrd_hit, zrd_miss]; exact fB.c6812 i e
    · intro i e; simp (disch := omega) only [zrd_hit, zrd_miss]; exact fB.c6813 i e
    · intro i; simp (disch := omega) only [zrd_hit, zrd_miss]; exact fB.c6814 i
    · intro i; simp (disch := omega) only [zrd_hit, zrd_miss]; exact fB.c6816 i
    · intro i; simp (disch := omega) only [zrd_hit, zrd_miss]; exact fB.c6817 i
    · intro f hm
      have d1 : ∀ f ∈ [6815, 6818, 6819], ¬ f = 6806 ∧ ¬ f = 6808 := by decide
      have d1 := d1 f hm
      rw [zup_col d1.2, zup_col d1.1]
      exact fB.cco f hm
  refine T_mk h ⟨⟨n1, n2⟩, hd, hk, hw, hu, hl, he, ⟨lr.1, ?_⟩, rfl, rfl, by omega⟩ fC fB0 ?_ ?_ kb cb (by have := h.vb; omega)
  · rw [hlim]
    by_cases q : k = 1
    · rw [if_pos q, if_pos q]; have := hs.2; rw [if_pos q] at this; exact this
    · rw [if_neg q, if_neg q]; omega
  · have e12 : (zup (zup B' 6806 0 n 0) 6808 0 (acc d) (B 6808 0 (acc d) + zco k (if k = 2 then 0 else lim))) 6812 0 n = m' := by simp (disch := omega) only [zrd_hit, zrd_miss]; exact t4
    rw [e12]
    exact I_al_fr (fun f i hf => cl f _ i hf) (fun i _ _ => by simp (disch := omega) only [zrd_hit, zrd_miss]) rfl t3
  · intro k3
    exact ⟨rm2 (cc.2.2.1 k3), cb' k3⟩
