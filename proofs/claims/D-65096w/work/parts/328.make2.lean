set_option linter.unusedSimpArgs false
set_option linter.unusedVariables false
/-! a node is made: the walk of both sides -/
theorem p_mk73 {A : zM} {n d k w lim a c : Int} (hn : 0 < n ∧ n < 256) (hd : 0 ≤ d ∧ d < 256) (hnd : n ≠ d) (hw : A 502 n 0 = w) (hk : A 501 n 0 = k) (hkr : 1 ≤ k ∧ k ≤ 3) (hle : A 522 n 0 = 0) (hli : A 516 n 0 = lim) (hlr : 0 ≤ lim ∧ lim ≤ 255)
    (he : 0 ≤ A 515 d 0 ∧ A 515 d 0 ≤ 256) (hl : A 514 d 0 = -1 ∨ (0 ≤ A 514 d 0 ∧ A 514 d 0 ≠ n)) (hacc : ∀ A4 : zM, (∀ x, x ≠ n → A4 516 x 0 = A 516 x 0 ∧ A4 504 x 0 = A 504 x 0) → fX1_account d A4 = some (a, A4)) (ha : 0 ≤ a ∧ a < 256 ∧ a ≠ n)
    (hu : 0 ≤ A 517 a 0 ∧ A 517 a 0 ≤ 255) (hc : c = zco k (if k = 2 then 0 else lim)) (hm : 0 ≤ A 206 0 0 ∧ A 206 0 0 ≤ 256) (hv : 1 ≤ A 207 0 0 ∧ A 207 0 0 < 2000000000) :
    ∃ A', fX1_make_J73 d n A = some (n, A') ∧ (∀ i, A' 504 i 0 = if i = n then d else A 504 i 0) ∧ (∀ i, A' 505 i 0 = if i = n then A 514 d 0 else A 505 i 0) ∧ (∀ i, 0 ≤ i → A' 506 i 0 = if i = n then -1 else if i = A 514 d 0 then n else A 506 i 0) ∧
      (∀ i, A' 513 i 0 = if i = d ∧ A 514 d 0 < 0 then n else A 513 i 0) ∧ (∀ i, A' 514 i 0 = if i = d then n else A 514 i 0) ∧ (∀ i, A' 515 i 0 = if i = d then A 515 d 0 + 1 else A 515 i 0) ∧
      (∀ i, A' 507 i 0 = if i = n then A 300 0 (ybk d w) else A 507 i 0) ∧ (∀ i, A' 300 0 i = if i = ybk d w then n else A 300 0 i) ∧ (∀ i, A' 517 i 0 = if i = a then A 517 a 0 + c else A 517 i 0) ∧
      A' 206 0 0 = A 206 0 0 + 1 ∧ A' 207 0 0 = A 207 0 0 + 1 ∧ (∀ f, ¬ f ∈ [504, 505, 506, 513, 514, 515, 507, 300, 517, 206, 207] → A' f = A f) := by
  obtain ⟨A1, e1, x504, x505, x506, x513, x514, x515⟩ := p_append (A := A) (d := d) (n := n) (by omega) hd.1 hnd he hl
  have fr := fr_fX4_append d n A 0 A1 e1
  have x501 : A1 501 = A 501 := fr 501 (by decide)
  have x502 : A1 502 = A 502 := fr 502 (by decide)
  have x522 : A1 522 = A 522 := fr 522 (by decide)
  have x516 : A1 516 = A 516 := fr 516 (by decide)
  have x300 : A1 300 = A 300 := fr 300 (by decide)
  have x507 : A1 507 = A 507 := fr 507 (by decide)
  have x517 : A1 517 = A 517 := fr 517 (by decide)
  have x206 : A1 206 = A 206 := fr 206 (by decide)
  have x207 : A1 207 = A 207 := fr 207 (by decide)
  have e2 := p_ixadd (A := A1) (n := n) (d := d) (w := w) (by omega) (by rw [x504, if_pos rfl]) hd.1 (by rw [x502]; exact hw)
  have br := ybk_rng d w
  generalize hA2 : zup (zup A1 507 n 0 (A1 300 0 (ybk d w))) 300 0 (ybk d w) n = A2 at e2
  have y501 : A2 501 n 0 = k := by rw [← hA2]; simp (disch := omega) only [zrd_hit, zrd_miss, x501]; exact hk
  have y522 : A2 522 n 0 = 0 := by rw [← hA2]; simp (disch := omega) only [zrd_hit, zrd_miss, x522]; exact hle
  have y516 : A2 516 n 0 = lim := by rw [← hA2]; simp (disch := omega) only [zrd_hit, zrd_miss, x516]; exact hli
  have e3 := p_cost (A := A2) (n := n) (by omega) (by omega) (by omega)
  have ec : yco A2 n = c := by unfold yco; rw [y501, y522, y516, hc]
  rw [ec] at e3
  have e4 := hacc A2 (by
    intro x hx
    rw [← hA2]
    simp (disch := omega) only [zrd_hit, zrd_miss, x516, x504, if_neg hx, and_self])
  have y517 : ∀ i, A2 517 i 0 = A 517 i 0 := by intro i; rw [← hA2]; simp (disch := omega) only [zrd_hit, zrd_miss, x517]
  have y206 : A2 206 0 0 = A 206 0 0 := by rw [← hA2]; simp (disch := omega) only [zrd_hit, zrd_miss, x206]
  have y207 : A2 207 0 0 = A 207 0 0 := by rw [← hA2]; simp (disch := omega) only [zrd_hit, zrd_miss, x207]
  have cr : 0 ≤ c ∧ c ≤ 1000 := by
    rw [hc]; unfold zco zrec
    split <;> (try split) <;> omega
  have e5 : fX1_charge d c A2 = some (0, zup A2 517 a 0 (A 517 a 0 + c)) := by
    unfold fX1_charge
    simp (disch := omega) only [↓zal_in, ↓zas_in, ↓zib_in, ↓znn_in, ↓zne_in, ↓zgf_ap, ↓zpf_ap, ↓zpb_in, ↓zlt_ap, ↓zret_ap, ↓zrb_in, zitT, zitF, zi_of, zl_of, zrd_hit, zrd_miss, if_true, if_false, not_true_eq_false, not_false_eq_true, zcl_some e4, y517]
  refine ⟨zup (zup (zup A2 517 a 0 (A 517 a 0 + c)) 206 0 0 (A 206 0 0 + 1)) 207 0 0 (A 207 0 0 + 1), ?_, ?_, ?_, ?_, ?_, ?_, ?_, ?_, ?_, ?_, ?_, ?_, ?_⟩
  · unfold fX1_make_J73
    simp (disch := omega) only [↓zal_in, ↓zas_in, ↓zib_in, ↓znn_in, ↓zne_in, ↓zgf_ap, ↓zpf_ap, ↓zpb_in, ↓zlt_ap, ↓zret_ap, ↓zrb_in, zitT, zitF, zi_of, zl_of, zrd_hit, zrd_miss, if_true, if_false, not_true_eq_false, not_false_eq_true, zcl_some e1, zcl_some e2, zcl_some e3, zcl_some e5, y206, y207]
  · intro i; simp (disch := omega) only [zrd_hit, zrd_miss, ← hA2]; exact x504 i
  · intro i; simp (disch := omega) only [zrd_hit, zrd_miss, ← hA2]; exact x505 i
  · intro i i0; simp (disch := omega) only [zrd_hit, zrd_miss, ← hA2]; exact x506 i i0
  · intro i; simp (disch := omega) only [zrd_hit, zrd_miss, ← hA2]; exact x513 i
  · intro i; simp (disch := omega) only [zrd_hit, zrd_miss, ← hA2]; exact x514 i
  · intro i; simp (disch := omega) only [zrd_hit, zrd_miss, ← hA2]; exact x515 i
  · intro i
    by_cases e : i = n
    · rw [if_pos e]; simp (disch := omega) only [zrd_hit, zrd_miss, ← hA2, x300]
    · rw [if_neg e]; simp (disch := omega) only [zrd_hit, zrd_miss, ← hA2, x507]
  · intro i
    by_cases e : i = ybk d w
    · rw [if_pos e]; simp (disch := omega) only [zrd_hit, zrd_miss, ← hA2, x300]
    · rw [if_neg e]; simp (disch := omega) only [zrd_hit, zrd_miss, ← hA2, x300]
  · intro i
    by_cases e : i = a
    · rw [if_pos e]; simp (disch := omega) only [zrd_hit, zrd_miss]
    · rw [if_neg e]; simp (disch := omega) only [zrd_hit, zrd_miss, y517]
  · simp (disch := omega) only [zrd_hit, zrd_miss]
  · simp (disch := omega) only [zrd_hit, zrd_miss]
  · intro f hf
    simp only [List.mem_cons, List.not_mem_nil, or_false, not_or] at hf
    rw [zup_col (by omega), zup_col (by omega), zup_col (by omega), ← hA2, zup_col (by omega), zup_col (by omega)]
    exact fr f (by simp only [List.mem_cons, List.not_mem_nil, or_false, not_or]; omega)
theorem yBg_501 {A : zM} {n k w l lim : Int} : ∀ i, zup (yBg A n k w l) 516 n 0 lim 501 i 0 = if i = n then k else A 501 i 0 := by
  intro i
  by_cases e : i = n <;> simp [yBg, zup, e]
theorem yBg_502 {A : zM} {n k w l lim : Int} : ∀ i, zup (yBg A n k w l) 516 n 0 lim 502 i 0 = if i = n then w else A 502 i 0 := by
  intro i
  by_cases e : i = n <;> simp [yBg, zup, e]
theorem yBg_503 {A : zM} {n k w l lim : Int} : ∀ i, zup (yBg A n k w l) 516 n 0 lim 503 i 0 = if i = n then l else A 503 i 0 := by
  intro i
  by_cases e : i = n <;> simp [yBg, zup, e]
theorem yBg_520 {A : zM} {n k w l lim : Int} : ∀ i, zup (yBg A n k w l) 516 n 0 lim 520 i 0 = if i = n then (-1) else A 520 i 0 := by
  intro i
  by_cases e : i = n <;> simp [yBg, zup, e]
theorem yBg_509 {A : zM} {n k w l lim : Int} : ∀ i, zup (yBg A n k w l) 516 n 0 lim 509 i 0 = if i = n then 4 else A 509 i 0 := by
  intro i
  by_cases e : i = n <;> simp [yBg, zup, e]
theorem yBg_510 {A : zM} {n k w l lim : Int} : ∀ i, zup (yBg A n k w l) 516 n 0 lim 510 i 0 = if i = n then 4 else A 510 i 0 := by
  intro i
  by_cases e : i = n <;> simp [yBg, zup, e]
theorem yBg_511 {A : zM} {n k w l lim : Int} : ∀ i, zup (yBg A n k w l) 516 n 0 lim 511 i 0 = if i = n then 4 else A 511 i 0 := by
  intro i
  by_cases e : i = n <;> simp [yBg, zup, e]
theorem yBg_512 {A : zM} {n k w l lim : Int} : ∀ i, zup (yBg A n k w l) 516 n 0 lim 512 i 0 = if i = n then 0 else A 512 i 0 := by
  intro i
  by_cases e : i = n <;> simp [yBg, zup, e]
theorem yBg_513 {A : zM} {n k w l lim : Int} : ∀ i, zup (yBg A n k w l) 516 n 0 lim 513 i 0 = if i = n then (-1) else A 513 i 0 := by
  intro i
  by_cases e : i = n <;> simp [yBg, zup, e]
theorem yBg_514 {A : zM} {n k w l lim : Int} : ∀ i, zup (yBg A n k w l) 516 n 0 lim 514 i 0 = if i = n then (-1) else A 514 i 0 := by
  intro i
  by_cases e : i = n <;> simp [yBg, zup, e]
theorem yBg_515 {A : zM} {n k w l lim : Int} : ∀ i, zup (yBg A n k w l) 516 n 0 lim 515 i 0 = if i = n then 0 else A 515 i 0 := by
  intro i
  by_cases e : i = n <;> simp [yBg, zup, e]
theorem yBg_516 {A : zM} {n k w l lim : Int} : ∀ i, zup (yBg A n k w l) 516 n 0 lim 516 i 0 = if i = n then lim else A 516 i 0 := by
  intro i
  by_cases e : i = n <;> simp [yBg, zup, e]
theorem yBg_517 {A : zM} {n k w l lim : Int} : ∀ i, zup (yBg A n k w l) 516 n 0 lim 517 i 0 = if i = n then 0 else A 517 i 0 := by
  intro i
  by_cases e : i = n <;> simp [yBg, zup, e]
theorem yBg_521 {A : zM} {n k w l lim : Int} : ∀ i, zup (yBg A n k w l) 516 n 0 lim 521 i 0 = if i = n then 0 else A 521 i 0 := by
  intro i
  by_cases e : i = n <;> simp [yBg, zup, e]
theorem yBg_522 {A : zM} {n k w l lim : Int} : ∀ i, zup (yBg A n k w l) 516 n 0 lim 522 i 0 = if i = n then 0 else A 522 i 0 := by
  intro i
  by_cases e : i = n <;> simp [yBg, zup, e]
theorem yBg_cf {A : zM} {n k w l lim : Int} : ∀ f x i, ¬ f ∈ [501, 502, 503, 602, 520, 509, 510, 511, 512, 513, 514, 515, 516, 517, 521, 522] → zup (yBg A n k w l) 516 n 0 lim f x i = A f x i := by
  intro f x i hf
  simp only [List.mem_cons, List.not_mem_nil, or_false, not_or] at hf
  unfold yBg
  simp (disch := omega) only [zrd_hit, zrd_miss]
theorem yBg_602 {A : zM} {n k w l lim : Int} : zup (yBg A n k w l) 516 n 0 lim 602 (3 * n) 0 = 0 ∧ zup (yBg A n k w l) 516 n 0 lim 602 (3 * n + 1) 0 = 0 ∧ zup (yBg A n k w l) 516 n 0 lim 602 (3 * n + 2) 0 = 0 := by
  unfold yBg
  refine ⟨?_, ?_, ?_⟩ <;> simp (disch := omega) only [zrd_hit, zrd_miss]
theorem yBg_600 {A : zM} {n k w l lim : Int} : ∀ f x i, (f = 600 ∨ f = 601 ∨ f = 602) → ¬ (3 * n ≤ x ∧ x < 3 * n + 3) → zup (yBg A n k w l) 516 n 0 lim f x i = A f x i := by
  intro f x i hf hx
  unfold yBg
  simp (disch := omega) only [zrd_hit, zrd_miss]
theorem p_mkBox {A A2 : zM} {n d k w l lim : Int} (hn : 0 < n ∧ n < 256) (hd : 0 ≤ d ∧ d < 256) (hfree : fX1_free A = some (n, A))
    (htake : zlp (fX5_take_B2 (3 * n) (if k = 1 then 3 * d + 2 else 3 * d + 1)) zBIG 0 (zup (yBg A n k w l) 516 n 0 lim) = some (0, A2))
    (x204 : A2 204 0 0 = A 204 0 0) (x203 : ∀ i, A2 203 0 i = A 203 0 i) (x702 : ∀ i, A2 702 i 0 = A 702 i 0) (v520 : ∀ i, A2 520 i 0 = if i = n then -1 else A 520 i 0)
    (hb : k = 3 → (1 ≤ A 204 0 0 ∧ A 204 0 0 ≤ 15) ∧ 0 ≤ A 203 0 (A 204 0 0 - 1) ∧ A 203 0 (A 204 0 0 - 1) < 15) :
    ∃ A3 bx, fX1_make d k w l lim A = fX1_make_J73 d n A3 ∧ (k = 3 → bx = A 203 0 (A 204 0 0 - 1)) ∧ A3 204 0 0 = (if k = 3 then A 204 0 0 - 1 else A 204 0 0) ∧ (∀ i, A3 702 i 0 = if k = 3 ∧ i = bx then 0 else A 702 i 0) ∧ (∀ i, A3 520 i 0 = if i = n then bx else A 520 i 0) ∧ (∀ f, ¬ f ∈ [204, 702, 520] → A3 f = A2 f) := by
  have ein : fX4_initial d k (zup (yBg A n k w l) 516 n 0 lim) = some (if k = 1 then 3 * d + 2 else 3 * d + 1, zup (yBg A n k w l) 516 n 0 lim) := by
    unfold fX4_initial
    by_cases q : k = 1
    · simp (disch := omega) only [↓zal_in, ↓zas_in, ↓zib_in, ↓znn_in, ↓zne_in, ↓zgf_ap, ↓zpf_ap, ↓zpb_in, ↓zlt_ap, ↓zret_ap, ↓zrb_in, zitT, zitF, zi_of, zl_of, zrd_hit, zrd_miss, if_true, if_false, not_true_eq_false, not_false_eq_true, if_pos q]
    · simp (disch := omega) only [↓zal_in, ↓zas_in, ↓zib_in, ↓znn_in, ↓zne_in, ↓zgf_ap, ↓zpf_ap, ↓zpb_in, ↓zlt_ap, ↓zret_ap, ↓zrb_in, zitT, zitF, zi_of, zl_of, zrd_hit, zrd_miss, if_true, if_false, not_true_eq_false, not_false_eq_true, if_neg q]
  have etk : fX5_take (3 * n) (if k = 1 then 3 * d + 2 else 3 * d + 1) (zup (yBg A n k w l) 516 n 0 lim) = some (0, A2) := htake
  by_cases q : k = 3
  · obtain ⟨b1, b2, b3⟩ := hb q
    refine ⟨zup (zup (zup A2 204 0 0 (A 204 0 0 - 1)) 520 n 0 (A 203 0 (A 204 0 0 - 1))) 702 (A 203 0 (A 204 0 0 - 1)) 0 0, A 203 0 (A 204 0 0 - 1), ?_, fun _ => rfl, ?_, ?_, ?_, ?_⟩
    · unfold fX1_make
      rw [zcl_some hfree, znn_in (by omega), zcl_some (p_begin A n k w l), zpf_ap, znn_in (by omega), zcl_some ein, zcl_some etk]
      simp (disch := omega) only [↓zal_in, ↓zas_in, ↓zib_in, ↓znn_in, ↓zne_in, ↓zgf_ap, ↓zpf_ap, ↓zpb_in, ↓zlt_ap, ↓zret_ap, ↓zrb_in, zitT, zitF, zi_of, zl_of, zrd_hit, zrd_miss, if_true, if_false, not_true_eq_false, not_false_eq_true, x204, x203]
    · rw [if_pos q]; simp (disch := omega) only [zrd_hit, zrd_miss]
    · intro i
      by_cases e : i = A 203 0 (A 204 0 0 - 1)
      · rw [if_pos ⟨q, e⟩]; simp (disch := omega) only [zrd_hit, zrd_miss]
      · rw [if_neg (fun x => e x.2)]; simp (disch := omega) only [zrd_hit, zrd_miss, x702]
    · intro i
      by_cases e : i = n
      · rw [if_pos e]; simp (disch := omega) only [zrd_hit, zrd_miss]
      · rw [if_neg e]; simp (disch := omega) only [zrd_hit, zrd_miss, v520, if_neg e]
    · intro f hf
      simp only [List.mem_cons, List.not_mem_nil, or_false, not_or] at hf
      rw [zup_col (by omega), zup_col (by omega), zup_col (by omega)]
  · refine ⟨A2, -1, ?_, fun x => absurd x q, ?_, ?_, v520, fun _ _ => rfl⟩
    · unfold fX1_make
      rw [zcl_some hfree, znn_in (by omega), zcl_some (p_begin A n k w l), zpf_ap, znn_in (by omega), zcl_some ein, zcl_some etk, zitT q]
    · rw [if_neg q]; exact x204
    · intro i
      rw [if_neg (fun x => q x.1)]
      exact x702 i
theorem p_makeC {A A2 : zM} {n d k w l lim a c : Int} (hn : (0 < n ∧ n < 256) ∧ A 501 n 0 = 0) (hd : 0 ≤ d ∧ d < 256) (hnd : n ≠ d) (hkr : 1 ≤ k ∧ k ≤ 3) (hlr : 0 ≤ lim ∧ lim ≤ 255) (hfree : fX1_free A = some (n, A))
    (htake : zlp (fX5_take_B2 (3 * n) (if k = 1 then 3 * d + 2 else 3 * d + 1)) zBIG 0 (zup (yBg A n k w l) 516 n 0 lim) = some (0, A2)) (fr2 : ∀ f x i, ¬ (x = 3 * n ∧ (f = 600 ∨ f = 601 ∨ f = 602)) → A2 f x i = zup (yBg A n k w l) 516 n 0 lim f x i)
    (he : 0 ≤ A 515 d 0 ∧ A 515 d 0 ≤ 256) (hl : A 514 d 0 = -1 ∨ (0 ≤ A 514 d 0 ∧ A 514 d 0 ≠ n)) (hacc : ∀ A4 : zM, (∀ x, x ≠ n → A4 516 x 0 = A 516 x 0 ∧ A4 504 x 0 = A 504 x 0) → fX1_account d A4 = some (a, A4)) (ha : 0 ≤ a ∧ a < 256 ∧ a ≠ n)
    (hu : 0 ≤ A 517 a 0 ∧ A 517 a 0 ≤ 255) (hc : c = zco k (if k = 2 then 0 else lim)) (hm : 0 ≤ A 206 0 0 ∧ A 206 0 0 ≤ 256) (hv : 1 ≤ A 207 0 0 ∧ A 207 0 0 < 2000000000)
    (hb : k = 3 → (1 ≤ A 204 0 0 ∧ A 204 0 0 ≤ 15) ∧ 0 ≤ A 203 0 (A 204 0 0 - 1) ∧ A 203 0 (A 204 0 0 - 1) < 15) :
    ∃ A' bx, fX1_make d k w l lim A = some (n, A') ∧ yMkA A A' n d k w l lim a c bx ∧ (k = 3 → bx = A 203 0 (A 204 0 0 - 1)) ∧ A' 207 0 0 = A 207 0 0 + 1 ∧ (∀ f x i, f = 600 ∨ f = 601 ∨ f = 602 → A' f x i = A2 f x i) := by
  have r : ∀ f, ¬ (f = 600 ∨ f = 601 ∨ f = 602) → A2 f = zup (yBg A n k w l) 516 n 0 lim f := by
    intro f hf
    funext x i
    exact fr2 f x i (fun q => hf q.2)
  have cf : ∀ f x i, ¬ f ∈ [501, 502, 503, 602, 520, 509, 510, 511, 512, 513, 514, 515, 516, 517, 521, 522, 600, 601] → A2 f x i = A f x i := by
    intro f x i hf
    simp only [List.mem_cons, List.not_mem_nil, or_false, not_or] at hf
    rw [r f (by omega)]
    exact yBg_cf f x i (by simp only [List.mem_cons, List.not_mem_nil, or_false, not_or]; omega)
  have v501 : ∀ i, A2 501 i 0 = if i = n then k else A 501 i 0 := fun i => by rw [r 501 (by decide)]; exact yBg_501 i
  have v502 : ∀ i, A2 502 i 0 = if i = n then w else A 502 i 0 := fun i => by rw [r 502 (by decide)]; exact yBg_502 i
  have v503 : ∀ i, A2 503 i 0 = if i = n then l else A 503 i 0 := fun i => by rw [r 503 (by decide)]; exact yBg_503 i
  have v520 : ∀ i, A2 520 i 0 = if i = n then (-1) else A 520 i 0 := fun i => by rw [r 520 (by decide)]; exact yBg_520 i
  have v509 : ∀ i, A2 509 i 0 = if i = n then 4 else A 509 i 0 := fun i => by rw [r 509 (by decide)]; exact yBg_509 i
  have v510 : ∀ i, A2 510 i 0 = if i = n then 4 else A 510 i 0 := fun i => by rw [r 510 (by decide)]; exact yBg_510 i
  have v511 : ∀ i, A2 511 i 0 = if i = n then 4 else A 511 i 0 := fun i => by rw [r 511 (by decide)]; exact yBg_511 i
  have v512 : ∀ i, A2 512 i 0 = if i = n then 0 else A 512 i 0 := fun i => by rw [r 512 (by decide)]; exact yBg_512 i
  have v513 : ∀ i, A2 513 i 0 = if i = n then (-1) else A 513 i 0 := fun i => by rw [r 513 (by decide)]; exact yBg_513 i
  have v514 : ∀ i, A2 514 i 0 = if i = n then (-1) else A 514 i 0 := fun i => by rw [r 514 (by decide)]; exact yBg_514 i
  have v515 : ∀ i, A2 515 i 0 = if i = n then 0 else A 515 i 0 := fun i => by rw [r 515 (by decide)]; exact yBg_515 i
  have v516 : ∀ i, A2 516 i 0 = if i = n then lim else A 516 i 0 := fun i => by rw [r 516 (by decide)]; exact yBg_516 i
  have v517 : ∀ i, A2 517 i 0 = if i = n then 0 else A 517 i 0 := fun i => by rw [r 517 (by decide)]; exact yBg_517 i
  have v521 : ∀ i, A2 521 i 0 = if i = n then 0 else A 521 i 0 := fun i => by rw [r 521 (by decide)]; exact yBg_521 i
  have v522 : ∀ i, A2 522 i 0 = if i = n then 0 else A 522 i 0 := fun i => by rw [r 522 (by decide)]; exact yBg_522 i
  have c600 : ∀ f x i, (f = 600 ∨ f = 601 ∨ f = 602) → ¬ (3 * n ≤ x ∧ x < 3 * n + 3) → A2 f x i = A f x i := by
    intro f x i hf hx
    rw [fr2 f x i (by omega)]
    exact yBg_600 f x i hf hx
  have c601 : A2 602 (3 * n + 1) 0 = 0 ∧ A2 602 (3 * n + 2) 0 = 0 := by
    rw [fr2 _ _ _ (by omega), fr2 _ _ _ (by omega)]
    exact yBg_602.2
  obtain ⟨A3, bx, e3, hbx, f204, f702, f520, f3⟩ := p_mkBox (d := d) hn.1 hd hfree htake (cf 204 0 0 (by decide)) (fun i => cf 203 0 i (by decide)) (fun i => cf 702 i 0 (by decide)) v520 hb
  have g3 : ∀ f x i, ¬ f ∈ [204, 702, 520] → A3 f x i = A2 f x i := fun f x i hf => by rw [f3 f hf]
  have hdn : ¬ d = n := fun e => hnd e.symm
  have han : ¬ a = n := ha.2.2
  have u514 : A3 514 d 0 = A 514 d 0 := by rw [g3 _ _ _ (by decide), v514, if_neg hdn]
  have u515 : A3 515 d 0 = A 515 d 0 := by rw [g3 _ _ _ (by decide), v515, if_neg hdn]
  have u300 : ∀ i, A3 300 0 i = A 300 0 i := fun i => by rw [g3 _ _ _ (by decide), cf _ _ _ (by decide)]
  have u206 : A3 206 0 0 = A 206 0 0 := by rw [g3 _ _ _ (by decide), cf _ _ _ (by decide)]
  have u207 : A3 207 0 0 = A 207 0 0 := by rw [g3 _ _ _ (by decide), cf _ _ _ (by decide)]
  have u517 : A3 517 a 0 = A 517 a 0 := by rw [g3 _ _ _ (by decide), v517, if_neg han]
  obtain ⟨A', e4, x504, x505, x506, x513, x514, x515, x507, x300, x517, x206, x207, xf⟩ := p_mk73 (A := A3) (n := n) (d := d) (k := k) (w := w) (lim := lim) (a := a) (c := c) hn.1 hd hnd (by rw [g3 _ _ _ (by decide), v502, if_pos rfl]) (by rw [g3 _ _ _ (by decide), v501, if_pos rfl]) hkr (by rw [g3 _ _ _ (by decide), v522, if_pos rfl]) (by rw [g3 _ _ _ (by decide), v516, if_pos rfl]) hlr (by rw [u515]; exact he) (by rw [u514]; exact hl)
    (by
      intro A4 h4
      refine hacc A4 (fun x hx => ?_)
      obtain ⟨p1, p2⟩ := h4 x hx
      rw [p1, p2, g3 _ _ _ (by decide), g3 _ _ _ (by decide), v516, if_neg hx, cf _ _ _ (by decide)]
      exact ⟨rfl, rfl⟩) ha (by rw [u517]; exact hu) hc (by rw [u206]; exact hm) (by rw [u207]; exact hv)
  have w0 : ∀ f x i, ¬ f ∈ [504, 505, 506, 513, 514, 515, 507, 300, 517, 206, 207] → A' f x i = A3 f x i := fun f x i hf => by rw [xf f hf]
  refine ⟨A', bx, by rw [e3]; exact e4, ?_, hbx, by rw [x207, u207], ?_⟩
  · refine ⟨?_, ?_, ?_, ?_, ?_, ?_, ?_, ?_, ?_, ?_, ?_, ?_, ?_, ?_, ?_, ?_, ?_, ?_, ?_, ?_, ?_, ?_, ?_, ?_, ?_, ?_⟩
    · intro i; rw [w0 _ _ _ (by decide), g3 _ _ _ (by decide)]; exact v501 i
    · intro i; rw [w0 _ _ _ (by decide), g3 _ _ _ (by decide)]; exact v502 i
    · intro i; rw [w0 _ _ _ (by decide), g3 _ _ _ (by decide)]; exact v503 i
    · intro i; rw [x504, g3 _ _ _ (by decide), cf _ _ _ (by decide)]
    · intro i; rw [x505, u514, g3 _ _ _ (by decide), cf _ _ _ (by decide)]
    · intro i i0; rw [x506 i i0, u514, g3 _ _ _ (by decide), cf _ _ _ (by decide)]
    · intro i; rw [x507, u300, g3 _ _ _ (by decide), cf _ _ _ (by decide)]
    · intro i; rw [x300, u300]
    · intro i; rw [w0 _ _ _ (by decide), g3 _ _ _ (by decide)]; exact v509 i
    · intro i; rw [w0 _ _ _ (by decide), g3 _ _ _ (by decide)]; exact v510 i
    · intro i; rw [w0 _ _ _ (by decide), g3 _ _ _ (by decide)]; exact v511 i
    · intro i; rw [w0 _ _ _ (by decide), g3 _ _ _ (by decide)]; exact v512 i
    · intro i
      rw [x513, u514, g3 _ _ _ (by decide), v513]
      by_cases e : i = n
      · rw [if_pos e, if_pos e, if_neg (by omega)]
      · rw [if_neg e, if_neg e]
    · intro i
      rw [x514, g3 _ _ _ (by decide), v514]
      by_cases e : i = n
      · rw [if_pos e, if_pos e, if_neg (by omega)]
      · rw [if_neg e, if_neg e]
    · intro i
      rw [x515, u515, g3 _ _ _ (by decide), v515]
      by_cases e : i = n
      · rw [if_pos e, if_pos e, if_neg (by omega)]
      · rw [if_neg e, if_neg e]
    · intro i; rw [w0 _ _ _ (by decide), g3 _ _ _ (by decide)]; exact v516 i
    · intro i
      rw [x517, u517, g3 _ _ _ (by decide), v517]
      by_cases e : i = n
      · rw [if_pos e, if_pos e, if_neg (by omega)]
      · rw [if_neg e, if_neg e]
    · intro i; rw [w0 _ _ _ (by decide)]; exact f520 i
    · intro i; rw [w0 _ _ _ (by decide), g3 _ _ _ (by decide)]; exact v521 i
    · intro i; rw [w0 _ _ _ (by decide), g3 _ _ _ (by decide)]; exact v522 i
    · rw [w0 _ _ _ (by decide)]; exact f204
    · intro i; rw [w0 _ _ _ (by decide)]; exact f702 i
    · rw [x206, u206]
    · intro f x i hf hx
      rw [w0 f x i (by rcases hf with rfl | rfl | rfl <;> decide), g3 f x i (by rcases hf with rfl | rfl | rfl <;> decide)]
      exact c600 f x i hf hx
    · rw [w0 _ _ _ (by decide), w0 _ _ _ (by decide), g3 _ _ _ (by decide), g3 _ _ _ (by decide)]
      exact c601
    · intro f hf
      funext x i
      have d1 : ∀ f ∈ [203, 400, 401, 402, 523, 700, 701], (¬ f ∈ [504, 505, 506, 513, 514, 515, 507, 300, 517, 206, 207]) ∧ (¬ f ∈ [204, 702, 520]) ∧ ¬ f ∈ [501, 502, 503, 602, 520, 509, 510, 511, 512, 513, 514, 515, 516, 517, 521, 522, 600, 601] := by decide
      obtain ⟨d1, d2, d3⟩ := d1 f hf
      rw [w0 f x i d1, g3 f x i d2, cf f x i d3]
  · intro f x i hf
    rw [w0 f x i (by rcases hf with rfl | rfl | rfl <;> decide), g3 f x i (by rcases hf with rfl | rfl | rfl <;> decide)]
