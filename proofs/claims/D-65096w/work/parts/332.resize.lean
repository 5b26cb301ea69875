set_option linter.unusedSimpArgs false
set_option linter.unusedVariables false
/-! a segment's length changes: the component's walk -/
theorem y_acc5 {A B : zM} {acc rho : Int → Int} {K : Int} (h : I_T A B acc rho K) {d : Int} (hd : yLv A d) (hk : A 501 d 0 = 1) :
    (∀ A4 : zM, (∀ x, yLv A x → A4 516 x 0 = A 516 x 0 ∧ A4 504 x 0 = A 504 x 0) → fX1_account d A4 = some (acc d, A4)) ∧ (∀ B4 : zM, (∀ x, yLv A x → B4 6807 0 x = B 6807 0 x ∧ B4 6802 0 x = B 6802 0 x) → fX67_account d B4 = some (acc d, B4)) := by
  obtain ⟨p1, p2, -⟩ := p_acc h.nd (by have := h.cb; omega) h.ac.eq hd hk
  have up : ∀ x, yLv A x → A 501 x 0 = 1 → A 516 x 0 = 0 → yLv A (A 504 x 0) ∧ A 501 (A 504 x 0) 0 = 1 := by
    intro x hx hk z
    have : x ≠ 0 := fun e => by rw [e, h.nd.rt.2.2.1] at z; omega
    obtain ⟨q1, q2, -⟩ := h.nd.pr x hx this
    exact ⟨q1, q2⟩
  constructor
  · intro A4 h4
    refine p_accM (A := A) (P := fun x => yLv A x ∧ A 501 x 0 = 1) ?_ zBIG d (acc d) ⟨hd, hk⟩ p1
    rintro x ⟨hx, hk⟩
    obtain ⟨q1, q2⟩ := h4 x hx
    exact ⟨hx.1.1, q1, fun z => ⟨q2, up x hx hk z⟩⟩
  · intro B4 h4
    refine p_accMT (A := B) (P := fun x => yLv A x ∧ A 501 x 0 = 1) ?_ zBIG d (acc d) ⟨hd, hk⟩ p2
    rintro x ⟨hx, hk⟩
    obtain ⟨q1, q2⟩ := h4 x hx
    refine ⟨hx.1, q1, fun z => ⟨q2, ?_⟩⟩
    rw [h.nd.pa x hx]
    exact up x hx hk (by rw [← (h.nd.li x hx).1]; exact z)
theorem p_clear {r : Int} (hr : 0 ≤ r ∧ r < 255) {A : zM} {fr : Int} (hf : 0 ≤ fr ∧ fr ≤ 64) : fX3_clear r fr A = some (0, zfil A 400 0 (64 * r + fr) (64 * r + 64) (fun _ => 0)) := by
  have lp : ∀ (k : Nat) (i : Int) (fuel : Nat), fr ≤ i → i + k = 64 → k < fuel → zlp (fX3_clear_B2 r) fuel i (zfil A 400 0 (64 * r + fr) (64 * r + i) (fun _ => 0)) = some (0, zfil A 400 0 (64 * r + fr) (64 * r + 64) (fun _ => 0)) := by
    intro k
    induction k with
    | zero =>
      intro i fuel hi hk hf
      obtain ⟨f, rfl⟩ : ∃ f, fuel = f + 1 := ⟨fuel - 1, by omega⟩
      show fX3_clear_B2 r (zlp (fX3_clear_B2 r) f) i _ = _
      generalize zlp (fX3_clear_B2 r) f = g
      have e : i = 64 := by omega
      subst e
      unfold fX3_clear_B2
      rw [zitT (by omega), zret_ap]
    | succ k ih =>
      intro i fuel hi hk hf
      obtain ⟨f, rfl⟩ : ∃ f, fuel = f + 1 := ⟨fuel - 1, by omega⟩
      show fX3_clear_B2 r (zlp (fX3_clear_B2 r) f) i _ = _
      rw [← ih (i + 1) f (by omega) (by omega) (by omega)]
      generalize zlp (fX3_clear_B2 r) f = g
      unfold fX3_clear_B2
      rw [zitF (by omega), zi_of (x := 64 * r) (by omega), zi_of (x := 64 * r + i) (by omega), zas_in (by omega), zlt_ap, zi_of (by omega)]
      have := zfil_up (M := A) (f := 400) (x := 0) (lo := 64 * r + fr) (hi := 64 * r + i) (g := fun _ => 0) (by omega)
      rw [show 64 * r + (i + 1) = 64 * r + i + 1 by omega, ← this]
  have := lp (64 - fr).toNat fr zBIG (by omega) (by omega) (by show _ < 1048576; omega)
  rw [zfil_nil] at this
  exact this
theorem p_give {A : zM} {r l : Int} (hl : A 402 0 0 = l) (h : 0 ≤ l ∧ l < 255) : fX3_give r A = some (0, zup (zup A 401 0 l r) 402 0 0 (l + 1)) := by
  unfold fX3_give
  simp (disch := omega) only [↓zal_in, ↓zas_in, ↓zib_in, ↓znn_in, ↓zne_in, ↓zgf_ap, ↓zpf_ap, ↓zpb_in, ↓zlt_ap, ↓zret_ap, ↓zrb_in, zitT, zitF, zi_of, zl_of, zrd_hit, zrd_miss, if_true, if_false, not_true_eq_false, not_false_eq_true, hl]
theorem p_takeR {A : zM} {l : Int} (hl : A 402 0 0 = l) (h : 1 ≤ l ∧ l ≤ 255) (hr : 0 ≤ A 401 0 (l - 1) ∧ A 401 0 (l - 1) < 255) : fX3_take A = some (A 401 0 (l - 1), zfil (zup A 402 0 0 (l - 1)) 400 0 (64 * A 401 0 (l - 1)) (64 * A 401 0 (l - 1) + 64) (fun _ => 0)) := by
  have c := p_clear (r := A 401 0 (l - 1)) hr (A := zup A 402 0 0 (l - 1)) (fr := 0) (by omega)
  rw [show 64 * A 401 0 (l - 1) + 0 = 64 * A 401 0 (l - 1) by omega] at c
  unfold fX3_take
  simp (disch := omega) only [↓zal_in, ↓zas_in, ↓zib_in, ↓znn_in, ↓zne_in, ↓zgf_ap, ↓zpf_ap, ↓zpb_in, ↓zlt_ap, ↓zret_ap, ↓zrb_in, zitT, zitF, zi_of, zl_of, zrd_hit, zrd_miss, if_true, if_false, not_true_eq_false, not_false_eq_true, hl, zcl_some c]
theorem p_charge {A : zM} {d a c : Int} (h : fX1_account d A = some (a, A)) (ha : 0 ≤ a) (hr : -100000 ≤ A 517 a 0 + c ∧ A 517 a 0 + c ≤ 100000) : fX1_charge d c A = some (0, zup A 517 a 0 (A 517 a 0 + c)) := by
  unfold fX1_charge
  simp (disch := omega) only [↓zal_in, ↓zas_in, ↓zib_in, ↓znn_in, ↓zne_in, ↓zgf_ap, ↓zpf_ap, ↓zpb_in, ↓zlt_ap, ↓zret_ap, ↓zrb_in, zitT, zitF, zi_of, zl_of, zrd_hit, zrd_miss, if_true, if_false, not_true_eq_false, not_false_eq_true, zcl_some h]
/-- records go back on the pile -/
theorem p_rs1 {A : zM} {n len had has : Int} (hn : 0 ≤ n) (hr : 0 ≤ has ∧ has ≤ had ∧ had ≤ 16) (hl : 0 ≤ A 402 0 0 ∧ A 402 0 0 + (had - has) ≤ 255) :
    ∃ M, zlp (fX1_resize_B18 n len had has) zBIG has A = fX1_resize_J44 n len had has M ∧ M 402 0 0 = A 402 0 0 + (had - has) ∧ (∀ j, M 401 0 j = if A 402 0 0 ≤ j ∧ j < A 402 0 0 + (had - has) then A 523 n (has + (j - A 402 0 0)) else A 401 0 j) ∧ (∀ f, ¬ f ∈ [401, 402] → M f = A f) := by
  refine zlp_big (B := fX1_resize_B18 n len had has) (fun s M k => (has ≤ s ∧ s ≤ had) ∧ k = (had - s).toNat ∧ M 402 0 0 = A 402 0 0 + (s - has) ∧ (∀ j, M 401 0 j = if A 402 0 0 ≤ j ∧ j < A 402 0 0 + (s - has) then A 523 n (has + (j - A 402 0 0)) else A 401 0 j) ∧ (∀ f, ¬ f ∈ [401, 402] → M f = A f))
    (fun o => ∃ M, o = fX1_resize_J44 n len had has M ∧ M 402 0 0 = A 402 0 0 + (had - has) ∧ (∀ j, M 401 0 j = if A 402 0 0 ≤ j ∧ j < A 402 0 0 + (had - has) then A 523 n (has + (j - A 402 0 0)) else A 401 0 j) ∧ (∀ f, ¬ f ∈ [401, 402] → M f = A f)) ?_ (n := (had - has).toNat) ⟨by omega, rfl, by omega, fun j => by rw [if_neg (by omega)], fun _ _ => rfl⟩ (by omega)
  rintro s M k ⟨s1, rfl, m2, m1, mf⟩
  by_cases e : had ≤ s
  · left
    intro f
    have e2 : s = had := by omega
    subst e2
    refine ⟨M, ?_, m2, m1, mf⟩
    unfold fX1_resize_B18
    rw [zitT e]
  · right
    have r523 : M 523 n s = A 523 n s := by rw [mf 523 (by decide)]
    have pg := p_give (A := M) (r := A 523 n s) m2 (by omega)
    refine ⟨s + 1, ?_, (had - (s + 1)).toNat, by omega, ⟨by omega, rfl, ?_, ?_, ?_⟩, ?_⟩
    rotate_left 4
    · intro f
      unfold fX1_resize_B18
      rw [zitF e, znn_in hn, zal_in (by omega), r523, zcl_some pg, zlt_ap, zi_of (by omega)]
    · simp (disch := omega) only [zrd_hit, zrd_miss]; omega
    · intro j
      by_cases q : j = A 402 0 0 + (s - has)
      · rw [if_pos (by omega)]
        simp (disch := omega) only [zrd_hit, zrd_miss]
        rw [show has + (j - A 402 0 0) = s by omega]
      · simp (disch := omega) only [zrd_hit, zrd_miss, m1]
        by_cases q2 : A 402 0 0 ≤ j ∧ j < A 402 0 0 + (s - has)
        · rw [if_pos q2, if_pos (by omega)]
        · rw [if_neg q2, if_neg (by omega)]
    · intro f hf
      have hf2 := hf
      simp only [List.mem_cons, List.not_mem_nil, or_false, not_or] at hf2
      rw [zup_col (by omega), zup_col (by omega)]
      exact mf f hf
/-- records come from the pile -/
theorem p_rs2 {A : zM} {n len had has : Int} (hn : 0 ≤ n) (hr : 0 ≤ had ∧ had ≤ has ∧ has ≤ 16) (hl : has - had ≤ A 402 0 0 ∧ A 402 0 0 ≤ 255) (hg : ∀ i, 0 ≤ i → i < A 402 0 0 → 0 ≤ A 401 0 i ∧ A 401 0 i < 255) :
    ∃ M, zlp (fX1_resize_B82 n len had has) zBIG had A = fX1_resize_J109 n len had has M ∧ M 402 0 0 = A 402 0 0 - (has - had) ∧ (∀ x k, M 523 x k = if x = n ∧ had ≤ k ∧ k < has then A 401 0 (A 402 0 0 - 1 - (k - had)) else A 523 x k) ∧
      (∀ j o, A 402 0 0 - (has - had) ≤ j → j < A 402 0 0 → 0 ≤ o → o < 64 → M 400 0 (64 * A 401 0 j + o) = 0) ∧ (∀ i, (∀ j, A 402 0 0 - (has - had) ≤ j → j < A 402 0 0 → ¬ (64 * A 401 0 j ≤ i ∧ i < 64 * A 401 0 j + 64)) → M 400 0 i = A 400 0 i) ∧ (∀ f, ¬ f ∈ [400, 402, 523] → M f = A f) := by
  refine zlp_big (B := fX1_resize_B82 n len had has) (fun s M k => (had ≤ s ∧ s ≤ has) ∧ k = (has - s).toNat ∧ M 402 0 0 = A 402 0 0 - (s - had) ∧ (∀ x k, M 523 x k = if x = n ∧ had ≤ k ∧ k < s then A 401 0 (A 402 0 0 - 1 - (k - had)) else A 523 x k) ∧
      (∀ j o, A 402 0 0 - (s - had) ≤ j → j < A 402 0 0 → 0 ≤ o → o < 64 → M 400 0 (64 * A 401 0 j + o) = 0) ∧ (∀ i, (∀ j, A 402 0 0 - (s - had) ≤ j → j < A 402 0 0 → ¬ (64 * A 401 0 j ≤ i ∧ i < 64 * A 401 0 j + 64)) → M 400 0 i = A 400 0 i) ∧ (∀ f, ¬ f ∈ [400, 402, 523] → M f = A f))
    (fun o => ∃ M, o = fX1_resize_J109 n len had has M ∧ M 402 0 0 = A 402 0 0 - (has - had) ∧ (∀ x k, M 523 x k = if x = n ∧ had ≤ k ∧ k < has then A 401 0 (A 402 0 0 - 1 - (k - had)) else A 523 x k) ∧
      (∀ j o, A 402 0 0 - (has - had) ≤ j → j < A 402 0 0 → 0 ≤ o → o < 64 → M 400 0 (64 * A 401 0 j + o) = 0) ∧ (∀ i, (∀ j, A 402 0 0 - (has - had) ≤ j → j < A 402 0 0 → ¬ (64 * A 401 0 j ≤ i ∧ i < 64 * A 401 0 j + 64)) → M 400 0 i = A 400 0 i) ∧ (∀ f, ¬ f ∈ [400, 402, 523] → M f = A f)) ?_ (n := (has - had).toNat)
    ⟨by omega, rfl, by omega, fun x k => by rw [if_neg (by omega)], fun j o a b => by omega, fun _ _ => rfl, fun _ _ => rfl⟩ (by omega)
  rintro s M k ⟨s1, rfl, m2, m5, m4, m4n, mf⟩
  by_cases e : has ≤ s
  · left
    intro f
    have e2 : s = has := by omega
    subst e2
    refine ⟨M, ?_, m2, m5, m4, m4n, mf⟩
    unfold fX1_resize_B82
    rw [zitT e]
  · right
    have r401 : ∀ j, M 401 0 j = A 401 0 j := fun j => by rw [mf 401 (by decide)]
    have g := hg (A 402 0 0 - (s - had) - 1) (by omega) (by omega)
    have pt := p_takeR (A := M) m2 (by omega) (by rw [r401]; exact g)
    rw [r401] at pt
    generalize hv : A 401 0 (A 402 0 0 - (s - had) - 1) = v at pt g
    refine ⟨s + 1, ?_, (has - (s + 1)).toNat, by omega, ⟨by omega, rfl, ?_, ?_, ?_, ?_, ?_⟩, ?_⟩
    rotate_left 6
    · intro f
      unfold fX1_resize_B82
      rw [zitF e, znn_in hn, zcl_some pt, zas_in (by omega), zlt_ap, zi_of (by omega)]
    · rw [zrd_miss (by omega), zfil_miss (by omega), zrd_hit (by omega)]; omega
    · intro x k
      by_cases q : x = n ∧ k = s
      · rw [if_pos (by omega), zrd_hit (by omega), ← hv, show A 402 0 0 - (s - had) - 1 = A 402 0 0 - 1 - (k - had) by omega]
      · rw [zrd_miss (by omega), zfil_miss (by omega), zrd_miss (by omega), m5]
        by_cases q2 : x = n ∧ had ≤ k ∧ k < s
        · rw [if_pos q2, if_pos (by omega)]
        · rw [if_neg q2, if_neg (by omega)]
    · intro j o j0 j1 o0 o1
      rw [zrd_miss (by omega)]
      by_cases q : 64 * v ≤ 64 * A 401 0 j + o ∧ 64 * A 401 0 j + o < 64 * v + 64
      · rw [zfil_hit (by omega)]
      · have : j ≠ A 402 0 0 - (s - had) - 1 := fun x => q (by rw [x, hv]; omega)
        rw [zfil_miss (by omega), zrd_miss (by omega)]
        exact m4 j o (by omega) j1 o0 o1
    · intro i hi
      have h1 := hi (A 402 0 0 - (s - had) - 1) (by omega) (by omega)
      rw [hv] at h1
      rw [zrd_miss (by omega), zfil_miss (by omega), zrd_miss (by omega)]
      exact m4n i (fun j j0 j1 => hi j (by omega) j1)
    · intro f hf
      have hf2 := hf
      simp only [List.mem_cons, List.not_mem_nil, or_false, not_or] at hf2
      funext x i
      rw [zrd_miss (by omega), zfil_miss (by omega), zrd_miss (by omega)]
      exact congrFun (congrFun (mf f hf) x) i
