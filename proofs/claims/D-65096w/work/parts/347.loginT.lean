set_option linter.unusedSimpArgs false
set_option linter.unusedVariables false
/-! a process begins: the twin, and both -/
def yBegT (B B' : zM) (p pe pj l sg pl ri : Int) : Prop :=
  (B' 6820 0 p = 1 ∧ B' 6821 0 p = 0 ∧ B' 6822 0 p = pe ∧ B' 6823 0 p = pj ∧ B' 6824 0 p = l ∧ B' 6836 0 p = 0 ∧ B' 6848 0 p = 0 ∧ B' 6842 0 p = 0 ∧ B' 6840 0 p = 0 ∧ B' 6846 0 p = 0 ∧ B' 6860 0 p = 0 ∧ B' 6862 0 p = -3750763034362895579) ∧
  (B' 6825 0 p = 0 ∧ B' 6826 0 p = 0 ∧ B' 6831 0 p = 8 ∧ B' 6832 0 p = pl ∧ B' 6833 0 p = ri ∧ B' 6834 0 p = 0 ∧ B' 6835 0 p = 0) ∧
  (∀ i, 0 ≤ i → i < 4 → B' 6827 0 (4 * p + i) = 0) ∧
  (∀ i, 0 ≤ i → i < 8 → B' 6828 0 (8 * p + i) = 0 ∧ B' 6829 0 (8 * p + i) = 0 ∧ B' 6830 0 (8 * p + i) = 0) ∧
  (∀ i, 0 ≤ i → i < 512 → B' 6837 0 (512 * p + i) = 0) ∧
  (∀ i, 0 ≤ i → i < 32 → B' 6838 0 (32 * p + i) = if i = 8 then sg else -1) ∧
  (∀ i, 0 ≤ i → i < 512 → B' 6839 0 (512 * p + i) = -1) ∧
  (∀ i, 0 ≤ i → i < 4 → B' 6841 0 (4 * p + i) = -1) ∧
  (∀ f i, ¬ (f ∈ yPcB ∧ yOB p f i) → B' f 0 i = B f 0 i) ∧
  (B' 6861 = B 6861)
theorem yBegT.s {B B' : zM} {p pe pj l sg pl ri : Int} (h : yBegT B B' p pe pj l sg pl ri) : B' 6820 0 p = 1 ∧ B' 6821 0 p = 0 ∧ B' 6822 0 p = pe ∧ B' 6823 0 p = pj ∧ B' 6824 0 p = l ∧ B' 6836 0 p = 0 ∧ B' 6848 0 p = 0 ∧ B' 6842 0 p = 0 ∧ B' 6840 0 p = 0 ∧ B' 6846 0 p = 0 ∧ B' 6860 0 p = 0 ∧ B' 6862 0 p = -3750763034362895579 := h.1
theorem yBegT.r {B B' : zM} {p pe pj l sg pl ri : Int} (h : yBegT B B' p pe pj l sg pl ri) : B' 6825 0 p = 0 ∧ B' 6826 0 p = 0 ∧ B' 6831 0 p = 8 ∧ B' 6832 0 p = pl ∧ B' 6833 0 p = ri ∧ B' 6834 0 p = 0 ∧ B' 6835 0 p = 0 := h.2.1
theorem yBegT.x {B B' : zM} {p pe pj l sg pl ri : Int} (h : yBegT B B' p pe pj l sg pl ri) : ∀ i, 0 ≤ i → i < 4 → B' 6827 0 (4 * p + i) = 0 := h.2.2.1
theorem yBegT.po {B B' : zM} {p pe pj l sg pl ri : Int} (h : yBegT B B' p pe pj l sg pl ri) : ∀ i, 0 ≤ i → i < 8 → B' 6828 0 (8 * p + i) = 0 ∧ B' 6829 0 (8 * p + i) = 0 ∧ B' 6830 0 (8 * p + i) = 0 := h.2.2.2.1
theorem yBegT.sk {B B' : zM} {p pe pj l sg pl ri : Int} (h : yBegT B B' p pe pj l sg pl ri) : ∀ i, 0 ≤ i → i < 512 → B' 6837 0 (512 * p + i) = 0 := h.2.2.2.2.1
theorem yBegT.kn {B B' : zM} {p pe pj l sg pl ri : Int} (h : yBegT B B' p pe pj l sg pl ri) : ∀ i, 0 ≤ i → i < 32 → B' 6838 0 (32 * p + i) = if i = 8 then sg else -1 := h.2.2.2.2.2.1
theorem yBegT.lk {B B' : zM} {p pe pj l sg pl ri : Int} (h : yBegT B B' p pe pj l sg pl ri) : ∀ i, 0 ≤ i → i < 512 → B' 6839 0 (512 * p + i) = -1 := h.2.2.2.2.2.2.1
theorem yBegT.se {B B' : zM} {p pe pj l sg pl ri : Int} (h : yBegT B B' p pe pj l sg pl ri) : ∀ i, 0 ≤ i → i < 4 → B' 6841 0 (4 * p + i) = -1 := h.2.2.2.2.2.2.2.1
theorem yBegT.f {B B' : zM} {p pe pj l sg pl ri : Int} (h : yBegT B B' p pe pj l sg pl ri) : ∀ f i, ¬ (f ∈ yPcB ∧ yOB p f i) → B' f 0 i = B f 0 i := h.2.2.2.2.2.2.2.2.1
theorem yBegT.t {B B' : zM} {p pe pj l sg pl ri : Int} (h : yBegT B B' p pe pj l sg pl ri) : B' 6861 = B 6861 := h.2.2.2.2.2.2.2.2.2
theorem p_begT {B : zM} {p pe pj l sg pl ri : Int} (hp : yPr p) : ∃ B', fX67_login_J101 pe pj l sg pl ri p B = some (p, B') ∧ yBegT B B' p pe pj l sg pl ri := by
  have s5 : ∀ M0 : zM, ∃ M1, fX67_login_J305 sg pl ri p M0 = fX67_login_J339 sg pl ri p M1 ∧ (∀ i, 32 * p ≤ i → i < 32 * p + 32 → M1 6838 0 i = -1) ∧ (∀ f x i, ¬ (f = 6838 ∧ x = 0 ∧ 32 * p ≤ i ∧ i < 32 * p + 32) → M1 f x i = M0 f x i) := by
    intro M0
    unfold fX67_login_J305
    rw [zlt_ap, zi_of (by omega)]
    refine zlp_for (lo := 32 * p) (hi := 32 * p + 32) (by omega) (by omega) (fun s M' => (∀ i, 32 * p ≤ i → i < s → M' 6838 0 i = -1) ∧ (∀ f x i, ¬ (f = 6838 ∧ x = 0 ∧ 32 * p ≤ i ∧ i < 32 * p + 32) → M' f x i = M0 f x i))
      (fun o => ∃ M1, o = fX67_login_J339 sg pl ri p M1 ∧ (∀ i, 32 * p ≤ i → i < 32 * p + 32 → M1 6838 0 i = -1) ∧ (∀ f x i, ¬ (f = 6838 ∧ x = 0 ∧ 32 * p ≤ i ∧ i < 32 * p + 32) → M1 f x i = M0 f x i)) ?_ ?_ ⟨fun i a b => by omega, fun _ _ _ _ => rfl⟩
    · rintro i M i0 i1 ⟨h1, h2⟩
      refine ⟨zup M 6838 0 i (-1), ⟨?_, ?_⟩, ?_⟩
      · intro k k0 k1
        by_cases e : k = i
        · subst e; simp (disch := omega) only [zrd_hit, zrd_miss]
        · simp (disch := omega) only [zrd_hit, zrd_miss]; exact h1 k k0 (by omega)
      · intro f x k hf
        simp (disch := omega) only [zrd_hit, zrd_miss]; exact h2 f x k hf
      · intro f
        unfold fX67_login_B312
        rw [zi_of (x := 32 * p) (by omega), zi_of (x := 32 * p + 32) (by omega), zitF (by omega), zas_in (by omega), zlt_ap, zi_of (by omega)]
    · rintro M ⟨h1, h2⟩ f
      exact ⟨M, by unfold fX67_login_B312; rw [zi_of (x := 32 * p) (by omega), zi_of (x := 32 * p + 32) (by omega), zitT (by omega)], h1, h2⟩
  have s4 : ∀ M0 : zM, ∃ M1, fX67_login_J258 sg pl ri p M0 = fX67_login_J305 sg pl ri p M1 ∧ (∀ i, 512 * p ≤ i → i < 512 * p + 512 → M1 6837 0 i = 0 ∧ M1 6839 0 i = -1) ∧ (∀ f x i, ¬ ((f = 6837 ∨ f = 6839) ∧ x = 0 ∧ 512 * p ≤ i ∧ i < 512 * p + 512) → M1 f x i = M0 f x i) := by
    intro M0
    unfold fX67_login_J258
    rw [zlt_ap, zi_of (by omega)]
    refine zlp_for (lo := 512 * p) (hi := 512 * p + 512) (by omega) (by omega) (fun s M' => (∀ i, 512 * p ≤ i → i < s → M' 6837 0 i = 0 ∧ M' 6839 0 i = -1) ∧ (∀ f x i, ¬ ((f = 6837 ∨ f = 6839) ∧ x = 0 ∧ 512 * p ≤ i ∧ i < 512 * p + 512) → M' f x i = M0 f x i))
      (fun o => ∃ M1, o = fX67_login_J305 sg pl ri p M1 ∧ (∀ i, 512 * p ≤ i → i < 512 * p + 512 → M1 6837 0 i = 0 ∧ M1 6839 0 i = -1) ∧ (∀ f x i, ¬ ((f = 6837 ∨ f = 6839) ∧ x = 0 ∧ 512 * p ≤ i ∧ i < 512 * p + 512) → M1 f x i = M0 f x i)) ?_ ?_ ⟨fun i a b => by omega, fun _ _ _ _ => rfl⟩
    · rintro i M i0 i1 ⟨h1, h2⟩
      refine ⟨zup (zup M 6837 0 i 0) 6839 0 i (-1), ⟨?_, ?_⟩, ?_⟩
      · intro k k0 k1
        by_cases e : k = i
        · subst e; simp (disch := omega) only [zrd_hit, zrd_miss, and_self]
        · simp (disch := omega) only [zrd_hit, zrd_miss]; exact h1 k k0 (by omega)
      · intro f x k hf
        simp (disch := omega) only [zrd_hit, zrd_miss]; exact h2 f x k hf
      · intro f
        unfold fX67_login_B266
        rw [zi_of (x := 512 * p) (by omega), zi_of (x := 512 * p + 512) (by omega), zitF (by omega), zas_in (by omega), zas_in (by omega), zlt_ap, zi_of (by omega)]
    · rintro M ⟨h1, h2⟩ f
      exact ⟨M, by unfold fX67_login_B266; rw [zi_of (x := 512 * p) (by omega), zi_of (x := 512 * p + 512) (by omega), zitT (by omega)], h1, h2⟩
  have s3 : ∀ M0 : zM, ∃ M1, fX67_login_J208 sg pl ri p M0 = fX67_login_J258 sg pl ri p M1 ∧ (∀ i, 8 * p ≤ i → i < 8 * p + 8 → M1 6828 0 i = 0 ∧ M1 6829 0 i = 0 ∧ M1 6830 0 i = 0) ∧ (∀ f x i, ¬ ((f = 6828 ∨ f = 6829 ∨ f = 6830) ∧ x = 0 ∧ 8 * p ≤ i ∧ i < 8 * p + 8) → M1 f x i = M0 f x i) := by
    intro M0
    unfold fX67_login_J208
    rw [zlt_ap, zi_of (by omega)]
    refine zlp_for (lo := 8 * p) (hi := 8 * p + 8) (by omega) (by omega) (fun s M' => (∀ i, 8 * p ≤ i → i < s → M' 6828 0 i = 0 ∧ M' 6829 0 i = 0 ∧ M' 6830 0 i = 0) ∧ (∀ f x i, ¬ ((f = 6828 ∨ f = 6829 ∨ f = 6830) ∧ x = 0 ∧ 8 * p ≤ i ∧ i < 8 * p + 8) → M' f x i = M0 f x i))
      (fun o => ∃ M1, o = fX67_login_J258 sg pl ri p M1 ∧ (∀ i, 8 * p ≤ i → i < 8 * p + 8 → M1 6828 0 i = 0 ∧ M1 6829 0 i = 0 ∧ M1 6830 0 i = 0) ∧ (∀ f x i, ¬ ((f = 6828 ∨ f = 6829 ∨ f = 6830) ∧ x = 0 ∧ 8 * p ≤ i ∧ i < 8 * p + 8) → M1 f x i = M0 f x i)) ?_ ?_ ⟨fun i a b => by omega, fun _ _ _ _ => rfl⟩
    · rintro i M i0 i1 ⟨h1, h2⟩
      refine ⟨zup (zup (zup M 6828 0 i 0) 6829 0 i 0) 6830 0 i 0, ⟨?_, ?_⟩, ?_⟩
      · intro k k0 k1
        by_cases e : k = i
        · subst e; simp (disch := omega) only [zrd_hit, zrd_miss, and_self]
        · simp (disch := omega) only [zrd_hit, zrd_miss]; exact h1 k k0 (by omega)
      · intro f x k hf
        simp (disch := omega) only [zrd_hit, zrd_miss]; exact h2 f x k hf
      · intro f
        unfold fX67_login_B215
        rw [zi_of (x := 8 * p) (by omega), zi_of (x := 8 * p + 8) (by omega), zitF (by omega), zas_in (by omega), zas_in (by omega), zas_in (by omega), zlt_ap, zi_of (by omega)]
    · rintro M ⟨h1, h2⟩ f
      exact ⟨M, by unfold fX67_login_B215; rw [zi_of (x := 8 * p) (by omega), zi_of (x := 8 * p + 8) (by omega), zitT (by omega)], h1, h2⟩
  have s2 : ∀ M0 : zM, ∃ M1, zlp (fX67_login_B170 sg pl ri p) zBIG 0 M0 = fX67_login_J208 sg pl ri p M1 ∧ (∀ i, 0 ≤ i → i < 4 → M1 6827 0 (4 * p + i) = 0 ∧ M1 6841 0 (4 * p + i) = -1) ∧ (∀ f x i, ¬ ((f = 6827 ∨ f = 6841) ∧ x = 0 ∧ 4 * p ≤ i ∧ i < 4 * p + 4) → M1 f x i = M0 f x i) := by
    intro M0
    refine zlp_for (lo := 0) (hi := 4) (by omega) (by omega) (fun s M' => (∀ i, 0 ≤ i → i < s → M' 6827 0 (4 * p + i) = 0 ∧ M' 6841 0 (4 * p + i) = -1) ∧ (∀ f x i, ¬ ((f = 6827 ∨ f = 6841) ∧ x = 0 ∧ 4 * p ≤ i ∧ i < 4 * p + 4) → M' f x i = M0 f x i))
      (fun o => ∃ M1, o = fX67_login_J208 sg pl ri p M1 ∧ (∀ i, 0 ≤ i → i < 4 → M1 6827 0 (4 * p + i) = 0 ∧ M1 6841 0 (4 * p + i) = -1) ∧ (∀ f x i, ¬ ((f = 6827 ∨ f = 6841) ∧ x = 0 ∧ 4 * p ≤ i ∧ i < 4 * p + 4) → M1 f x i = M0 f x i)) ?_ ?_ ⟨fun i a b => by omega, fun _ _ _ _ => rfl⟩
    · rintro i M i0 i1 ⟨h1, h2⟩
      refine ⟨zup (zup M 6827 0 (4 * p + i) 0) 6841 0 (4 * p + i) (-1), ⟨?_, ?_⟩, ?_⟩
      · intro k k0 k1
        by_cases e : k = i
        · subst e; simp (disch := omega) only [zrd_hit, zrd_miss, and_self]
        · simp (disch := omega) only [zrd_hit, zrd_miss]; exact h1 k k0 (by omega)
      · intro f x k hf
        simp (disch := omega) only [zrd_hit, zrd_miss]; exact h2 f x k hf
      · intro f
        unfold fX67_login_B170
        rw [zitF (by omega), zi_of (x := 4 * p) (by omega), zi_of (x := 4 * p + i) (by omega), zas_in (by omega), zas_in (by omega), zlt_ap, zi_of (by omega)]
    · rintro M ⟨h1, h2⟩ f
      exact ⟨M, by unfold fX67_login_B170; rw [zitT (by omega)], h1, h2⟩
  obtain ⟨M1, c1, c2, c3⟩ := s2 (zup (zup (zup (zup (zup (zup (zup B 6820 0 p 1) 6821 0 p 0) 6822 0 p pe) 6823 0 p pj) 6824 0 p l) 6825 0 p 0) 6826 0 p 0)
  obtain ⟨M2, d1, d2, d3⟩ := s3 M1
  obtain ⟨M3, e1, e2, e3⟩ := s4 M2
  obtain ⟨M4, g1, g2, g3⟩ := s5 M3
  obtain ⟨B', hB', fin⟩ : ∃ B', B' = zup (zup (zup (zup (zup (zup (zup (zup (zup (zup (zup (zup (zup M4 6838 0 (32 * p + 8) sg) 6831 0 p 8) 6832 0 p pl) 6833 0 p ri) 6834 0 p 0) 6835 0 p 0) 6836 0 p 0) 6840 0 p 0) 6842 0 p 0) 6846 0 p 0) 6848 0 p 0) 6860 0 p 0) 6862 0 p (-3750763034362895579) ∧ fX67_login_J101 pe pj l sg pl ri p B = some (p, B') := by
    refine ⟨_, rfl, ?_⟩
    unfold fX67_login_J101
    rw [zitT (by omega), zas_in (by omega), zas_in (by omega), zas_in (by omega), zas_in (by omega), zas_in (by omega), zas_in (by omega), zas_in (by omega), show (1 : Int) % 2 = 1 by decide, c1, d1, e1, g1]
    unfold fX67_login_J339
    rw [zi_of (x := 32 * p) (by omega), zi_of (x := 32 * p + 8) (by omega), zas_in (by omega), zas_in (by omega), zas_in (by omega), zas_in (by omega), zas_in (by omega), zas_in (by omega), zas_in (by omega), zas_in (by omega), zas_in (by omega), zas_in (by omega), zas_in (by omega), zas_in (by omega), zas_in (by omega), zret_ap]
    rfl
  have top : ∀ f i, ¬ (f = 6838 ∨ f = 6831 ∨ f = 6832 ∨ f = 6833 ∨ f = 6834 ∨ f = 6835 ∨ f = 6836 ∨ f = 6840 ∨ f = 6842 ∨ f = 6846 ∨ f = 6848 ∨ f = 6860 ∨ f = 6862) → B' f 0 i = M3 f 0 i := by
    intro f i hf
    rw [hB', zup_col (by omega), zup_col (by omega), zup_col (by omega), zup_col (by omega), zup_col (by omega), zup_col (by omega), zup_col (by omega), zup_col (by omega), zup_col (by omega), zup_col (by omega), zup_col (by omega), zup_col (by omega), zup_col (by omega)]
    exact g3 f 0 i (by omega)
  have base : ∀ f i, ¬ (f = 6837 ∨ f = 6839 ∨ f = 6828 ∨ f = 6829 ∨ f = 6830 ∨ f = 6827 ∨ f = 6841) → M3 f 0 i = zup (zup (zup (zup (zup (zup (zup B 6820 0 p 1) 6821 0 p 0) 6822 0 p pe) 6823 0 p pj) 6824 0 p l) 6825 0 p 0) 6826 0 p 0 f 0 i := by
    intro f i hf
    rw [e3 f 0 i (by omega), d3 f 0 i (by omega), c3 f 0 i (by omega)]
  refine ⟨B', fin, ⟨⟨?_, ?_, ?_, ?_, ?_, ?_, ?_, ?_, ?_, ?_, ?_, ?_⟩, ⟨?_, ?_, ?_, ?_, ?_, ?_, ?_⟩, ?_, ?_, ?_, ?_, ?_, ?_, ?_, ?_⟩⟩
  · rw [top _ _ (by omega), base _ _ (by omega)]; simp (disch := omega) only [zrd_hit, zrd_miss]
  · rw [top _ _ (by omega), base _ _ (by omega)]; simp (disch := omega) only [zrd_hit, zrd_miss]
  · rw [top _ _ (by omega), base _ _ (by omega)]; simp (disch := omega) only [zrd_hit, zrd_miss]
  · rw [top _ _ (by omega), base _ _ (by omega)]; simp (disch := omega) only [zrd_hit, zrd_miss]
  · rw [top _ _ (by omega), base _ _ (by omega)]; simp (disch := omega) only [zrd_hit, zrd_miss]
  · rw [hB']; simp (disch := omega) only [zrd_hit, zrd_miss]
  · rw [hB']; simp (disch := omega) only [zrd_hit, zrd_miss]
  · rw [hB']; simp (disch := omega) only [zrd_hit, zrd_miss]
  · rw [hB']; simp (disch := omega) only [zrd_hit, zrd_miss]
  · rw [hB']; simp (disch := omega) only [zrd_hit, zrd_miss]
  · rw [hB']; simp (disch := omega) only [zrd_hit, zrd_miss]
  · rw [hB']; simp (disch := omega) only [zrd_hit, zrd_miss]
  · rw [top _ _ (by omega), base _ _ (by omega)]; simp (disch := omega) only [zrd_hit, zrd_miss]
  · rw [top _ _ (by omega), base _ _ (by omega)]; simp (disch := omega) only [zrd_hit, zrd_miss]
  · rw [hB']; simp (disch := omega) only [zrd_hit, zrd_miss]
  · rw [hB']; simp (disch := omega) only [zrd_hit, zrd_miss]
  · rw [hB']; simp (disch := omega) only [zrd_hit, zrd_miss]
  · rw [hB']; simp (disch := omega) only [zrd_hit, zrd_miss]
  · rw [hB']; simp (disch := omega) only [zrd_hit, zrd_miss]
  · intro i i0 i1; rw [top _ _ (by omega), e3 _ _ _ (by omega), d3 _ _ _ (by omega)]; exact (c2 i i0 i1).1
  · intro i i0 i1; rw [top _ _ (by omega), top _ _ (by omega), top _ _ (by omega), e3 _ _ _ (by omega), e3 _ _ _ (by omega), e3 _ _ _ (by omega)]; exact d2 _ (by omega) (by omega)
  · intro i i0 i1; rw [top _ _ (by omega)]; exact (e2 _ (by omega) (by omega)).1
  · intro i i0 i1
    rw [hB']
    by_cases e : i = 8
    · rw [if_pos e]; simp (disch := omega) only [zrd_hit, zrd_miss]
    · rw [if_neg e]; simp (disch := omega) only [zrd_hit, zrd_miss]; exact g2 _ (by omega) (by omega)
  · intro i i0 i1; rw [top _ _ (by omega)]; exact (e2 _ (by omega) (by omega)).2
  · intro i i0 i1; rw [top _ _ (by omega), e3 _ _ _ (by omega), d3 _ _ _ (by omega)]; exact (c2 i i0 i1).2
  · intro f i hf
    have own : ∀ g, g ∈ yPcB → ∀ i', yOB p g i' → ¬ (f = g ∧ i = i') := fun g hg i' ho e => hf ⟨by rw [e.1]; exact hg, by rw [e.1, e.2]; exact ho⟩
    have o1 : ∀ g, g ∈ yPcB → ysz g = 1 → ¬ (f = g ∧ i = p) := fun g hg hz => own g hg p (by rw [yOB, hz]; omega)
    have blk : ∀ g s, g ∈ yPcB → ysz g = s → ¬ (f = g ∧ s * p ≤ i ∧ i < s * p + s) := fun g s hg hz e => hf ⟨by rw [e.1]; exact hg, by rw [yOB, e.1, hz]; exact e.2⟩
    have n20 := o1 6820 (by decide) (by decide)
    have n21 := o1 6821 (by decide) (by decide)
    have n22 := o1 6822 (by decide) (by decide)
    have n23 := o1 6823 (by decide) (by decide)
    have n24 := o1 6824 (by decide) (by decide)
    have n25 := o1 6825 (by decide) (by decide)
    have n26 := o1 6826 (by decide) (by decide)
    have n31 := o1 6831 (by decide) (by decide)
    have n32 := o1 6832 (by decide) (by decide)
    have n33 := o1 6833 (by decide) (by decide)
    have n34 := o1 6834 (by decide) (by decide)
    have n35 := o1 6835 (by decide) (by decide)
    have n36 := o1 6836 (by decide) (by decide)
    have n40 := o1 6840 (by decide) (by decide)
    have n42 := o1 6842 (by decide) (by decide)
    have n46 := o1 6846 (by decide) (by decide)
    have n48 := o1 6848 (by decide) (by decide)
    have n60 := o1 6860 (by decide) (by decide)
    have n62 := o1 6862 (by decide) (by decide)
    have n38 := blk 6838 32 (by decide) (by decide)
    have n37 := blk 6837 512 (by decide) (by decide)
    have n39 := blk 6839 512 (by decide) (by decide)
    have n28 := blk 6828 8 (by decide) (by decide)
    have n29 := blk 6829 8 (by decide) (by decide)
    have n30 := blk 6830 8 (by decide) (by decide)
    have n27 := blk 6827 4 (by decide) (by decide)
    have n41 := blk 6841 4 (by decide) (by decide)
    clear hf own o1 blk
    rw [hB', zrd_miss (fun z => n62 ⟨z.1, z.2.2⟩), zrd_miss (fun z => n60 ⟨z.1, z.2.2⟩), zrd_miss (fun z => n48 ⟨z.1, z.2.2⟩), zrd_miss (fun z => n46 ⟨z.1, z.2.2⟩), zrd_miss (fun z => n42 ⟨z.1, z.2.2⟩), zrd_miss (fun z => n40 ⟨z.1, z.2.2⟩), zrd_miss (fun z => n36 ⟨z.1, z.2.2⟩), zrd_miss (fun z => n35 ⟨z.1, z.2.2⟩), zrd_miss (fun z => n34 ⟨z.1, z.2.2⟩), zrd_miss (fun z => n33 ⟨z.1, z.2.2⟩), zrd_miss (fun z => n32 ⟨z.1, z.2.2⟩), zrd_miss (fun z => n31 ⟨z.1, z.2.2⟩), zrd_miss (fun z => n38 ⟨z.1, by rw [z.2.2]; omega⟩), g3 f 0 i (fun z => n38 ⟨z.1, z.2.2⟩), e3 f 0 i (fun z => z.1.elim (fun a => n37 ⟨a, z.2.2⟩) (fun a => n39 ⟨a, z.2.2⟩)), d3 f 0 i (fun z => z.1.elim (fun a => n28 ⟨a, z.2.2⟩) (fun b => b.elim (fun a => n29 ⟨a, z.2.2⟩) (fun a => n30 ⟨a, z.2.2⟩))), c3 f 0 i (fun z => z.1.elim (fun a => n27 ⟨a, z.2.2⟩) (fun a => n41 ⟨a, z.2.2⟩)), zrd_miss (fun z => n26 ⟨z.1, z.2.2⟩), zrd_miss (fun z => n25 ⟨z.1, z.2.2⟩), zrd_miss (fun z => n24 ⟨z.1, z.2.2⟩), zrd_miss (fun z => n23 ⟨z.1, z.2.2⟩), zrd_miss (fun z => n22 ⟨z.1, z.2.2⟩), zrd_miss (fun z => n21 ⟨z.1, z.2.2⟩), zrd_miss (fun z => n20 ⟨z.1, z.2.2⟩)]
  · rw [hB', zup_col (by decide), zup_col (by decide), zup_col (by decide), zup_col (by decide), zup_col (by decide), zup_col (by decide), zup_col (by decide), zup_col (by decide), zup_col (by decide), zup_col (by decide), zup_col (by decide), zup_col (by decide), zup_col (by decide)]
    funext x i
    rw [g3 _ x i (by omega), e3 _ x i (by omega), d3 _ x i (by omega), c3 _ x i (by omega)]
    simp (disch := omega) only [zrd_hit, zrd_miss]
theorem r_begin {j N : Int} {A B A' B' : zM} (h : yInv j N A B) {p pe pj l sg pl ri : Int} (hp : yPr p) (hpe : 0 ≤ pe ∧ pe ≤ 15) (hpj : 0 ≤ pj ∧ pj ≤ 7) (hl : 0 ≤ l ∧ l ≤ 31) (hs : yLv A sg ∧ A 501 sg 0 = 2) (hpl : 0 ≤ pl ∧ pl ≤ 262143) (hri : 0 ≤ ri ∧ ri ≤ 7) (hN : 0 ≤ N)
    (fa : yBeg A A' p pe pj l sg pl ri) (ca : ∀ c, ¬ c ∈ W_fX8_begin → A' c = A c) (fb : yBegT B B' p pe pj l sg pl ri) (cb : ∀ c, ¬ c ∈ W_fX67_login → B' c = B c) : yInv j N A' B' := by
  obtain ⟨s1, s2, s3, s4, s5, s6, s7, s8, s9, s10, s11, s12, s13⟩ := fa.s
  obtain ⟨r1, r2, r3, r4, r5, r6, r7⟩ := fa.r
  obtain ⟨u1, u2, u3, u4, u5, u6, u7, u8, u9, u10, u11, u12⟩ := fb.s
  obtain ⟨w1, w2, w3, w4, w5, w6, w7⟩ := fb.r
  have rv0 := h.p.rv p
  obtain ⟨acc, rho, K, hT, -⟩ := h.t
  have a207 : A' 207 = A 207 := ca 207 (by decide)
  have a501 : A' 501 = A 501 := ca 501 (by decide)
  have vb := hT.vb
  have rt := hT.nd.rt
  refine yInv_p hp h (Int.le_refl _) ?_ ?_ ?_ ?_ ?_ ?_ ?_ ?_ ?_
  · intro f hf hm
    have d1 : ∀ f, (f ∈ yNtA ∨ f ∈ [203, 204, 206, 207, 300, 400, 401, 402, 501, 502, 503, 504, 505, 506, 507, 509, 510, 511, 512, 513, 514, 515, 516, 517, 520, 521, 522, 523, 600, 601, 602, 700, 701, 702]) → ¬ f ∈ W_fX8_begin := by
      intro f hf
      rcases hf with hf | hf
      · exact (show ∀ f ∈ yNtA, ¬ f ∈ W_fX8_begin by decide) f hf
      · exact (show ∀ f ∈ [203, 204, 206, 207, 300, 400, 401, 402, 501, 502, 503, 504, 505, 506, 507, 509, 510, 511, 512, 513, 514, 515, 516, 517, 520, 521, 522, 523, 600, 601, 602, 700, 701, 702], ¬ f ∈ W_fX8_begin by decide) f hf
    exact ca f (d1 f hm)
  · intro f hf hm
    have d1 : ∀ f, (f ∈ yNtB ∨ f ∈ [6800, 6801, 6802, 6803, 6804, 6805, 6806, 6807, 6808, 6809, 6810, 6811, 6812, 6813, 6814, 6815, 6816, 6817, 6818, 6819]) → ¬ f ∈ W_fX67_login := by
      intro f hf
      rcases hf with hf | hf
      · exact (show ∀ f ∈ yNtB, ¬ f ∈ W_fX67_login by decide) f hf
      · exact (show ∀ f ∈ [6800, 6801, 6802, 6803, 6804, 6805, 6806, 6807, 6808, 6809, 6810, 6811, 6812, 6813, 6814, 6815, 6816, 6817, 6818, 6819], ¬ f ∈ W_fX67_login by decide) f hf
    exact cb f (d1 f hm)
  · intro f x i hf ho
    have : ∀ f ∈ yPcA, 902 ≤ f ∧ f ≤ 1203 := by decide
    have := this f hf
    exact fa.f f x i (by omega)
  · intro f i hf ho
    exact fb.f f i (fun z => ho z.2)
  · rw [u1, s1]; exact ⟨rfl, Or.inr rfl⟩
  · intro i i0 i1
    rw [fb.t, fa.t]; exact h.p.tr p i hp i0 i1
  · intro k k0 k1
    rw [a207]
    by_cases e : k = 8
    · rw [e, fa.rv]; omega
    · rw [fa.f 1200 (32 * p + k) 0 (by omega)]; exact rv0 k hp k0 k1
  · intro _
    refine ⟨?_, ?_, ?_, ?_, ?_, ⟨?_, ?_, ?_, ?_, ?_, ?_, ?_, ?_, ?_, ?_, ?_⟩, ?_, ?_, ?_, ?_, ?_, ?_, ?_, ?_, ?_, ?_, ?_, ?_, ?_, ?_, ?_, ?_, ?_⟩
    · rw [u2, s2]; omega
    · rw [u3, s3]; exact ⟨rfl, hpe⟩
    · rw [u4, s4]; exact ⟨rfl, hpj⟩
    · rw [u5, s5]; exact ⟨rfl, by omega⟩
    · rw [u6, s6]; omega
    · rw [w1, r1]; omega
    · rw [w2, r2]; omega
    · intro k k0 k1; rw [fb.x k k0 k1, fa.x k k0 k1]; omega
    · intro k k0 k1; rw [(fb.po k k0 k1).1, (fa.po k k0 k1).1]; omega
    · intro k k0 k1; rw [(fb.po k k0 k1).2.1, (fa.po k k0 k1).2.1]; omega
    · intro k k0 k1; rw [(fb.po k k0 k1).2.2, (fa.po k k0 k1).2.2]; omega
    · rw [w3, r3]; omega
    · rw [w4, r4]; exact ⟨rfl, hpl⟩
    · rw [w5, r5]; exact ⟨rfl, hri⟩
    · rw [w6, r6]; exact ⟨rfl, Or.inl rfl⟩
    · rw [w7, r7]; exact ⟨rfl, Or.inl rfl⟩
    · rw [u7, s7]; omega
    · intro k k0 k1; rw [s7] at k1; omega
    · rw [u8, s8]; exact ⟨rfl, Or.inl rfl⟩
    · intro q; rw [s8] at q; omega
    · intro q; rw [s8] at q; omega
    · intro q; rw [s8] at q; omega
    · intro i i0 i1; rw [fb.sk i i0 i1, fa.sk i i0 i1]; omega
    · intro k k0 k1
      rw [fb.kn k k0 k1, fa.kn k k0 k1]
      refine ⟨rfl, ?_⟩
      by_cases e : k = 8
      · rw [if_pos e]; exact Or.inr ⟨by omega, ⟨hs.1.1, by rw [a501]; exact hs.1.2⟩, by rw [a501]; exact hs.2⟩
      · rw [if_neg e]; exact Or.inl rfl
    · intro x y x0 x1 y0 y1
      rw [fa.kn x x0 x1, fa.kn y y0 y1]
      by_cases e : x = 8
      · rw [if_pos e]
        by_cases e' : y = 8
        · intro _ _; rw [e, e']
        · rw [if_neg e']; intro q1 q2; exact absurd q2 q1
      · rw [if_neg e]; intro q; exact absurd rfl q
    · intro i i0 i1; exact Or.inl ⟨fa.lk i i0 i1, fb.lk i i0 i1⟩
    · rw [u9, s9, a501]; exact ⟨rfl, ⟨⟨by omega, by omega⟩, by rw [a501]; omega⟩, rt.1⟩
    · intro k k0 k1; rw [fb.se k k0 k1, fa.se k k0 k1]; exact ⟨rfl, Or.inl rfl⟩
    · rw [u10, s11, s10]; omega
    · intro i i0 i1; rw [s11] at i1; omega
    · rw [u11, s12]; omega
    · rw [u12, s13]
    · intro k k0 k1 kn ve
      rw [a207] at ve
      by_cases e : k = 8
      · rw [e, fa.rv] at ve; omega
      · rw [fa.kn k (by omega) k1, if_neg e] at kn; exact absurd rfl kn
  · intro _; rw [s6, s12]; omega
