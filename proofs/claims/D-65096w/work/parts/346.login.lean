set_option linter.unusedSimpArgs false
set_option linter.unusedVariables false
/-! a process begins -/
/-- a loop that counts up -/
theorem zlp_for {B : (Int → zX) → Int → zX} {lo hi : Int} (hl : lo ≤ hi) (hh : hi - lo < 1000000) (I : Int → zM → Prop) (Q : Option (Int × zM) → Prop)
    (step : ∀ i M, lo ≤ i → i < hi → I i M → ∃ M', I (i + 1) M' ∧ ∀ f : Int → zX, B f i M = f (i + 1) M') (fin : ∀ M, I hi M → ∀ f : Int → zX, Q (B f hi M)) {M : zM} (h0 : I lo M) : Q (zlp B zBIG lo M) := by
  refine zlp_big (B := B) (fun s M' k => (lo ≤ s ∧ s ≤ hi) ∧ k = (hi - s).toNat ∧ I s M') Q ?_ (n := (hi - lo).toNat) ⟨by omega, rfl, h0⟩ (by omega)
  rintro s M' k ⟨hs, rfl, hI⟩
  by_cases e : s = hi
  · left
    rw [e] at hI ⊢
    exact fin M' hI
  · right
    obtain ⟨M'', h1, h2⟩ := step s M' hs.1 (by omega) hI
    exact ⟨s + 1, M'', (hi - (s + 1)).toNat, by omega, ⟨by omega, rfl, h1⟩, h2⟩
theorem p_clrR {p : Int} (hp : 0 ≤ p) {M : zM} : ∃ M', fX9_clear p M = some (0, M') ∧ (M' 1000 p 0 = 0 ∧ M' 1001 p 0 = 0 ∧ M' 1009 p 0 = 0 ∧ M' 1010 p 0 = 0) ∧ (∀ i, 0 ≤ i → i < 4 → M' 1002 p i = 0) ∧ (∀ i, 0 ≤ i → i < 8 → M' 1003 p i = 0 ∧ M' 1004 p i = 0 ∧ M' 1005 p i = 0) ∧ (∀ f x i, ¬ (1000 ≤ f ∧ f ≤ 1010 ∧ x = p) → M' f x i = M f x i) := by
  have l2 : ∀ M0 : zM, ∃ M', fX9_clear_J30 p M0 = some (0, M') ∧ (M' 1009 p 0 = 0 ∧ M' 1010 p 0 = 0) ∧ (∀ i, 0 ≤ i → i < 8 → M' 1003 p i = 0 ∧ M' 1004 p i = 0 ∧ M' 1005 p i = 0) ∧ (∀ f x i, ¬ (1003 ≤ f ∧ f ≤ 1010 ∧ x = p) → M' f x i = M0 f x i) := by
    intro M0
    unfold fX9_clear_J30
    refine zlp_for (lo := 0) (hi := 8) (by omega) (by omega) (fun s M' => (∀ i, 0 ≤ i → i < s → M' 1003 p i = 0 ∧ M' 1004 p i = 0 ∧ M' 1005 p i = 0) ∧ (∀ f x i, ¬ (1003 ≤ f ∧ f ≤ 1005 ∧ x = p) → M' f x i = M0 f x i))
      (fun o => ∃ M', o = some (0, M') ∧ (M' 1009 p 0 = 0 ∧ M' 1010 p 0 = 0) ∧ (∀ i, 0 ≤ i → i < 8 → M' 1003 p i = 0 ∧ M' 1004 p i = 0 ∧ M' 1005 p i = 0) ∧ (∀ f x i, ¬ (1003 ≤ f ∧ f ≤ 1010 ∧ x = p) → M' f x i = M0 f x i)) ?_ ?_ ⟨fun i a b => by omega, fun _ _ _ _ => rfl⟩
    · rintro i M i0 i1 ⟨h1, h2⟩
      have ep : fX9_point p i 0 0 0 M = some (0, zup (zup (zup M 1003 p i 0) 1004 p i 0) 1005 p i 0) := by
        unfold fX9_point
        rw [zas_in (by omega), zas_in (by omega), zas_in (by omega), zret_ap]
      refine ⟨zup (zup (zup M 1003 p i 0) 1004 p i 0) 1005 p i 0, ⟨?_, ?_⟩, ?_⟩
      · intro k k0 k1
        by_cases e : k = i
        · subst e; simp (disch := omega) only [zrd_hit, zrd_miss, and_self]
        · simp (disch := omega) only [zrd_hit, zrd_miss]; exact h1 k k0 (by omega)
      · intro f x k hf
        simp (disch := omega) only [zrd_hit, zrd_miss]; exact h2 f x k hf
      · intro f
        unfold fX9_clear_B32
        rw [zitF (by omega), zcl_some ep, zlt_ap, zi_of (by omega)]
    · rintro M ⟨h1, h2⟩ f
      refine ⟨zup (zup (zup (zup (zup M 1006 p 0 0) 1007 p 0 0) 1008 p 0 0) 1009 p 0 0) 1010 p 0 0, ?_, ?_, ?_, ?_⟩
      · unfold fX9_clear_B32 fX9_clear_J52 fX9_go
        rw [zitT (by omega)]
        rfl
      · simp (disch := omega) only [zrd_hit, zrd_miss, and_self]
      · intro i i0 i1
        simp (disch := omega) only [zrd_hit, zrd_miss]; exact h1 i i0 i1
      · intro f x i hf
        simp (disch := omega) only [zrd_hit, zrd_miss]; exact h2 f x i (by omega)
  unfold fX9_clear
  rw [zpf_ap, zpf_ap]
  refine zlp_for (lo := 0) (hi := 4) (by omega) (by omega) (fun s M' => (∀ i, 0 ≤ i → i < s → M' 1002 p i = 0) ∧ (∀ f x i, ¬ (f = 1002 ∧ x = p) → M' f x i = zup (zup M 1000 p 0 0) 1001 p 0 0 f x i))
    (fun o => ∃ M', o = some (0, M') ∧ (M' 1000 p 0 = 0 ∧ M' 1001 p 0 = 0 ∧ M' 1009 p 0 = 0 ∧ M' 1010 p 0 = 0) ∧ (∀ i, 0 ≤ i → i < 4 → M' 1002 p i = 0) ∧ (∀ i, 0 ≤ i → i < 8 → M' 1003 p i = 0 ∧ M' 1004 p i = 0 ∧ M' 1005 p i = 0) ∧ (∀ f x i, ¬ (1000 ≤ f ∧ f ≤ 1010 ∧ x = p) → M' f x i = M f x i)) ?_ ?_ ⟨fun i a b => by omega, fun _ _ _ _ => rfl⟩
  · rintro i M0 i0 i1 ⟨h1, h2⟩
    refine ⟨zup M0 1002 p i 0, ⟨?_, ?_⟩, ?_⟩
    · intro k k0 k1
      by_cases e : k = i
      · subst e; simp (disch := omega) only [zrd_hit, zrd_miss]
      · simp (disch := omega) only [zrd_hit, zrd_miss]; exact h1 k k0 (by omega)
    · intro f x k hf
      rw [zrd_miss (by omega)]; exact h2 f x k hf
    · intro f
      unfold fX9_clear_B12
      rw [zitF (by omega), zas_in (by omega), zlt_ap, zi_of (by omega)]
  · rintro M0 ⟨h1, h2⟩ f
    obtain ⟨M', e1, e2, e3, e4⟩ := l2 M0
    refine ⟨M', ?_, ⟨?_, ?_, e2.1, e2.2⟩, ?_, e3, ?_⟩
    · unfold fX9_clear_B12
      rw [zitT (by omega)]; exact e1
    · rw [e4 _ _ _ (by omega), h2 _ _ _ (by omega)]; simp (disch := omega) only [zrd_hit, zrd_miss]
    · rw [e4 _ _ _ (by omega), h2 _ _ _ (by omega)]; simp (disch := omega) only [zrd_hit, zrd_miss]
    · intro i i0 i1; rw [e4 _ _ _ (by omega)]; exact h1 i i0 i1
    · intro f x i hf
      rw [e4 f x i (by omega), h2 f x i (by omega)]; simp (disch := omega) only [zrd_hit, zrd_miss]
theorem p_unb {p n : Int} (hp : 0 ≤ p) (hn : 0 ≤ n ∧ n < 32) {M : zM} : ∃ M', fX8_unbind p n M = some (0, M') ∧ (∀ i, 16 * n ≤ i → i < 16 * n + 16 → M' 918 p i = -1) ∧ (∀ f x i, ¬ (f = 918 ∧ x = p ∧ 16 * n ≤ i ∧ i < 16 * n + 16) → M' f x i = M f x i) := by
  unfold fX8_unbind
  refine zlp_for (lo := 0) (hi := 16) (by omega) (by omega) (fun s M' => (∀ i, 16 * n ≤ i → i < 16 * n + s → M' 918 p i = -1) ∧ (∀ f x i, ¬ (f = 918 ∧ x = p ∧ 16 * n ≤ i ∧ i < 16 * n + 16) → M' f x i = M f x i))
    (fun o => ∃ M', o = some (0, M') ∧ (∀ i, 16 * n ≤ i → i < 16 * n + 16 → M' 918 p i = -1) ∧ (∀ f x i, ¬ (f = 918 ∧ x = p ∧ 16 * n ≤ i ∧ i < 16 * n + 16) → M' f x i = M f x i)) ?_ ?_ ⟨fun i a b => by omega, fun _ _ _ _ => rfl⟩
  · rintro i M0 i0 i1 ⟨h1, h2⟩
    refine ⟨zup M0 918 p (16 * n + i) (-1), ⟨?_, ?_⟩, ?_⟩
    · intro k k0 k1
      by_cases e : k = 16 * n + i
      · subst e; simp (disch := omega) only [zrd_hit, zrd_miss]
      · simp (disch := omega) only [zrd_hit, zrd_miss]; exact h1 k k0 (by omega)
    · intro f x k hf
      simp (disch := omega) only [zrd_hit, zrd_miss]; exact h2 f x k hf
    · intro f
      unfold fX8_unbind_B2
      rw [zitF (by omega), zi_of (x := 16 * n) (by omega), zi_of (x := 16 * n + i) (by omega), zas_in (by omega), zlt_ap, zi_of (by omega)]
  · rintro M0 ⟨h1, h2⟩ f
    exact ⟨M0, by unfold fX8_unbind_B2; rw [zitT (by omega), zret_ap], h1, h2⟩
def yBeg (A A' : zM) (p pe pj l sg pl ri : Int) : Prop :=
  (A' 902 p 0 = 1 ∧ A' 903 p 0 = 0 ∧ A' 904 p 0 = pe ∧ A' 905 p 0 = pj ∧ A' 906 p 0 = l ∧ A' 907 p 0 = 0 ∧ A' 910 p 0 = 0 ∧ A' 911 p 0 = 0 ∧ A' 920 p 0 = 0 ∧ A' 923 p 0 = 0 ∧ A' 924 p 0 = 0 ∧ A' 1101 p 0 = 0 ∧ A' 1102 p 0 = -3750763034362895579) ∧
  (A' 1000 p 0 = 0 ∧ A' 1001 p 0 = 0 ∧ A' 1006 p 0 = 8 ∧ A' 1007 p 0 = pl ∧ A' 1008 p 0 = ri ∧ A' 1009 p 0 = 0 ∧ A' 1010 p 0 = 0) ∧
  (∀ i, 0 ≤ i → i < 4 → A' 1002 p i = 0) ∧
  (∀ i, 0 ≤ i → i < 8 → A' 1003 p i = 0 ∧ A' 1004 p i = 0 ∧ A' 1005 p i = 0) ∧
  (∀ i, 0 ≤ i → i < 512 → A' 915 p i = 0) ∧
  (∀ i, 0 ≤ i → i < 32 → A' 916 p i = if i = 8 then sg else -1) ∧
  (∀ i, 0 ≤ i → i < 512 → A' 918 p i = -1) ∧
  (∀ i, 0 ≤ i → i < 4 → A' 921 p i = -1) ∧
  (A' 1200 (32 * p + 8) 0 = 0) ∧
  (∀ f x i, ¬ ((f < 1200 ∧ x = p) ∨ (f = 1200 ∧ x = 32 * p + 8)) → A' f x i = A f x i) ∧
  (A' 1100 = A 1100)
theorem yBeg.s {A A' : zM} {p pe pj l sg pl ri : Int} (h : yBeg A A' p pe pj l sg pl ri) : A' 902 p 0 = 1 ∧ A' 903 p 0 = 0 ∧ A' 904 p 0 = pe ∧ A' 905 p 0 = pj ∧ A' 906 p 0 = l ∧ A' 907 p 0 = 0 ∧ A' 910 p 0 = 0 ∧ A' 911 p 0 = 0 ∧ A' 920 p 0 = 0 ∧ A' 923 p 0 = 0 ∧ A' 924 p 0 = 0 ∧ A' 1101 p 0 = 0 ∧ A' 1102 p 0 = -3750763034362895579 := h.1
theorem yBeg.r {A A' : zM} {p pe pj l sg pl ri : Int} (h : yBeg A A' p pe pj l sg pl ri) : A' 1000 p 0 = 0 ∧ A' 1001 p 0 = 0 ∧ A' 1006 p 0 = 8 ∧ A' 1007 p 0 = pl ∧ A' 1008 p 0 = ri ∧ A' 1009 p 0 = 0 ∧ A' 1010 p 0 = 0 := h.2.1
theorem yBeg.x {A A' : zM} {p pe pj l sg pl ri : Int} (h : yBeg A A' p pe pj l sg pl ri) : ∀ i, 0 ≤ i → i < 4 → A' 1002 p i = 0 := h.2.2.1
theorem yBeg.po {A A' : zM} {p pe pj l sg pl ri : Int} (h : yBeg A A' p pe pj l sg pl ri) : ∀ i, 0 ≤ i → i < 8 → A' 1003 p i = 0 ∧ A' 1004 p i = 0 ∧ A' 1005 p i = 0 := h.2.2.2.1
theorem yBeg.sk {A A' : zM} {p pe pj l sg pl ri : Int} (h : yBeg A A' p pe pj l sg pl ri) : ∀ i, 0 ≤ i → i < 512 → A' 915 p i = 0 := h.2.2.2.2.1
theorem yBeg.kn {A A' : zM} {p pe pj l sg pl ri : Int} (h : yBeg A A' p pe pj l sg pl ri) : ∀ i, 0 ≤ i → i < 32 → A' 916 p i = if i = 8 then sg else -1 := h.2.2.2.2.2.1
theorem yBeg.lk {A A' : zM} {p pe pj l sg pl ri : Int} (h : yBeg A A' p pe pj l sg pl ri) : ∀ i, 0 ≤ i → i < 512 → A' 918 p i = -1 := h.2.2.2.2.2.2.1
theorem yBeg.se {A A' : zM} {p pe pj l sg pl ri : Int} (h : yBeg A A' p pe pj l sg pl ri) : ∀ i, 0 ≤ i → i < 4 → A' 921 p i = -1 := h.2.2.2.2.2.2.2.1
theorem yBeg.rv {A A' : zM} {p pe pj l sg pl ri : Int} (h : yBeg A A' p pe pj l sg pl ri) : A' 1200 (32 * p + 8) 0 = 0 := h.2.2.2.2.2.2.2.2.1
theorem yBeg.f {A A' : zM} {p pe pj l sg pl ri : Int} (h : yBeg A A' p pe pj l sg pl ri) : ∀ f x i, ¬ ((f < 1200 ∧ x = p) ∨ (f = 1200 ∧ x = 32 * p + 8)) → A' f x i = A f x i := h.2.2.2.2.2.2.2.2.2.1
theorem yBeg.t {A A' : zM} {p pe pj l sg pl ri : Int} (h : yBeg A A' p pe pj l sg pl ri) : A' 1100 = A 1100 := h.2.2.2.2.2.2.2.2.2.2
theorem p_begC {A : zM} {p pe pj l sg pl ri : Int} (hp : yPr p) : ∃ A', fX8_begin p pe pj l sg pl ri A = some (0, A') ∧ yBeg A A' p pe pj l sg pl ri := by
  -- the parts behind each loop, from the last one on
  have s5 : ∀ M0 : zM, ∃ M', zlp (fX8_begin_B139 p) zBIG 0 M0 = some (0, M') ∧ (∀ i, 0 ≤ i → i < 4 → M' 921 p i = -1) ∧ (M' 923 p 0 = 0 ∧ M' 924 p 0 = 0 ∧ M' 1101 p 0 = 0 ∧ M' 1102 p 0 = -3750763034362895579) ∧ (∀ f x i, ¬ (x = p ∧ (f = 921 ∨ f = 923 ∨ f = 924 ∨ f = 1101 ∨ f = 1102)) → M' f x i = M0 f x i) := by
    intro M0
    refine zlp_for (lo := 0) (hi := 4) (by omega) (by omega) (fun s M' => (∀ i, 0 ≤ i → i < s → M' 921 p i = -1) ∧ (∀ f x i, ¬ (f = 921 ∧ x = p) → M' f x i = M0 f x i))
      (fun o => ∃ M', o = some (0, M') ∧ (∀ i, 0 ≤ i → i < 4 → M' 921 p i = -1) ∧ (M' 923 p 0 = 0 ∧ M' 924 p 0 = 0 ∧ M' 1101 p 0 = 0 ∧ M' 1102 p 0 = -3750763034362895579) ∧ (∀ f x i, ¬ (x = p ∧ (f = 921 ∨ f = 923 ∨ f = 924 ∨ f = 1101 ∨ f = 1102)) → M' f x i = M0 f x i)) ?_ ?_ ⟨fun i a b => by omega, fun _ _ _ _ => rfl⟩
    · rintro i M i0 i1 ⟨h1, h2⟩
      refine ⟨zup M 921 p i (-1), ⟨?_, ?_⟩, ?_⟩
      · intro k k0 k1
        by_cases e : k = i
        · subst e; simp (disch := omega) only [zrd_hit, zrd_miss]
        · simp (disch := omega) only [zrd_hit, zrd_miss]; exact h1 k k0 (by omega)
      · intro f x k hf
        simp (disch := omega) only [zrd_hit, zrd_miss]; exact h2 f x k hf
      · intro f
        unfold fX8_begin_B139
        rw [zitF (by omega), zas_in (by omega), zlt_ap, zi_of (by omega)]
    · rintro M ⟨h1, h2⟩ f
      refine ⟨zup (zup (zup (zup M 923 p 0 0) 924 p 0 0) 1101 p 0 0) 1102 p 0 (-3750763034362895579), ?_, ?_, ?_, ?_⟩
      · unfold fX8_begin_B139 fX8_begin_J159 fX10_clear
        rw [zitT (by omega)]; rfl
      · intro i i0 i1; simp (disch := omega) only [zrd_hit, zrd_miss]; exact h1 i i0 i1
      · simp (disch := omega) only [zrd_hit, zrd_miss, and_self]
      · intro f x i hf; simp (disch := omega) only [zrd_hit, zrd_miss]; exact h2 f x i (by omega)
  have s4 : ∀ M0 : zM, ∃ M', fX8_begin_J117 p sg M0 = some (0, M') ∧ (∀ i, 0 ≤ i → i < 4 → M' 921 p i = -1) ∧ (M' 923 p 0 = 0 ∧ M' 924 p 0 = 0 ∧ M' 1101 p 0 = 0 ∧ M' 1102 p 0 = -3750763034362895579) ∧ M' 916 p 8 = sg ∧ M' 1200 (32 * p + 8) 0 = 0 ∧ M' 920 p 0 = 0 ∧ (∀ f x i, ¬ ((x = p ∧ (f = 920 ∨ f = 921 ∨ f = 923 ∨ f = 924 ∨ f = 1101 ∨ f = 1102)) ∨ (f = 916 ∧ x = p ∧ i = 8) ∨ (f = 1200 ∧ x = 32 * p + 8)) → M' f x i = M0 f x i) := by
    intro M0
    have ek : fX8_know p 8 sg M0 = some (0, zup (zup M0 916 p 8 sg) 1200 (32 * p + 8) 0 0) := by
      unfold fX8_know
      rw [zas_in (by omega), zib_in (by omega), zpf_ap, zret_ap]
    obtain ⟨M', e1, e2, e3, e4⟩ := s5 (zup (zup (zup M0 916 p 8 sg) 1200 (32 * p + 8) 0 0) 920 p 0 0)
    refine ⟨M', ?_, e2, e3, ?_, ?_, ?_, ?_⟩
    · unfold fX8_begin_J117
      rw [zcl_some ek, zpf_ap]; exact e1
    · rw [e4 _ _ _ (by omega)]; simp (disch := omega) only [zrd_hit, zrd_miss]
    · rw [e4 _ _ _ (by omega)]; simp (disch := omega) only [zrd_hit, zrd_miss]
    · rw [e4 _ _ _ (by omega)]; simp (disch := omega) only [zrd_hit, zrd_miss]
    · intro f x i hf
      rw [e4 f x i (by omega)]; simp (disch := omega) only [zrd_hit, zrd_miss]
  have s3 : ∀ M0 : zM, ∃ M1, fX8_begin_J87 p sg M0 = fX8_begin_J117 p sg M1 ∧ (∀ i, 0 ≤ i → i < 32 → M1 916 p i = -1) ∧ (∀ i, 0 ≤ i → i < 512 → M1 918 p i = -1) ∧ (∀ f x i, ¬ (x = p ∧ (f = 916 ∨ f = 918)) → M1 f x i = M0 f x i) := by
    intro M0
    unfold fX8_begin_J87
    refine zlp_for (lo := 0) (hi := 32) (by omega) (by omega) (fun s M' => (∀ i, 0 ≤ i → i < s → M' 916 p i = -1) ∧ (∀ i, 0 ≤ i → i < 16 * s → M' 918 p i = -1) ∧ (∀ f x i, ¬ (x = p ∧ (f = 916 ∨ f = 918)) → M' f x i = M0 f x i))
      (fun o => ∃ M1, o = fX8_begin_J117 p sg M1 ∧ (∀ i, 0 ≤ i → i < 32 → M1 916 p i = -1) ∧ (∀ i, 0 ≤ i → i < 512 → M1 918 p i = -1) ∧ (∀ f x i, ¬ (x = p ∧ (f = 916 ∨ f = 918)) → M1 f x i = M0 f x i)) ?_ ?_ ⟨fun i a b => by omega, fun i a b => by omega, fun _ _ _ _ => rfl⟩
    · rintro i M i0 i1 ⟨h1, h3, h2⟩
      obtain ⟨M', e1, e2, e3⟩ := p_unb (p := p) (n := i) hp.1 (by omega) (M := zup M 916 p i (-1))
      refine ⟨M', ⟨?_, ?_, ?_⟩, ?_⟩
      · intro k k0 k1
        rw [e3 _ _ _ (by omega)]
        by_cases e : k = i
        · subst e; simp (disch := omega) only [zrd_hit, zrd_miss]
        · simp (disch := omega) only [zrd_hit, zrd_miss]; exact h1 k k0 (by omega)
      · intro k k0 k1
        by_cases e : 16 * i ≤ k
        · exact e2 k e (by omega)
        · rw [e3 _ _ _ (by omega)]; simp (disch := omega) only [zrd_hit, zrd_miss]; exact h3 k k0 (by omega)
      · intro f x k hf
        rw [e3 f x k (by omega)]; simp (disch := omega) only [zrd_hit, zrd_miss]; exact h2 f x k hf
      · intro f
        unfold fX8_begin_B90
        rw [zitF (by omega), zas_in (by omega), zcl_some e1, zlt_ap, zi_of (by omega)]
    · rintro M ⟨h1, h3, h2⟩ f
      exact ⟨M, by unfold fX8_begin_B90; rw [zitT (by omega)], h1, fun i a b => h3 i a (by omega), h2⟩
  have s2 : ∀ M0 : zM, ∃ M1, zlp (fX8_begin_B63 p sg) zBIG 0 M0 = fX8_begin_J87 p sg M1 ∧ (∀ i, 0 ≤ i → i < 512 → M1 915 p i = 0) ∧ (∀ f x i, ¬ (x = p ∧ f = 915) → M1 f x i = M0 f x i) := by
    intro M0
    refine zlp_for (lo := 0) (hi := 512) (by omega) (by omega) (fun s M' => (∀ i, 0 ≤ i → i < s → M' 915 p i = 0) ∧ (∀ f x i, ¬ (x = p ∧ f = 915) → M' f x i = M0 f x i))
      (fun o => ∃ M1, o = fX8_begin_J87 p sg M1 ∧ (∀ i, 0 ≤ i → i < 512 → M1 915 p i = 0) ∧ (∀ f x i, ¬ (x = p ∧ f = 915) → M1 f x i = M0 f x i)) ?_ ?_ ⟨fun i a b => by omega, fun _ _ _ _ => rfl⟩
    · rintro i M i0 i1 ⟨h1, h2⟩
      refine ⟨zup M 915 p i 0, ⟨?_, ?_⟩, ?_⟩
      · intro k k0 k1
        by_cases e : k = i
        · subst e; simp (disch := omega) only [zrd_hit, zrd_miss]
        · simp (disch := omega) only [zrd_hit, zrd_miss]; exact h1 k k0 (by omega)
      · intro f x k hf
        simp (disch := omega) only [zrd_hit, zrd_miss]; exact h2 f x k hf
      · intro f
        unfold fX8_begin_B63
        rw [zitF (by omega), zas_in (by omega), zlt_ap, zi_of (by omega)]
    · rintro M ⟨h1, h2⟩ f
      exact ⟨M, by unfold fX8_begin_B63; rw [zitT (by omega)], h1, h2⟩
  obtain ⟨M1, c1, c2, c3, c4, c5⟩ := p_clrR (p := p) hp.1 (M := zup (zup (zup (zup (zup (zup A 902 p 0 1) 903 p 0 0) 904 p 0 pe) 905 p 0 pj) 906 p 0 l) 907 p 0 0)
  have eg : fX9_go p 8 pl ri M1 = some (0, zup (zup (zup M1 1006 p 0 8) 1007 p 0 pl) 1008 p 0 ri) := rfl
  obtain ⟨M2, d1, d2, d3⟩ := s2 (zup (zup (zup (zup (zup M1 1006 p 0 8) 1007 p 0 pl) 1008 p 0 ri) 910 p 0 0) 911 p 0 0)
  obtain ⟨M3, f1, f2, f3, f4⟩ := s3 M2
  obtain ⟨M4, g1, g2, g3, g4, g5, g6, g7⟩ := s4 M3
  have fin : fX8_begin p pe pj l sg pl ri A = some (0, M4) := by
    unfold fX8_begin
    rw [zpf_ap, zpf_ap, zpf_ap, zpf_ap, zpf_ap, zpf_ap, zcl_some c1, zcl_some eg, zpf_ap, zpf_ap, d1, f1]; exact g1
  have up : ∀ f i, ¬ (f = 915 ∨ f = 916 ∨ f = 918 ∨ f = 920 ∨ f = 921 ∨ f = 923 ∨ f = 924 ∨ f = 1101 ∨ f = 1102 ∨ f = 1200) → M4 f p i = zup (zup (zup (zup (zup M1 1006 p 0 8) 1007 p 0 pl) 1008 p 0 ri) 910 p 0 0) 911 p 0 0 f p i := by
    intro f i hf
    rw [g7 f p i (by omega), f4 f p i (by omega), d3 f p i (by omega)]
  refine ⟨M4, fin, ⟨⟨?_, ?_, ?_, ?_, ?_, ?_, ?_, ?_, g6, g3.1, g3.2.1, g3.2.2.1, g3.2.2.2⟩, ⟨?_, ?_, ?_, ?_, ?_, ?_, ?_⟩, ?_, ?_, ?_, ?_, ?_, g2, g5, ?_, ?_⟩⟩
  · rw [up _ _ (by omega)]; simp (disch := omega) only [zrd_hit, zrd_miss]; rw [c5 _ _ _ (by omega)]; simp (disch := omega) only [zrd_hit, zrd_miss]
  · rw [up _ _ (by omega)]; simp (disch := omega) only [zrd_hit, zrd_miss]; rw [c5 _ _ _ (by omega)]; simp (disch := omega) only [zrd_hit, zrd_miss]
  · rw [up _ _ (by omega)]; simp (disch := omega) only [zrd_hit, zrd_miss]; rw [c5 _ _ _ (by omega)]; simp (disch := omega) only [zrd_hit, zrd_miss]
  · rw [up _ _ (by omega)]; simp (disch := omega) only [zrd_hit, zrd_miss]; rw [c5 _ _ _ (by omega)]; simp (disch := omega) only [zrd_hit, zrd_miss]
  · rw [up _ _ (by omega)]; simp (disch := omega) only [zrd_hit, zrd_miss]; rw [c5 _ _ _ (by omega)]; simp (disch := omega) only [zrd_hit, zrd_miss]
  · rw [up _ _ (by omega)]; simp (disch := omega) only [zrd_hit, zrd_miss]; rw [c5 _ _ _ (by omega)]; simp (disch := omega) only [zrd_hit, zrd_miss]
  · rw [up _ _ (by omega)]; simp (disch := omega) only [zrd_hit, zrd_miss]
  · rw [up _ _ (by omega)]; simp (disch := omega) only [zrd_hit, zrd_miss]
  · rw [up _ _ (by omega)]; simp (disch := omega) only [zrd_hit, zrd_miss]; exact c2.1
  · rw [up _ _ (by omega)]; simp (disch := omega) only [zrd_hit, zrd_miss]; exact c2.2.1
  · rw [up _ _ (by omega)]; simp (disch := omega) only [zrd_hit, zrd_miss]
  · rw [up _ _ (by omega)]; simp (disch := omega) only [zrd_hit, zrd_miss]
  · rw [up _ _ (by omega)]; simp (disch := omega) only [zrd_hit, zrd_miss]
  · rw [up _ _ (by omega)]; simp (disch := omega) only [zrd_hit, zrd_miss]; exact c2.2.2.1
  · rw [up _ _ (by omega)]; simp (disch := omega) only [zrd_hit, zrd_miss]; exact c2.2.2.2
  · intro i i0 i1; rw [up _ _ (by omega)]; simp (disch := omega) only [zrd_hit, zrd_miss]; exact c3 i i0 i1
  · intro i i0 i1; rw [up _ _ (by omega), up _ _ (by omega), up _ _ (by omega)]; simp (disch := omega) only [zrd_hit, zrd_miss]; exact c4 i i0 i1
  · intro i i0 i1; rw [g7 _ _ _ (by omega), f4 _ _ _ (by omega)]; exact d2 i i0 i1
  · intro i i0 i1
    by_cases e : i = 8
    · rw [if_pos e, e]; exact g4
    · rw [if_neg e, g7 _ _ _ (by omega)]; exact f2 i i0 i1
  · intro i i0 i1; rw [g7 _ _ _ (by omega)]; exact f3 i i0 i1
  · intro f x i hf
    rw [g7 f x i (by omega), f4 f x i (by omega), d3 f x i (by omega)]; simp (disch := omega) only [zrd_hit, zrd_miss]; rw [c5 f x i (by omega)]; simp (disch := omega) only [zrd_hit, zrd_miss]
  · funext x i
    rw [g7 _ x i (by omega), f4 _ x i (by omega), d3 _ x i (by omega)]; simp (disch := omega) only [zrd_hit, zrd_miss]; rw [c5 _ x i (by omega)]; simp (disch := omega) only [zrd_hit, zrd_miss]
