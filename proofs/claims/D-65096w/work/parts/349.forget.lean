set_option linter.unusedSimpArgs false
set_option linter.unusedVariables false
/-! a number is forgotten; a node goes out of the processes -/
theorem p_fgC {A : zM} {p k : Int} (hp : yPr p) (hk : 0 ≤ k ∧ k < 32) : ∃ A', fX8_forget p k A = some (0, A') ∧ A' 916 p k = -1 ∧ (∀ i, 0 ≤ i → i < 512 → A' 918 p i = if i / 16 = k ∨ A 918 p i = k then -1 else A 918 p i) ∧ (∀ f x i, ¬ (x = p ∧ ((f = 916 ∧ i = k) ∨ f = 918)) → A' f x i = A f x i) := by
  obtain ⟨M1, e1, e2, e3⟩ := p_unb (p := p) (n := k) hp.1 hk (M := zup A 916 p k (-1))
  have v : ∀ i, 0 ≤ i → i < 512 → M1 918 p i = if i / 16 = k then -1 else A 918 p i := by
    intro i i0 i1
    by_cases e : i / 16 = k
    · rw [if_pos e]; exact e2 i (by omega) (by omega)
    · rw [if_neg e, e3 _ _ _ (by omega)]; simp (disch := omega) only [zrd_hit, zrd_miss]
  unfold fX8_forget
  rw [zas_in (by omega), zcl_some e1]
  refine zlp_for (lo := 0) (hi := 512) (by omega) (by omega) (fun s M' => (∀ i, 0 ≤ i → i < s → M' 918 p i = if i / 16 = k ∨ A 918 p i = k then -1 else A 918 p i) ∧ (∀ i, s ≤ i → i < 512 → M' 918 p i = M1 918 p i) ∧ (∀ f x i, ¬ (x = p ∧ f = 918) → M' f x i = M1 f x i))
    (fun o => ∃ A', o = some (0, A') ∧ A' 916 p k = -1 ∧ (∀ i, 0 ≤ i → i < 512 → A' 918 p i = if i / 16 = k ∨ A 918 p i = k then -1 else A 918 p i) ∧ (∀ f x i, ¬ (x = p ∧ ((f = 916 ∧ i = k) ∨ f = 918)) → A' f x i = A f x i)) ?_ ?_ ⟨fun i a b => by omega, fun _ _ _ => rfl, fun _ _ _ _ => rfl⟩
  · rintro i M i0 i1 ⟨h1, h3, h2⟩
    have vi := h3 i (by omega) i1
    rw [v i i0 i1] at vi
    by_cases c : M 918 p i = k
    · refine ⟨zup M 918 p i (-1), ⟨?_, ?_, ?_⟩, ?_⟩
      · intro m m0 m1
        by_cases e : m = i
        · subst e
          rw [zrd_hit (by omega)]
          by_cases q : m / 16 = k
          · rw [if_pos (Or.inl q)]
          · rw [if_neg q] at vi
            rw [if_pos (Or.inr (by omega))]
        · simp (disch := omega) only [zrd_hit, zrd_miss]; exact h1 m m0 (by omega)
      · intro m m0 m1; simp (disch := omega) only [zrd_hit, zrd_miss]; exact h3 m (by omega) m1
      · intro f x m hf; simp (disch := omega) only [zrd_hit, zrd_miss]; exact h2 f x m hf
      · intro f
        unfold fX8_forget_B14 fX8_forget_J48
        rw [zitF (by omega), zal_in (by omega), zitF (fun x => x c), zas_in (by omega), zlt_ap, zi_of (by omega)]
    · refine ⟨zup M 918 p i (M 918 p i), ⟨?_, ?_, ?_⟩, ?_⟩
      · intro m m0 m1
        by_cases e : m = i
        · subst e
          rw [zrd_hit (by omega), vi]
          by_cases q : m / 16 = k
          · rw [if_pos q, if_pos (Or.inl q)]
          · rw [if_neg q] at vi ⊢
            rw [if_neg]
            rintro (x | x)
            · exact q x
            · omega
        · simp (disch := omega) only [zrd_hit, zrd_miss]; exact h1 m m0 (by omega)
      · intro m m0 m1; simp (disch := omega) only [zrd_hit, zrd_miss]; exact h3 m (by omega) m1
      · intro f x m hf; simp (disch := omega) only [zrd_hit, zrd_miss]; exact h2 f x m hf
      · intro f
        unfold fX8_forget_B14 fX8_forget_J48
        rw [zitF (by omega), zal_in (by omega), zitT c, zal_in (by omega), zas_in (by omega), zlt_ap, zi_of (by omega)]
  · rintro M ⟨h1, h3, h2⟩ f
    refine ⟨M, by unfold fX8_forget_B14; rw [zitT (by omega), zret_ap], ?_, h1, ?_⟩
    · rw [h2 _ _ _ (by omega), e3 _ _ _ (by omega)]; simp (disch := omega) only [zrd_hit, zrd_miss]
    · intro f x i hf
      rw [h2 f x i (by omega), e3 f x i (by omega)]; simp (disch := omega) only [zrd_hit, zrd_miss]
theorem p_fgT {B : zM} {p k : Int} (hp : yPr p) (hk : 0 ≤ k ∧ k < 32) (hr : ∀ i, 0 ≤ i → i < 512 → -1 ≤ B 6839 0 (512 * p + i) ∧ B 6839 0 (512 * p + i) ≤ 10000000) : ∃ B', fX67_forget p k B = some (0, B') ∧ B' 6838 0 (32 * p + k) = -1 ∧ (∀ i, 0 ≤ i → i < 512 → B' 6839 0 (512 * p + i) = if i / 16 = k ∨ (0 ≤ B 6839 0 (512 * p + i) ∧ B 6839 0 (512 * p + i) / 262144 = k) then -1 else B 6839 0 (512 * p + i)) ∧ (∀ f x i, ¬ (x = 0 ∧ ((f = 6838 ∧ i = 32 * p + k) ∨ (f = 6839 ∧ 512 * p ≤ i ∧ i < 512 * p + 512))) → B' f x i = B f x i) := by
  unfold fX67_forget
  rw [zi_of (x := 32 * p) (by omega), zi_of (x := 32 * p + k) (by omega), zas_in (by omega), zlt_ap, zi_of (by omega)]
  refine zlp_for (lo := 512 * p) (hi := 512 * p + 512) (by omega) (by omega) (fun s M' => (∀ i, 0 ≤ i → 512 * p + i < s → i < 512 → M' 6839 0 (512 * p + i) = if i / 16 = k ∨ (0 ≤ B 6839 0 (512 * p + i) ∧ B 6839 0 (512 * p + i) / 262144 = k) then -1 else B 6839 0 (512 * p + i)) ∧ (∀ i, s ≤ i → M' 6839 0 i = B 6839 0 i) ∧ (∀ f x i, ¬ (x = 0 ∧ (f = 6839 ∧ 512 * p ≤ i ∧ i < 512 * p + 512)) → M' f x i = zup B 6838 0 (32 * p + k) (-1) f x i))
    (fun o => ∃ B', o = some (0, B') ∧ B' 6838 0 (32 * p + k) = -1 ∧ (∀ i, 0 ≤ i → i < 512 → B' 6839 0 (512 * p + i) = if i / 16 = k ∨ (0 ≤ B 6839 0 (512 * p + i) ∧ B 6839 0 (512 * p + i) / 262144 = k) then -1 else B 6839 0 (512 * p + i)) ∧ (∀ f x i, ¬ (x = 0 ∧ ((f = 6838 ∧ i = 32 * p + k) ∨ (f = 6839 ∧ 512 * p ≤ i ∧ i < 512 * p + 512))) → B' f x i = B f x i)) ?_ ?_ ⟨fun i a b c => by omega, fun i _ => by simp (disch := omega) only [zrd_hit, zrd_miss], fun _ _ _ _ => rfl⟩
  · rintro i M i0 i1 ⟨h1, h3, h2⟩
    have vi := h3 i (by omega)
    have hi := hr (i - 512 * p) (by omega) (by omega)
    rw [show 512 * p + (i - 512 * p) = i by omega] at hi
    have t1 : zi (Int.tdiv (i - 512 * p) 16) = (i - 512 * p) / 16 := by
      rw [Int.tdiv_eq_ediv_of_nonneg (by omega), zi_of (by omega)]
    refine ⟨zup M 6839 0 i (if (i - 512 * p) / 16 = k ∨ (0 ≤ B 6839 0 i ∧ B 6839 0 i / 262144 = k) then -1 else B 6839 0 i), ⟨?_, ?_, ?_⟩, ?_⟩
    · intro m m0 m1 m2
      by_cases e : 512 * p + m = i
      · rw [zrd_hit (by omega), ← e, show 512 * p + m - 512 * p = m by omega]
      · simp (disch := omega) only [zrd_hit, zrd_miss]; exact h1 m m0 (by omega) m2
    · intro m m0; simp (disch := omega) only [zrd_hit, zrd_miss]; exact h3 m (by omega)
    · intro f x m hf
      rw [zrd_miss (by omega)]; exact h2 f x m hf
    · intro f
      unfold fX67_forget_B18
      rw [zi_of (x := 512 * p) (by omega), zi_of (x := 512 * p + 512) (by omega), zitF (by omega), zi_of (x := i - 512 * p) (by omega), t1]
      by_cases c1 : (i - 512 * p) / 16 = k
      · unfold fX67_forget_J50 fX67_forget_J89 fX67_forget_J101
        rw [zitF (fun x => x c1), zitT (by omega), zas_in (by omega), zlt_ap, zi_of (by omega), if_pos (Or.inl c1)]
      · unfold fX67_forget_J50 fX67_forget_J89 fX67_forget_J95 fX67_forget_J101
        rw [zitT c1, zitF (fun x => x rfl), zal_in (by omega), vi]
        by_cases c2 : B 6839 0 i < 0
        · rw [zitT c2, zal_in (by omega), vi, zas_in (by omega), zlt_ap, zi_of (by omega), if_neg (by omega)]
        · have t2 : zl (Int.tdiv (B 6839 0 i) 262144) = B 6839 0 i / 262144 := by
            rw [Int.tdiv_eq_ediv_of_nonneg (by omega), zl_of (by omega)]
          rw [zitF c2, zal_in (by omega), vi, t2]
          by_cases c3 : B 6839 0 i / 262144 = k
          · rw [zitF (fun x => x c3), zas_in (by omega), zlt_ap, zi_of (by omega), if_pos (Or.inr ⟨by omega, c3⟩)]
          · rw [zitT c3, zal_in (by omega), vi, zas_in (by omega), zlt_ap, zi_of (by omega), if_neg (by omega)]
  · rintro M ⟨h1, h3, h2⟩ f
    refine ⟨M, by unfold fX67_forget_B18; rw [zi_of (x := 512 * p) (by omega), zi_of (x := 512 * p + 512) (by omega), zitT (by omega), zret_ap], ?_, ?_, ?_⟩
    · rw [h2 _ _ _ (by omega)]; simp (disch := omega) only [zrd_hit, zrd_miss]
    · intro i i0 i1; exact h1 i i0 (by omega) i1
    · intro f x i hf
      rw [h2 f x i (by omega)]; simp (disch := omega) only [zrd_hit, zrd_miss]
/-- what stays of a process when a node goes -/
def yLoC (A A' : zM) (n p : Int) : Prop :=
  (∀ k, 0 ≤ k → k < 32 → A' 916 p k = if 8 ≤ k ∧ A 916 p k = n then -1 else A 916 p k) ∧
  (∀ i, 0 ≤ i → i < 512 → A' 918 p i = if (8 ≤ i / 16 ∧ A 916 p (i / 16) = n) ∨ (8 ≤ A 918 p i ∧ A 918 p i < 32 ∧ A 916 p (A 918 p i) = n) then -1 else A 918 p i) ∧
  (A' 920 p 0 = if A 920 p 0 = n then 0 else A 920 p 0) ∧
  (∀ k, 0 ≤ k → k < 4 → A' 921 p k = if A 921 p k = n then -1 else A 921 p k) ∧
  (∀ f x i, ¬ (x = p ∧ (f = 916 ∨ f = 918 ∨ f = 920 ∨ f = 921)) → A' f x i = A f x i)
theorem yLoC.k {A A' : zM} {n p : Int} (h : yLoC A A' n p) : ∀ k, 0 ≤ k → k < 32 → A' 916 p k = if 8 ≤ k ∧ A 916 p k = n then -1 else A 916 p k := h.1
theorem yLoC.l {A A' : zM} {n p : Int} (h : yLoC A A' n p) : ∀ i, 0 ≤ i → i < 512 → A' 918 p i = if (8 ≤ i / 16 ∧ A 916 p (i / 16) = n) ∨ (8 ≤ A 918 p i ∧ A 918 p i < 32 ∧ A 916 p (A 918 p i) = n) then -1 else A 918 p i := h.2.1
theorem yLoC.w {A A' : zM} {n p : Int} (h : yLoC A A' n p) : A' 920 p 0 = if A 920 p 0 = n then 0 else A 920 p 0 := h.2.2.1
theorem yLoC.s {A A' : zM} {n p : Int} (h : yLoC A A' n p) : ∀ k, 0 ≤ k → k < 4 → A' 921 p k = if A 921 p k = n then -1 else A 921 p k := h.2.2.2.1
theorem yLoC.f {A A' : zM} {n p : Int} (h : yLoC A A' n p) : ∀ f x i, ¬ (x = p ∧ (f = 916 ∨ f = 918 ∨ f = 920 ∨ f = 921)) → A' f x i = A f x i := h.2.2.2.2
theorem p_loC {A : zM} {n p : Int} (hp : yPr p) (hl : A 902 p 0 = 1) (hn : 0 ≤ n) (hr : ∀ i, 0 ≤ i → i < 512 → A 918 p i = -1 ∨ (8 ≤ A 918 p i ∧ A 918 p i < 32)) : ∃ A', fX8_loose p n A = some (0, A') ∧ yLoC A A' n p := by
  have s2 : ∀ M0 : zM, ∃ M', fX8_loose_J38 p n M0 = some (0, M') ∧ M' 920 p 0 = (if M0 920 p 0 = n then 0 else M0 920 p 0) ∧ (∀ k, 0 ≤ k → k < 4 → M' 921 p k = if M0 921 p k = n then -1 else M0 921 p k) ∧ (∀ f x i, ¬ (x = p ∧ (f = 920 ∨ f = 921)) → M' f x i = M0 f x i) := by
    intro M0
    have st : fX8_loose_J38 p n M0 = zlp (fX8_loose_B66 p n) zBIG 0 (zup M0 920 p 0 (if M0 920 p 0 = n then 0 else M0 920 p 0)) := by
      unfold fX8_loose_J38 fX8_loose_J61
      by_cases c : M0 920 p 0 = n
      · rw [zgf_ap, zitF (fun x => x c), znn_in hp.1, zpf_ap, if_pos c]
      · rw [zgf_ap, zitT c, zgf_ap, znn_in hp.1, zpf_ap, if_neg c]
    rw [st]
    refine zlp_for (lo := 0) (hi := 4) (by omega) (by omega) (fun s M' => (∀ k, 0 ≤ k → k < s → M' 921 p k = if M0 921 p k = n then -1 else M0 921 p k) ∧ (∀ k, s ≤ k → M' 921 p k = M0 921 p k) ∧ (∀ f x i, ¬ (x = p ∧ f = 921) → M' f x i = zup M0 920 p 0 (if M0 920 p 0 = n then 0 else M0 920 p 0) f x i))
      (fun o => ∃ M', o = some (0, M') ∧ M' 920 p 0 = (if M0 920 p 0 = n then 0 else M0 920 p 0) ∧ (∀ k, 0 ≤ k → k < 4 → M' 921 p k = if M0 921 p k = n then -1 else M0 921 p k) ∧ (∀ f x i, ¬ (x = p ∧ (f = 920 ∨ f = 921)) → M' f x i = M0 f x i)) ?_ ?_ ⟨fun i a b => by omega, fun k _ => by simp (disch := omega) only [zrd_hit, zrd_miss], fun _ _ _ _ => rfl⟩
    · rintro i M i0 i1 ⟨h1, h3, h2⟩
      have vi := h3 i (by omega)
      refine ⟨zup M 921 p i (if M0 921 p i = n then -1 else M0 921 p i), ⟨?_, ?_, ?_⟩, ?_⟩
      · intro m m0 m1
        by_cases e : m = i
        · subst e; simp (disch := omega) only [zrd_hit, zrd_miss]
        · simp (disch := omega) only [zrd_hit, zrd_miss]; exact h1 m m0 (by omega)
      · intro m m0; simp (disch := omega) only [zrd_hit, zrd_miss]; exact h3 m (by omega)
      · intro f x m hf; rw [zrd_miss (by omega)]; exact h2 f x m hf
      · intro f
        unfold fX8_loose_B66 fX8_loose_J96
        by_cases c : M0 921 p i = n
        · rw [zitF (by omega), zal_in (by omega), vi, zitF (fun x => x c), zas_in (by omega), zlt_ap, zi_of (by omega), if_pos c]
        · rw [zitF (by omega), zal_in (by omega), vi, zitT c, zal_in (by omega), vi, zas_in (by omega), zlt_ap, zi_of (by omega), if_neg c]
    · rintro M ⟨h1, h3, h2⟩ f
      refine ⟨M, by unfold fX8_loose_B66; rw [zitT (by omega), zret_ap], ?_, h1, ?_⟩
      · rw [h2 _ _ _ (by omega)]; simp (disch := omega) only [zrd_hit, zrd_miss]
      · intro f x i hf; rw [h2 f x i (by omega)]; simp (disch := omega) only [zrd_hit, zrd_miss]
  unfold fX8_loose
  rw [zgf_ap, zitT (by omega)]
  refine zlp_for (lo := 8) (hi := 32) (by omega) (by omega) (fun s M' => (∀ k, 0 ≤ k → k < 32 → M' 916 p k = if 8 ≤ k ∧ k < s ∧ A 916 p k = n then -1 else A 916 p k) ∧ (∀ i, 0 ≤ i → i < 512 → M' 918 p i = if (8 ≤ i / 16 ∧ i / 16 < s ∧ A 916 p (i / 16) = n) ∨ (8 ≤ A 918 p i ∧ A 918 p i < s ∧ A 916 p (A 918 p i) = n) then -1 else A 918 p i) ∧ (∀ f x i, ¬ (x = p ∧ (f = 916 ∨ f = 918)) → M' f x i = A f x i))
    (fun o => ∃ A', o = some (0, A') ∧ yLoC A A' n p) ?_ ?_ ⟨fun k _ _ => by rw [if_neg (by omega)], fun i _ _ => by rw [if_neg (by omega)], fun _ _ _ _ => rfl⟩
  · rintro s M s0 s1 ⟨h1, h3, h2⟩
    have vs := h1 s (by omega) s1
    rw [if_neg (by omega)] at vs
    by_cases c : A 916 p s = n
    · obtain ⟨M', e1, e2, e3, e4⟩ := p_fgC (A := M) (p := p) (k := s) hp (by omega)
      refine ⟨M', ⟨?_, ?_, ?_⟩, ?_⟩
      · intro k k0 k1
        by_cases e : k = s
        · subst e; rw [e2, if_pos ⟨by omega, by omega, c⟩]
        · rw [e4 _ _ _ (by omega), h1 k k0 k1]
          by_cases q : 8 ≤ k ∧ k < s ∧ A 916 p k = n
          · rw [if_pos q, if_pos (by omega)]
          · rw [if_neg q, if_neg (by omega)]
      · intro i i0 i1
        rw [e3 i i0 i1, h3 i i0 i1]
        have ri := hr i i0 i1
        by_cases q : (8 ≤ i / 16 ∧ i / 16 < s ∧ A 916 p (i / 16) = n) ∨ (8 ≤ A 918 p i ∧ A 918 p i < s ∧ A 916 p (A 918 p i) = n)
        · have q' : (8 ≤ i / 16 ∧ i / 16 < s + 1 ∧ A 916 p (i / 16) = n) ∨ (8 ≤ A 918 p i ∧ A 918 p i < s + 1 ∧ A 916 p (A 918 p i) = n) := by
            rcases q with q | q
            · exact Or.inl ⟨q.1, by omega, q.2.2⟩
            · exact Or.inr ⟨q.1, by omega, q.2.2⟩
          rw [if_pos q, if_pos q']
          split <;> rfl
        · rw [if_neg q]
          by_cases q2 : i / 16 = s ∨ A 918 p i = s
          · rw [if_pos q2, if_pos]
            rcases q2 with q2 | q2
            · exact Or.inl ⟨by omega, by omega, by rw [q2]; exact c⟩
            · exact Or.inr ⟨by omega, by omega, by rw [q2]; exact c⟩
          · rw [if_neg q2, if_neg]
            rintro (x | x)
            · exact q (Or.inl ⟨x.1, by omega, x.2.2⟩)
            · exact q (Or.inr ⟨x.1, by omega, x.2.2⟩)
      · intro f x i hf
        rw [e4 f x i (by omega)]; exact h2 f x i hf
      · intro f
        unfold fX8_loose_B11 fX8_loose_J32
        rw [zitF (by omega), zal_in (by omega), vs, zitF (fun x => x c), zcl_some e1, zlt_ap, zi_of (by omega)]
    · refine ⟨M, ⟨?_, ?_, h2⟩, ?_⟩
      · intro k k0 k1
        rw [h1 k k0 k1]
        by_cases q : 8 ≤ k ∧ k < s ∧ A 916 p k = n
        · rw [if_pos q, if_pos (by omega)]
        · rw [if_neg q, if_neg]
          rintro ⟨x, y, z⟩
          by_cases e : k = s
          · rw [e] at z; exact c z
          · exact q ⟨x, by omega, z⟩
      · intro i i0 i1
        rw [h3 i i0 i1]
        by_cases q : (8 ≤ i / 16 ∧ i / 16 < s ∧ A 916 p (i / 16) = n) ∨ (8 ≤ A 918 p i ∧ A 918 p i < s ∧ A 916 p (A 918 p i) = n)
        · rw [if_pos q, if_pos]
          rcases q with q | q
          · exact Or.inl ⟨q.1, by omega, q.2.2⟩
          · exact Or.inr ⟨q.1, by omega, q.2.2⟩
        · rw [if_neg q, if_neg]
          rintro (x | x)
          · by_cases e : i / 16 = s
            · rw [e] at x; exact c x.2.2
            · exact q (Or.inl ⟨x.1, by omega, x.2.2⟩)
          · by_cases e : A 918 p i = s
            · rw [e] at x; exact c x.2.2
            · exact q (Or.inr ⟨x.1, by omega, x.2.2⟩)
      · intro f
        unfold fX8_loose_B11 fX8_loose_J32
        rw [zitF (by omega), zal_in (by omega), vs, zitT c, zlt_ap, zi_of (by omega)]
  · rintro M ⟨h1, h3, h2⟩ f
    obtain ⟨M', e1, e2, e3, e4⟩ := s2 M
    refine ⟨M', by unfold fX8_loose_B11; rw [zitT (by omega)]; exact e1, ⟨?_, ?_, ?_, ?_, ?_⟩⟩
    · intro k k0 k1
      rw [e4 _ _ _ (by omega), h1 k k0 k1]
      by_cases q : 8 ≤ k ∧ A 916 p k = n
      · rw [if_pos q, if_pos ⟨q.1, k1, q.2⟩]
      · rw [if_neg q, if_neg (fun x => q ⟨x.1, x.2.2⟩)]
    · intro i i0 i1
      rw [e4 _ _ _ (by omega), h3 i i0 i1]
      by_cases q : (8 ≤ i / 16 ∧ A 916 p (i / 16) = n) ∨ (8 ≤ A 918 p i ∧ A 918 p i < 32 ∧ A 916 p (A 918 p i) = n)
      · rw [if_pos q, if_pos]
        rcases q with q | q
        · exact Or.inl ⟨q.1, by omega, q.2⟩
        · exact Or.inr q
      · rw [if_neg q, if_neg]
        rintro (x | x)
        · exact q (Or.inl ⟨x.1, x.2.2⟩)
        · exact q (Or.inr x)
    · rw [e2, h2 _ _ _ (by omega)]
    · intro k k0 k1; rw [e3 k k0 k1, h2 _ _ _ (by omega)]
    · intro f x i hf; rw [e4 f x i (by omega), h2 f x i (by omega)]
