set_option linter.unusedSimpArgs false
set_option linter.unusedVariables false
/-! the twin's drop: the walk -/
/-- a loop that counts up, whatever comes behind it -/
theorem zlp_forU {ι : Type} {B : ι → (Int → zX) → Int → zX} {lo hi : Int} (hl : lo ≤ hi) (hh : hi - lo < 1000000) (I : Int → zM → Prop) (X : ι → zX)
    (step : ∀ i M, lo ≤ i → i < hi → I i M → ∃ M', I (i + 1) M' ∧ ∀ (a : ι) (f : Int → zX), B a f i M = f (i + 1) M') (fin : ∀ M, I hi M → ∀ (a : ι) (f : Int → zX), B a f hi M = X a M) {M : zM} (h0 : I lo M) : ∃ M', I hi M' ∧ ∀ a, zlp (B a) zBIG lo M = X a M' := by
  have gen : ∀ (r : Nat) (i : Int) (M : zM) (fuel : Nat), lo ≤ i → i + r = hi → r < fuel → I i M → ∃ M', I hi M' ∧ ∀ a, zlp (B a) fuel i M = X a M' := by
    intro r
    induction r with
    | zero =>
      intro i M fuel hi1 hi2 hf hI
      obtain ⟨f, rfl⟩ : ∃ f, fuel = f + 1 := ⟨fuel - 1, by omega⟩
      have e : i = hi := by omega
      subst e
      exact ⟨M, hI, fun a => fin M hI a (zlp (B a) f)⟩
    | succ r ih =>
      intro i M fuel hi1 hi2 hf hI
      obtain ⟨f, rfl⟩ : ∃ f, fuel = f + 1 := ⟨fuel - 1, by omega⟩
      obtain ⟨M', h1, h2⟩ := step i M hi1 (by omega) hI
      obtain ⟨M'', h3, h4⟩ := ih (i + 1) M' f (by omega) (by omega) (by omega) h1
      exact ⟨M'', h3, fun a => (h2 a (zlp (B a) f)).trans (h4 a)⟩
  exact gen (hi - lo).toNat lo M zBIG (by omega) (by omega) (by show _ < 1048576; omega) h0
/-- what one process keeps -/
def yLoT (M M' : zM) (n p : Int) : Prop :=
  (∀ k, 0 ≤ k → k < 32 → M' 6838 0 (32 * p + k) = if M 6820 0 p = 1 ∧ 8 ≤ k ∧ M 6838 0 (32 * p + k) = n then -1 else M 6838 0 (32 * p + k)) ∧
  (∀ i, 0 ≤ i → i < 512 → M' 6839 0 (512 * p + i) = if M 6820 0 p = 1 ∧ ((8 ≤ i / 16 ∧ M 6838 0 (32 * p + i / 16) = n) ∨ (0 ≤ M 6839 0 (512 * p + i) ∧ 8 ≤ M 6839 0 (512 * p + i) / 262144 ∧ M 6839 0 (512 * p + i) / 262144 < 32 ∧ M 6838 0 (32 * p + M 6839 0 (512 * p + i) / 262144) = n)) then -1 else M 6839 0 (512 * p + i)) ∧
  (M' 6840 0 p = if M 6840 0 p = n then 0 else M 6840 0 p) ∧
  (∀ k, 0 ≤ k → k < 4 → M' 6841 0 (4 * p + k) = if M 6841 0 (4 * p + k) = n then -1 else M 6841 0 (4 * p + k)) ∧
  (∀ f x i, ¬ (x = 0 ∧ ((f = 6838 ∧ 32 * p ≤ i ∧ i < 32 * p + 32) ∨ (f = 6839 ∧ 512 * p ≤ i ∧ i < 512 * p + 512) ∨ (f = 6840 ∧ i = p) ∨ (f = 6841 ∧ 4 * p ≤ i ∧ i < 4 * p + 4))) → M' f x i = M f x i)
theorem yLoT.k {M M' : zM} {n p : Int} (h : yLoT M M' n p) : ∀ k, 0 ≤ k → k < 32 → M' 6838 0 (32 * p + k) = if M 6820 0 p = 1 ∧ 8 ≤ k ∧ M 6838 0 (32 * p + k) = n then -1 else M 6838 0 (32 * p + k) := h.1
theorem yLoT.l {M M' : zM} {n p : Int} (h : yLoT M M' n p) : ∀ i, 0 ≤ i → i < 512 → M' 6839 0 (512 * p + i) = if M 6820 0 p = 1 ∧ ((8 ≤ i / 16 ∧ M 6838 0 (32 * p + i / 16) = n) ∨ (0 ≤ M 6839 0 (512 * p + i) ∧ 8 ≤ M 6839 0 (512 * p + i) / 262144 ∧ M 6839 0 (512 * p + i) / 262144 < 32 ∧ M 6838 0 (32 * p + M 6839 0 (512 * p + i) / 262144) = n)) then -1 else M 6839 0 (512 * p + i) := h.2.1
theorem yLoT.w {M M' : zM} {n p : Int} (h : yLoT M M' n p) : M' 6840 0 p = if M 6840 0 p = n then 0 else M 6840 0 p := h.2.2.1
theorem yLoT.s {M M' : zM} {n p : Int} (h : yLoT M M' n p) : ∀ k, 0 ≤ k → k < 4 → M' 6841 0 (4 * p + k) = if M 6841 0 (4 * p + k) = n then -1 else M 6841 0 (4 * p + k) := h.2.2.2.1
theorem yLoT.f {M M' : zM} {n p : Int} (h : yLoT M M' n p) : ∀ f x i, ¬ (x = 0 ∧ ((f = 6838 ∧ 32 * p ≤ i ∧ i < 32 * p + 32) ∨ (f = 6839 ∧ 512 * p ≤ i ∧ i < 512 * p + 512) ∨ (f = 6840 ∧ i = p) ∨ (f = 6841 ∧ 4 * p ≤ i ∧ i < 4 * p + 4))) → M' f x i = M f x i := h.2.2.2.2
theorem p_dr1 {M : zM} {n p : Int} (hp : yPr p) (hn : 0 < n) (hl : M 6820 0 p = 0 ∨ M 6820 0 p = 1) (hr : M 6820 0 p = 1 → ∀ i, 0 ≤ i → i < 512 → -1 ≤ M 6839 0 (512 * p + i) ∧ M 6839 0 (512 * p + i) ≤ 10000000) :
    ∃ M', yLoT M M' n p ∧ ∀ f : Int → zX, fX67_drop_B32 n f p M = f (p + 1) M' := by
  -- numbers
  have s1 : ∃ M1, ((∀ k, 0 ≤ k → k < 32 → M1 6838 0 (32 * p + k) = if M 6820 0 p = 1 ∧ 8 ≤ k ∧ k < 32 ∧ M 6838 0 (32 * p + k) = n then -1 else M 6838 0 (32 * p + k)) ∧ (∀ i, 0 ≤ i → i < 512 → M1 6839 0 (512 * p + i) = if M 6820 0 p = 1 ∧ ((8 ≤ i / 16 ∧ i / 16 < 32 ∧ M 6838 0 (32 * p + i / 16) = n) ∨ (0 ≤ M 6839 0 (512 * p + i) ∧ 8 ≤ M 6839 0 (512 * p + i) / 262144 ∧ M 6839 0 (512 * p + i) / 262144 < 32 ∧ M 6838 0 (32 * p + M 6839 0 (512 * p + i) / 262144) = n)) then -1 else M 6839 0 (512 * p + i)) ∧ (∀ f x i, ¬ (x = 0 ∧ ((f = 6838 ∧ 32 * p ≤ i ∧ i < 32 * p + 32) ∨ (f = 6839 ∧ 512 * p ≤ i ∧ i < 512 * p + 512))) → M1 f x i = M f x i)) ∧ ∀ f : Int → zX, zlp (fX67_drop_B41 f n p) zBIG 8 M = fX67_drop_J83 f n p M1 := by
    refine zlp_forU (ι := Int → zX) (B := fun f => fX67_drop_B41 f n p) (lo := 8) (hi := 32) (by omega) (by omega)
      (fun s M1 => (∀ k, 0 ≤ k → k < 32 → M1 6838 0 (32 * p + k) = if M 6820 0 p = 1 ∧ 8 ≤ k ∧ k < s ∧ M 6838 0 (32 * p + k) = n then -1 else M 6838 0 (32 * p + k)) ∧ (∀ i, 0 ≤ i → i < 512 → M1 6839 0 (512 * p + i) = if M 6820 0 p = 1 ∧ ((8 ≤ i / 16 ∧ i / 16 < s ∧ M 6838 0 (32 * p + i / 16) = n) ∨ (0 ≤ M 6839 0 (512 * p + i) ∧ 8 ≤ M 6839 0 (512 * p + i) / 262144 ∧ M 6839 0 (512 * p + i) / 262144 < s ∧ M 6838 0 (32 * p + M 6839 0 (512 * p + i) / 262144) = n)) then -1 else M 6839 0 (512 * p + i)) ∧ (∀ f x i, ¬ (x = 0 ∧ ((f = 6838 ∧ 32 * p ≤ i ∧ i < 32 * p + 32) ∨ (f = 6839 ∧ 512 * p ≤ i ∧ i < 512 * p + 512))) → M1 f x i = M f x i))
      (fun f => fX67_drop_J83 f n p) ?_ ?_ ⟨fun k _ _ => by rw [if_neg (by omega)], fun i _ _ => by rw [if_neg (by omega)], fun _ _ _ _ => rfl⟩
    · rintro s M1 s0 s2 ⟨h1, h3, h2⟩
      have l1 : M1 6820 0 p = M 6820 0 p := h2 6820 0 p (by omega)
      have vs := h1 s (by omega) s2
      rw [if_neg (by omega)] at vs
      by_cases c : M 6820 0 p = 1 ∧ M 6838 0 (32 * p + s) = n
      · have hr1 := hr c.1
        obtain ⟨M', e1, e2, e3, e4⟩ := p_fgT (B := M1) (p := p) (k := s) hp (by omega) (by
          intro i i0 i1
          have := hr1 i i0 i1
          rw [h3 i i0 i1]
          split <;> omega)
        refine ⟨M', ⟨?_, ?_, ?_⟩, ?_⟩
        · intro k k0 k1
          by_cases e : k = s
          · subst e; rw [e2, if_pos ⟨c.1, by omega, by omega, c.2⟩]
          · rw [e4 _ _ _ (by omega), h1 k k0 k1]
            by_cases q : M 6820 0 p = 1 ∧ 8 ≤ k ∧ k < s ∧ M 6838 0 (32 * p + k) = n
            · rw [if_pos q, if_pos ⟨q.1, q.2.1, by omega, q.2.2.2⟩]
            · rw [if_neg q, if_neg (fun z => q ⟨z.1, z.2.1, by omega, z.2.2.2⟩)]
        · intro i i0 i1
          have ri := hr1 i i0 i1
          rw [e3 i i0 i1, h3 i i0 i1]
          by_cases q : M 6820 0 p = 1 ∧ ((8 ≤ i / 16 ∧ i / 16 < s ∧ M 6838 0 (32 * p + i / 16) = n) ∨ (0 ≤ M 6839 0 (512 * p + i) ∧ 8 ≤ M 6839 0 (512 * p + i) / 262144 ∧ M 6839 0 (512 * p + i) / 262144 < s ∧ M 6838 0 (32 * p + M 6839 0 (512 * p + i) / 262144) = n))
          · have q' : M 6820 0 p = 1 ∧ ((8 ≤ i / 16 ∧ i / 16 < s + 1 ∧ M 6838 0 (32 * p + i / 16) = n) ∨ (0 ≤ M 6839 0 (512 * p + i) ∧ 8 ≤ M 6839 0 (512 * p + i) / 262144 ∧ M 6839 0 (512 * p + i) / 262144 < s + 1 ∧ M 6838 0 (32 * p + M 6839 0 (512 * p + i) / 262144) = n)) := ⟨q.1, q.2.elim (fun z => Or.inl ⟨z.1, by omega, z.2.2⟩) (fun z => Or.inr ⟨z.1, z.2.1, by omega, z.2.2.2⟩)⟩
            rw [if_pos q, if_pos q']
            split <;> rfl
          · rw [if_neg q]
            by_cases q2 : i / 16 = s ∨ (0 ≤ M 6839 0 (512 * p + i) ∧ M 6839 0 (512 * p + i) / 262144 = s)
            · rw [if_pos q2, if_pos]
              refine ⟨c.1, ?_⟩
              rcases q2 with q2 | q2
              · exact Or.inl ⟨by omega, by omega, by rw [q2]; exact c.2⟩
              · exact Or.inr ⟨q2.1, by omega, by omega, by rw [q2.2]; exact c.2⟩
            · rw [if_neg q2, if_neg]
              rintro ⟨a, b⟩
              rcases b with b | b
              · exact q ⟨a, Or.inl ⟨b.1, by omega, b.2.2⟩⟩
              · exact q ⟨a, Or.inr ⟨b.1, b.2.1, by omega, b.2.2.2⟩⟩
        · intro f x i hf
          rw [e4 f x i (by omega)]; exact h2 f x i hf
        · intro a f
          unfold fX67_drop_B41 fX67_drop_J77
          rw [zitF (by omega), zal_in hp, l1, zitF (by omega), zi_of (x := 32 * p) (by omega), zi_of (x := 32 * p + s) (by omega), zal_in (by omega), vs, zitF (fun x => x c.2), zcl_some e1, zlt_ap, zi_of (by omega)]
      · refine ⟨M1, ⟨?_, ?_, h2⟩, ?_⟩
        · intro k k0 k1
          rw [h1 k k0 k1]
          by_cases q : M 6820 0 p = 1 ∧ 8 ≤ k ∧ k < s ∧ M 6838 0 (32 * p + k) = n
          · rw [if_pos q, if_pos ⟨q.1, q.2.1, by omega, q.2.2.2⟩]
          · rw [if_neg q, if_neg]
            rintro ⟨a, b, d, e⟩
            by_cases z : k = s
            · rw [z] at e; exact c ⟨a, e⟩
            · exact q ⟨a, b, by omega, e⟩
        · intro i i0 i1
          rw [h3 i i0 i1]
          by_cases q : M 6820 0 p = 1 ∧ ((8 ≤ i / 16 ∧ i / 16 < s ∧ M 6838 0 (32 * p + i / 16) = n) ∨ (0 ≤ M 6839 0 (512 * p + i) ∧ 8 ≤ M 6839 0 (512 * p + i) / 262144 ∧ M 6839 0 (512 * p + i) / 262144 < s ∧ M 6838 0 (32 * p + M 6839 0 (512 * p + i) / 262144) = n))
          · rw [if_pos q, if_pos ⟨q.1, q.2.elim (fun z => Or.inl ⟨z.1, by omega, z.2.2⟩) (fun z => Or.inr ⟨z.1, z.2.1, by omega, z.2.2.2⟩)⟩]
          · rw [if_neg q, if_neg]
            rintro ⟨a, b⟩
            rcases b with b | b
            · by_cases z : i / 16 = s
              · rw [z] at b; exact c ⟨a, b.2.2⟩
              · exact q ⟨a, Or.inl ⟨b.1, by omega, b.2.2⟩⟩
            · by_cases z : M 6839 0 (512 * p + i) / 262144 = s
              · rw [z] at b; exact c ⟨a, b.2.2.2⟩
              · exact q ⟨a, Or.inr ⟨b.1, b.2.1, by omega, b.2.2.2⟩⟩
        · intro a f
          unfold fX67_drop_B41 fX67_drop_J77
          rw [zitF (by omega), zal_in hp, l1]
          by_cases z : M 6820 0 p = 0
          · rw [zitT z, zlt_ap, zi_of (by omega)]
          · rw [zitF z, zi_of (x := 32 * p) (by omega), zi_of (x := 32 * p + s) (by omega), zal_in (by omega), vs, zitT (fun x => c ⟨by omega, x⟩), zlt_ap, zi_of (by omega)]
    · rintro M1 ⟨h1, h3, h2⟩ a f
      show fX67_drop_B41 a n p f 32 M1 = fX67_drop_J83 a n p M1
      unfold fX67_drop_B41
      rw [zitT (by omega)]
  obtain ⟨M1, ⟨g1, g2, g3⟩, g4⟩ := s1
  have w1 : M1 6840 0 p = M 6840 0 p := g3 6840 0 p (by omega)
  have v1 : ∀ k, M1 6841 0 k = M 6841 0 k := fun k => g3 6841 0 k (by omega)
  -- the search
  have s2 : ∃ M2, ((∀ k, 0 ≤ k → 4 * p + k < 4 * p + 4 → M2 6841 0 (4 * p + k) = if M 6841 0 (4 * p + k) = n then -1 else M 6841 0 (4 * p + k)) ∧ (∀ k, 4 * p + 4 ≤ k → M2 6841 0 k = M 6841 0 k) ∧ (∀ f x i, ¬ (x = 0 ∧ f = 6841 ∧ 4 * p ≤ i ∧ i < 4 * p + 4) → M2 f x i = zup M1 6840 0 p (if M 6840 0 p = n then 0 else M 6840 0 p) f x i)) ∧ ∀ f : Int → zX, zlp (fX67_drop_B113 f n p) zBIG (4 * p) (zup M1 6840 0 p (if M 6840 0 p = n then 0 else M 6840 0 p)) = fX67_drop_J154 f n p M2 := by
    refine zlp_forU (ι := Int → zX) (B := fun f => fX67_drop_B113 f n p) (lo := 4 * p) (hi := 4 * p + 4) (by omega) (by omega)
      (fun s M2 => (∀ k, 0 ≤ k → 4 * p + k < s → M2 6841 0 (4 * p + k) = if M 6841 0 (4 * p + k) = n then -1 else M 6841 0 (4 * p + k)) ∧ (∀ k, s ≤ k → M2 6841 0 k = M 6841 0 k) ∧ (∀ f x i, ¬ (x = 0 ∧ f = 6841 ∧ 4 * p ≤ i ∧ i < 4 * p + 4) → M2 f x i = zup M1 6840 0 p (if M 6840 0 p = n then 0 else M 6840 0 p) f x i))
      (fun f => fX67_drop_J154 f n p) ?_ ?_ ⟨fun k _ _ => by omega, fun k _ => by rw [zrd_miss (by omega)]; exact v1 k, fun _ _ _ _ => rfl⟩
    · rintro s M2 s0 s3 ⟨h1, h3, h2⟩
      have vs := h3 s (Int.le_refl _)
      refine ⟨zup M2 6841 0 s (if M 6841 0 s = n then -1 else M 6841 0 s), ⟨?_, ?_, ?_⟩, ?_⟩
      · intro k k0 k1
        by_cases e : 4 * p + k = s
        · rw [zrd_hit (by omega), e]
        · rw [zrd_miss (by omega)]; exact h1 k k0 (by omega)
      · intro k k0; rw [zrd_miss (by omega)]; exact h3 k (by omega)
      · intro f x i hf; rw [zrd_miss (by omega)]; exact h2 f x i hf
      · intro a f
        unfold fX67_drop_B113 fX67_drop_J147
        rw [zi_of (x := 4 * p) (by omega), zi_of (x := 4 * p + 4) (by omega), zitF (by omega), zal_in (by omega), vs]
        by_cases c : M 6841 0 s = n
        · rw [zitF (fun x => x c), zas_in (by omega), zlt_ap, zi_of (by omega), if_pos c]
        · rw [zitT c, zal_in (by omega), vs, zas_in (by omega), zlt_ap, zi_of (by omega), if_neg c]
    · rintro M2 ⟨h1, h3, h2⟩ a f
      show fX67_drop_B113 a n p f (4 * p + 4) M2 = fX67_drop_J154 a n p M2
      unfold fX67_drop_B113
      rw [zi_of (x := 4 * p) (by omega), zi_of (x := 4 * p + 4) (by omega), zitT (by omega)]
  obtain ⟨M2, ⟨k1, k2, k3⟩, k4⟩ := s2
  refine ⟨M2, ⟨?_, ?_, ?_, ?_, ?_⟩, ?_⟩
  · intro k k0 k5
    rw [k3 _ _ _ (by omega), zrd_miss (by omega), g1 k k0 k5]
    by_cases q : M 6820 0 p = 1 ∧ 8 ≤ k ∧ M 6838 0 (32 * p + k) = n
    · rw [if_pos q, if_pos ⟨q.1, q.2.1, k5, q.2.2⟩]
    · rw [if_neg q, if_neg (fun z => q ⟨z.1, z.2.1, z.2.2.2⟩)]
  · intro i i0 i1
    rw [k3 _ _ _ (by omega), zrd_miss (by omega), g2 i i0 i1]
    by_cases q : M 6820 0 p = 1 ∧ ((8 ≤ i / 16 ∧ M 6838 0 (32 * p + i / 16) = n) ∨ (0 ≤ M 6839 0 (512 * p + i) ∧ 8 ≤ M 6839 0 (512 * p + i) / 262144 ∧ M 6839 0 (512 * p + i) / 262144 < 32 ∧ M 6838 0 (32 * p + M 6839 0 (512 * p + i) / 262144) = n))
    · rw [if_pos q, if_pos ⟨q.1, q.2.elim (fun z => Or.inl ⟨z.1, by omega, z.2⟩) Or.inr⟩]
    · rw [if_neg q, if_neg (fun z => q ⟨z.1, z.2.elim (fun y => Or.inl ⟨y.1, y.2.2⟩) Or.inr⟩)]
  · rw [k3 _ _ _ (by omega), zrd_hit (by omega)]
  · intro k k0 k5; exact k1 k k0 (by omega)
  · intro f x i hf
    rw [k3 f x i (by omega), zrd_miss (by omega), g3 f x i (by omega)]
  · intro f
    unfold fX67_drop_B32
    rw [zitF (by omega), g4 f]
    unfold fX67_drop_J83 fX67_drop_J108
    rw [zal_in hp, w1]
    by_cases c : M 6840 0 p = n
    · rw [if_pos c] at k4
      rw [zitF (fun x => x c), zas_in hp, zlt_ap, zi_of (by omega), k4 f]
      unfold fX67_drop_J154
      rw [zlt_ap, zi_of (by omega)]
    · rw [if_neg c] at k4
      rw [zitT c, zal_in hp, w1, zas_in hp, zlt_ap, zi_of (by omega), k4 f]
      unfold fX67_drop_J154
      rw [zlt_ap, zi_of (by omega)]
