/-! an item is set or goes, on both sides -/
theorem p_tshift {B : zM} {C : Nat} {b m k : Int} (hb : 0 ≤ b ∧ b + 3 * m ≤ zlen C) (hl : zlen C ≤ 4608) (hk : 0 ≤ k ∧ k < m) :
    ∃ B', zlp (fX67_setItem_B66 C b m) zBIG (b + 3 * k) B = some (m - 1, B') ∧ (∀ i, b + 3 * k ≤ i → i < b + 3 * m - 3 → B' C 0 i = B C 0 (i + 3)) ∧ (∀ f x i, ¬ (f = C ∧ x = 0 ∧ b + 3 * k ≤ i ∧ i < b + 3 * m - 3) → B' f x i = B f x i) := by
  refine zlp_big (B := fX67_setItem_B66 C b m) (fun s M n => b + 3 * k ≤ s ∧ s ≤ b + 3 * m - 3 ∧ n = (b + 3 * m - 3 - s).toNat ∧ (∀ i, b + 3 * k ≤ i → i < s → M C 0 i = B C 0 (i + 3)) ∧ (∀ f x i, ¬ (f = C ∧ x = 0 ∧ b + 3 * k ≤ i ∧ i < s) → M f x i = B f x i))
    (fun o => ∃ B', o = some (m - 1, B') ∧ (∀ i, b + 3 * k ≤ i → i < b + 3 * m - 3 → B' C 0 i = B C 0 (i + 3)) ∧ (∀ f x i, ¬ (f = C ∧ x = 0 ∧ b + 3 * k ≤ i ∧ i < b + 3 * m - 3) → B' f x i = B f x i)) ?_ (n := (b + 3 * m - 3 - (b + 3 * k)).toNat) ⟨by omega, by omega, rfl, fun i a c => by omega, fun f x i _ => rfl⟩ (by omega)
  rintro s M n ⟨s1, s2, rfl, ha, hf⟩
  have e1 : zi (b + zi (3 * m)) = b + 3 * m := by rw [zi_of (x := 3 * m) (by omega)]; exact zi_of (by omega)
  have e2 : zi (s + 3) = s + 3 := zi_of (by omega)
  have e3 : zi (s + 1) = s + 1 := zi_of (by omega)
  have e4 : zi (m - 1) = m - 1 := zi_of (by omega)
  by_cases hd : b + 3 * m ≤ s + 3
  · left
    intro f
    unfold fX67_setItem_B66 fX67_setItem_J94
    rw [e1, e2, zitT hd, e4, zret_ap]
    have : s = b + 3 * m - 3 := by omega
    subst this
    exact ⟨M, rfl, ha, hf⟩
  · right
    have g0 := hf C 0 (s + 3) (by omega)
    refine ⟨s + 1, zup M C 0 s (B C 0 (s + 3)), (b + 3 * m - 3 - (s + 1)).toNat, by omega, ⟨by omega, by omega, rfl, ?_, ?_⟩, ?_⟩
    · intro i i1 i2
      by_cases q : i = s
      · subst q
        simp (disch := omega) only [zrd_hit]
      · simp (disch := omega) only [zrd_miss]
        exact ha i i1 (by omega)
    · intro f x i q
      simp (disch := omega) only [zrd_miss]
      exact hf f x i (by omega)
    · intro f
      unfold fX67_setItem_B66
      rw [e1, e2, e3, zitF hd, zal_in (by omega), zas_in (by omega), zlt_ap, g0]
theorem I_al_put {A B A' B' : zM} {c : Int} {C : Nat} {b m k p q md m' : Int} (h : I_al A B c C b m) (hk : 0 ≤ k ∧ k ≤ m ∧ k < zacl c) (hp : 0 ≤ p ∧ p ≤ 16) (hq : 0 ≤ q ∧ q ≤ 8) (hd : 0 ≤ md ∧ md ≤ 7)
    (hn : ∀ j, 0 ≤ j → j < m → j ≠ k → A 600 c j ≠ 16 * p + q) (hm : m' = if k = m then m + 1 else m) (a0 : A' 602 c 0 = m') (a1 : A' 600 c k = 16 * p + q) (a2 : A' 601 c k = md) (a3 : ∀ j, j ≠ k → A' 600 c j = A 600 c j ∧ A' 601 c j = A 601 c j)
    (b0 : B' C 0 (b + 3 * k) = p) (b1 : B' C 0 (b + 3 * k + 1) = q) (b2 : B' C 0 (b + 3 * k + 2) = md) (b3 : ∀ i, ¬ (b + 3 * k ≤ i ∧ i < b + 3 * k + 3) → B' C 0 i = B C 0 i) : I_al A' B' c C b m' := by
  have hr := h.r
  have hm1 : m ≤ m' ∧ m' ≤ m + 1 ∧ k < m' ∧ m' ≤ zacl c ∧ ∀ j, j < m' → j ≠ k → j < m := by
    by_cases e : k = m
    · rw [if_pos e] at hm
      exact ⟨by omega, by omega, by omega, by omega, fun j _ _ => by omega⟩
    · rw [if_neg e] at hm
      exact ⟨by omega, by omega, by omega, by omega, fun j _ _ => by omega⟩
  obtain ⟨m1, m2, m3, m4, m5⟩ := hm1
  refine ⟨a0, ⟨by omega, m4⟩, ?_, ?_, ?_, ?_⟩
  · intro j j0 j1
    by_cases e : j = k
    · rw [e, a1, b0, b1]
    · rw [(a3 j e).1, b3 _ (by omega), b3 _ (by omega)]
      exact h.w j j0 (m5 j j1 e)
  · intro j j0 j1
    by_cases e : j = k
    · rw [e, a2, b2]
    · rw [(a3 j e).2, b3 _ (by omega)]
      exact h.o j j0 (m5 j j1 e)
  · intro j j0 j1
    by_cases e : j = k
    · rw [e, b0, b1, b2]
      exact ⟨hp, hq, hd⟩
    · rw [b3 _ (by omega), b3 _ (by omega), b3 _ (by omega)]
      exact h.x j j0 (m5 j j1 e)
  · intro i j i0 ij j1
    by_cases e : i = k
    · have e' : j ≠ k := by omega
      rw [e, a1, (a3 j e').1]
      exact fun z => hn j (by omega) (m5 j j1 e') e' z.symm
    · by_cases e' : j = k
      · rw [e', a1, (a3 i e).1]
        exact hn i i0 (m5 i (by omega) e) e
      · rw [(a3 i e).1, (a3 j e').1]
        exact h.d i j i0 ij (m5 j j1 e')
theorem I_al_del {A B A' B' : zM} {c : Int} {C : Nat} {b m k : Int} (h : I_al A B c C b m) (hk : 0 ≤ k ∧ k < m) (a0 : A' 602 c 0 = m - 1)
    (a1 : ∀ i, k ≤ i → i < m - 1 → A' 600 c i = A 600 c (i + 1) ∧ A' 601 c i = A 601 c (i + 1)) (a2 : ∀ i, i < k → A' 600 c i = A 600 c i ∧ A' 601 c i = A 601 c i)
    (b1 : ∀ i, b + 3 * k ≤ i → i < b + 3 * m - 3 → B' C 0 i = B C 0 (i + 3)) (b2 : ∀ i, i < b + 3 * k → B' C 0 i = B C 0 i) : I_al A' B' c C b (m - 1) := by
  have hr := h.r
  refine ⟨a0, by omega, ?_, ?_, ?_, ?_⟩
  · intro j j0 j1
    by_cases e : j < k
    · rw [(a2 j e).1, b2 _ (by omega), b2 _ (by omega)]
      exact h.w j j0 (by omega)
    · rw [(a1 j (by omega) j1).1, b1 _ (by omega) (by omega), b1 _ (by omega) (by omega), h.w (j + 1) (by omega) (by omega)]
      rw [show b + 3 * (j + 1) = b + 3 * j + 3 by omega, show b + 3 * j + 3 + 1 = b + 3 * j + 1 + 3 by omega]
  · intro j j0 j1
    by_cases e : j < k
    · rw [(a2 j e).2, b2 _ (by omega)]
      exact h.o j j0 (by omega)
    · rw [(a1 j (by omega) j1).2, b1 _ (by omega) (by omega), h.o (j + 1) (by omega) (by omega)]
      rw [show b + 3 * (j + 1) + 2 = b + 3 * j + 2 + 3 by omega]
  · intro j j0 j1
    by_cases e : j < k
    · rw [b2 _ (by omega), b2 _ (by omega), b2 _ (by omega)]
      exact h.x j j0 (by omega)
    · have := h.x (j + 1) (by omega) (by omega)
      rw [b1 _ (by omega) (by omega), b1 _ (by omega) (by omega), b1 _ (by omega) (by omega)]
      rw [show b + 3 * (j + 1) = b + 3 * j + 3 by omega, show b + 3 * j + 3 + 1 = b + 3 * j + 1 + 3 by omega, show b + 3 * j + 3 + 2 = b + 3 * j + 2 + 3 by omega] at this
      exact this
  · intro i j i0 ij j1
    by_cases e : i < k
    · by_cases e' : j < k
      · rw [(a2 i e).1, (a2 j e').1]
        exact h.d i j i0 ij (by omega)
      · rw [(a2 i e).1, (a1 j (by omega) j1).1]
        exact h.d i (j + 1) i0 (by omega) (by omega)
    · rw [(a1 i (by omega) (by omega)).1, (a1 j (by omega) j1).1]
      exact h.d (i + 1) (j + 1) (by omega) (by omega) (by omega)
theorem p_key {p q : Int} (hp : 0 ≤ p ∧ p ≤ 16) (hq : 0 ≤ q ∧ q ≤ 8) (A : zM) : fX5_key p q A = some (16 * p + q, A) := by
  unfold fX5_key
  rw [zi_of (x := 16 * p) (by omega), zi_of (by omega)]
  rfl
theorem r_set {A B : zM} {c : Int} {C : Nat} {b m p q md : Int} (h : I_al A B c C b m) (hb : 0 ≤ b ∧ b + 3 * zacl c ≤ zlen C) (hl : zlen C ≤ 4608) (hp : 0 ≤ p ∧ p ≤ 16) (hq : 0 ≤ q ∧ q ≤ 8) (hd : 0 ≤ md ∧ md ≤ 8) :
    ∃ r A' m' B', fX5_set c p q md A = some (r, A') ∧ fX67_setItem C b m (zacl c) p q md B = some (m', B') ∧ ((m' < 0 ∧ r = m' ∧ A' = A ∧ B' = B) ∨ (0 ≤ m' ∧ r = 0 ∧ I_al A' B' c C b m')) ∧
      (∀ f x i, ¬ (x = c ∧ (f = 600 ∨ f = 601 ∨ f = 602)) → A' f x i = A f x i) ∧ (∀ f x i, ¬ (f = C ∧ x = 0 ∧ b ≤ i ∧ i < b + 3 * zacl c) → B' f x i = B f x i) := by
  have hz := zacl_rng c
  have hr := h.r
  have hn := h.n
  have hf := p_find (c := c) (p := p) (q := q) (A := A) (by rw [hn]; exact hr) hp hq
  rw [p_sit h hb hl hq]
  unfold fX5_set
  rw [zcl_some hf, hn]
  have hs := zff_spec (A 600 c) (16 * p + q) m.toNat 0 (by omega)
  unfold zfe
  generalize hg : zff (A 600 c) (16 * p + q) 0 m.toNat = z at hs ⊢
  rcases hs with ⟨z1, z2⟩ | ⟨z1, z2, z3, z4⟩
  · rw [if_pos z1]
    unfold fX67_setItem_J43
    by_cases h8 : md = 8
    · rw [zitF (P := ¬ md = 8) (fun x => x h8), zitF (P := ¬ md = 8) (fun x => x h8), zitF (by omega), zitF (fun x => x rfl)]
      exact ⟨-1, A, -1, B, rfl, rfl, Or.inl ⟨by omega, rfl, rfl, rfl⟩, fun _ _ _ _ => rfl, fun _ _ _ _ => rfl⟩
    · rw [zitT (P := ¬ md = 8) h8, zitT (P := ¬ md = 8) h8, zitF (by omega), zgf_ap, hn]
      by_cases hm : m = zacl c
      · rw [zitF (fun x => x hm), zitF (fun x => x hm)]
        exact ⟨-5, A, -5, B, rfl, rfl, Or.inl ⟨by omega, rfl, rfl, rfl⟩, fun _ _ _ _ => rfl, fun _ _ _ _ => rfl⟩
      · rw [zitT hm, zitT hm, zgf_ap, zgf_ap, zpf_ap, hn]
        have e1 : zi (b + zi (3 * m)) = b + 3 * m := by rw [zi_of (x := 3 * m) (by omega)]; exact zi_of (by omega)
        have e2 : zi (b + 3 * m + 1) = b + 3 * m + 1 := zi_of (by omega)
        have e3 : zi (b + 3 * m + 2) = b + 3 * m + 2 := zi_of (by omega)
        have e4 : zi (m + 1) = m + 1 := zi_of (by omega)
        unfold fX5_set_J66
        rw [zcl_some (p_key hp hq _), zas_in (by omega), zas_in (by omega), zret_ap, e1, e2, e3, e4, zas_in (by omega), zas_in (by omega), zas_in (by omega), zitF (fun x => x rfl), zret_ap]
        refine ⟨_, _, _, _, rfl, rfl, Or.inr ⟨by omega, rfl, ?_⟩, ?_, ?_⟩
        · refine I_al_put (k := m) (p := p) (q := q) (md := md) h (by omega) hp hq (by omega) ?_ (by rw [if_pos rfl]) ?_ ?_ ?_ ?_ ?_ ?_ ?_ ?_
          · intro j j0 j1 _
            exact z2 j j0 (by omega)
          · simp (disch := omega) only [zrd_hit, zrd_miss]
          · simp (disch := omega) only [zrd_hit, zrd_miss]
          · simp (disch := omega) only [zrd_hit, zrd_miss]
          · intro j jk
            constructor <;> simp (disch := omega) only [zrd_hit, zrd_miss]
          · simp (disch := omega) only [zrd_hit, zrd_miss]
          · simp (disch := omega) only [zrd_hit, zrd_miss]
          · simp (disch := omega) only [zrd_hit, zrd_miss]
          · intro i ik
            simp (disch := omega) only [zrd_hit, zrd_miss]
        · intro f x i q
          simp (disch := omega) only [zrd_miss]
        · intro f x i q
          simp (disch := omega) only [zrd_miss]
  · have zm : z < m := by omega
    rw [if_neg (show ¬ z = -1 by omega)]
    unfold fX67_setItem_J43
    by_cases h8 : md = 8
    · rw [zitF (P := ¬ md = 8) (fun x => x h8), zitF (P := ¬ md = 8) (fun x => x h8), zitT (P := 0 ≤ z) (by omega), zitT (P := ¬ z = m) (by omega), zlt_ap]
      have e1 : zi (b + zi (3 * z)) = b + 3 * z := by rw [zi_of (x := 3 * z) (by omega)]; exact zi_of (by omega)
      obtain ⟨A', a1, a2, a3, a4⟩ := p_arem hn (k := z) (by omega)
      obtain ⟨B', b1, b2, b3⟩ := p_tshift (B := B) (C := C) (b := b) (m := m) (k := z) (by omega) hl (by omega)
      rw [zcl_some a1, e1, b1]
      refine ⟨_, _, _, _, rfl, rfl, Or.inr ⟨by omega, rfl, ?_⟩, ?_, ?_⟩
      · refine I_al_del h (k := z) (by omega) a2 a3 ?_ b2 ?_
        · intro i hi
          exact ⟨a4 600 c i (by omega), a4 601 c i (by omega)⟩
        · intro i hi
          exact b3 C 0 i (by omega)
      · intro f x i q
        exact a4 f x i (by omega)
      · intro f x i q
        exact b3 f x i (by omega)
    · rw [zitT (P := ¬ md = 8) h8, zitT (P := ¬ md = 8) h8, zitT (P := 0 ≤ z) (by omega), zitT (P := ¬ z = zacl c) (by omega)]
      have e1 : zi (b + zi (3 * z)) = b + 3 * z := by rw [zi_of (x := 3 * z) (by omega)]; exact zi_of (by omega)
      have e2 : zi (b + 3 * z + 1) = b + 3 * z + 1 := zi_of (by omega)
      have e3 : zi (b + 3 * z + 2) = b + 3 * z + 2 := zi_of (by omega)
      unfold fX5_set_J66
      rw [zcl_some (p_key hp hq _), zas_in (by omega), zas_in (by omega), zret_ap, e1, e2, e3, zas_in (by omega), zas_in (by omega), zas_in (by omega), zitT (P := ¬ z = m) (by omega), zret_ap]
      refine ⟨_, _, _, _, rfl, rfl, Or.inr ⟨by omega, rfl, ?_⟩, ?_, ?_⟩
      · refine I_al_put (k := z) (p := p) (q := q) (md := md) h (by omega) hp hq (by omega) ?_ (by rw [if_neg (by omega)]) ?_ ?_ ?_ ?_ ?_ ?_ ?_ ?_
        · intro j j0 j1 jz
          by_cases jl : j < z
          · exact z4 j j0 jl
          · exact fun e => h.d z j z1 (by omega) j1 (by rw [z3, e])
        · simp (disch := omega) only [zrd_hit, zrd_miss, hn]
        · simp (disch := omega) only [zrd_hit, zrd_miss]
        · simp (disch := omega) only [zrd_hit, zrd_miss]
        · intro j jk
          constructor <;> simp (disch := omega) only [zrd_hit, zrd_miss]
        · simp (disch := omega) only [zrd_hit, zrd_miss]
        · simp (disch := omega) only [zrd_hit, zrd_miss]
        · simp (disch := omega) only [zrd_hit, zrd_miss]
        · intro i ik
          simp (disch := omega) only [zrd_hit, zrd_miss]
      · intro f x i q
        simp (disch := omega) only [zrd_miss]
      · intro f x i q
        simp (disch := omega) only [zrd_miss]
