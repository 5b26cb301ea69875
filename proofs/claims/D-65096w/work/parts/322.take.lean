set_option linter.unusedSimpArgs false
set_option linter.unusedVariables false
/-! a new node's own items -/
theorem y_div16 {p q : Int} (hp : 0 ≤ p ∧ p ≤ 16) (hq : 0 ≤ q ∧ q ≤ 8) : zi (Int.tdiv (16 * p + q) 16) = p ∧ Int.tmod (16 * p + q) 16 = q := by
  have a : Int.tdiv (16 * p + q) 16 = (16 * p + q) / 16 := Int.tdiv_eq_ediv_of_nonneg (by omega)
  have b : Int.tmod (16 * p + q) 16 = (16 * p + q) % 16 := Int.tmod_eq_emod_of_nonneg (by omega)
  rw [a, b]
  constructor
  · rw [zi_of (by omega)]; omega
  · omega
theorem p_person {A : zM} {c k p q : Int} (h : A 600 c k = 16 * p + q) (hk : 0 ≤ k ∧ k < zacl c) (hp : 0 ≤ p ∧ p ≤ 16) (hq : 0 ≤ q ∧ q ≤ 8) : fX5_person c k A = some (p, A) ∧ fX5_project c k A = some (q, A) := by
  unfold fX5_person fX5_project
  obtain ⟨a, b⟩ := y_div16 hp hq
  constructor
  · rw [zal_in hk, h, a, zret_ap]
  · rw [zal_in hk, h, b, zret_ap]
/-- an item more, of a key that is none yet -/
theorem p_setNew {A : zM} {c p q md m : Int} (hm : A 602 c 0 = m) (hr : 0 ≤ m ∧ m < zacl c) (hp : 0 ≤ p ∧ p ≤ 16) (hq : 0 ≤ q ∧ q ≤ 8) (hd : md ≠ 8) (hn : ∀ k, 0 ≤ k → k < m → A 600 c k ≠ 16 * p + q) :
    fX5_set c p q md A = some (0, zup (zup (zup A 602 c 0 (m + 1)) 600 c m (16 * p + q)) 601 c m md) := by
  have hz := zacl_rng c
  have hf := p_find (c := c) (p := p) (q := q) (A := A) (by rw [hm]; omega) hp hq
  rw [hm] at hf
  have hs := zff_spec (A 600 c) (16 * p + q) m.toNat 0 (by omega)
  have e : zff (A 600 c) (16 * p + q) 0 m.toNat = -1 := by
    rcases hs with ⟨z1, z2⟩ | ⟨z1, z2, z3, z4⟩
    · exact z1
    · exact absurd z3 (hn _ z1 (by omega))
  rw [e] at hf
  unfold fX5_set fX5_set_J66
  simp (disch := omega) only [↓zal_in, ↓zas_in, ↓zib_in, ↓znn_in, ↓zne_in, ↓zgf_ap, ↓zpf_ap, ↓zpb_in, ↓zlt_ap, ↓zret_ap, ↓zrb_in, zitT, zitF, zi_of, zl_of, zrd_hit, zrd_miss, if_true, if_false, not_true_eq_false, not_false_eq_true, zcl_some hf, zcl_some (p_key hp hq _), hm]
theorem p_addT {B : zM} {n a b c m : Int} (hn : 0 ≤ n ∧ n < 256) (hm : B 6812 0 n = m) (hr : 0 ≤ m ∧ m < 6) :
    fX67_addItem n a b c B = some (0, zup (zup (zup (zup B 6813 0 (18 * n + 3 * m) a) 6813 0 (18 * n + 3 * m + 1) b) 6813 0 (18 * n + 3 * m + 2) c) 6812 0 n (m + 1)) := by
  unfold fX67_addItem
  simp (disch := omega) only [↓zal_in, ↓zas_in, ↓zib_in, ↓znn_in, ↓zne_in, ↓zgf_ap, ↓zpf_ap, ↓zpb_in, ↓zlt_ap, ↓zret_ap, ↓zrb_in, zitT, zitF, zi_of, zl_of, zrd_hit, zrd_miss, if_true, if_false, not_true_eq_false, not_false_eq_true, hm]
theorem r_take {A B : zM} {n d c2 fr m m2 ep eg : Int} (hn : 0 ≤ n ∧ n < 256) (hd : 0 ≤ d ∧ d < 256) (hnd : n ≠ d) (hc : (c2 = 3 * d + 1 ∧ fr = 2 * d + 1) ∨ (c2 = 3 * d + 2 ∧ fr = 2 * d))
    (h1 : I_al A B (3 * n) 6813 (18 * n) m) (hm : B 6812 0 n = m) (h2 : I_al A B c2 6815 (9 * fr) m2) (hm2 : B 6814 0 fr = m2) (hs : m ≤ 3)
    (hx : ∀ p q, 0 ≤ p → 0 ≤ q → q ≤ 8 → ((∃ k, 0 ≤ k ∧ k < m ∧ A 600 (3 * n) k = 16 * p + q) ↔ (p = ep ∧ q = eg))) :
    ∃ A' B' m', zlp (fX5_take_B2 (3 * n) c2) zBIG 0 A = some (0, A') ∧ zlp (fX67_giveFirsts_B29 n ep eg fr) zBIG 0 B = some (0, B') ∧ I_al A' B' (3 * n) 6813 (18 * n) m' ∧ B' 6812 0 n = m' ∧
      (∀ f x i, ¬ (x = 3 * n ∧ (f = 600 ∨ f = 601 ∨ f = 602)) → A' f x i = A f x i) ∧ (∀ f x i, ¬ (x = 0 ∧ ((f = 6813 ∧ 18 * n ≤ i ∧ i < 18 * n + 18) ∨ (f = 6812 ∧ i = n))) → B' f x i = B f x i) := by
  have hz2 : zacl c2 = 3 := by unfold zacl; rw [if_neg (by omega)]
  have hz1 : zacl (3 * n) = 6 := by unfold zacl; rw [if_pos (by omega)]
  have r2 := h2.r
  have r1 := h1.r
  have n2 := h2.n
  rw [hz2] at r2
  rw [hz1] at r1
  refine zsim_big (B1 := fX5_take_B2 (3 * n) c2) (B2 := fX67_giveFirsts_B29 n ep eg fr)
    (fun s t A' B' k => s = t ∧ 0 ≤ s ∧ s ≤ m2 ∧ k = (m2 - s).toNat ∧ (∃ m', I_al A' B' (3 * n) 6813 (18 * n) m' ∧ B' 6812 0 n = m' ∧ m' ≤ m + s ∧ (∀ key, (∃ k, 0 ≤ k ∧ k < m' ∧ A' 600 (3 * n) k = key) ↔ ((∃ k, 0 ≤ k ∧ k < m ∧ A 600 (3 * n) k = key) ∨ (∃ j, 0 ≤ j ∧ j < s ∧ A 600 c2 j = key)))) ∧
      (∀ f x i, ¬ (x = 3 * n ∧ (f = 600 ∨ f = 601 ∨ f = 602)) → A' f x i = A f x i) ∧ (∀ f x i, ¬ (x = 0 ∧ ((f = 6813 ∧ 18 * n ≤ i ∧ i < 18 * n + 18) ∨ (f = 6812 ∧ i = n))) → B' f x i = B f x i))
    (fun o1 o2 => ∃ A' B' m', o1 = some (0, A') ∧ o2 = some (0, B') ∧ I_al A' B' (3 * n) 6813 (18 * n) m' ∧ B' 6812 0 n = m' ∧
      (∀ f x i, ¬ (x = 3 * n ∧ (f = 600 ∨ f = 601 ∨ f = 602)) → A' f x i = A f x i) ∧ (∀ f x i, ¬ (x = 0 ∧ ((f = 6813 ∧ 18 * n ≤ i ∧ i < 18 * n + 18) ∨ (f = 6812 ∧ i = n))) → B' f x i = B f x i)) ?_ (n := m2.toNat)
    ⟨rfl, by omega, by omega, by omega, ⟨m, h1, hm, by omega, fun key => ⟨fun q => Or.inl q, fun q => by rcases q with q | ⟨j, j1, j2, _⟩; exact q; omega⟩⟩, fun _ _ _ _ => rfl, fun _ _ _ _ => rfl⟩ (by omega)
  rintro s t A' B' k ⟨rfl, s0, s1, rfl, ⟨m', g1, g2, g3, g4⟩, fa, fb⟩
  have g1r := g1.r
  have g1n := g1.n
  have a602 : A' 602 c2 0 = m2 := by rw [fa 602 c2 0 (by omega)]; exact n2
  have b6814 : B' 6814 0 fr = m2 := by rw [fb 6814 0 fr (by omega)]; exact hm2
  by_cases hd : m2 ≤ s
  · left
    intro f g
    refine ⟨A', B', m', ?_, ?_, g1, g2, fa, fb⟩
    · unfold fX5_take_B2
      simp (disch := omega) only [↓zal_in, ↓zas_in, ↓zib_in, ↓znn_in, ↓zne_in, ↓zgf_ap, ↓zpf_ap, ↓zpb_in, ↓zlt_ap, ↓zret_ap, ↓zrb_in, zitT, zitF, zi_of, zl_of, zrd_hit, zrd_miss, if_true, if_false, not_true_eq_false, not_false_eq_true, a602]
    · unfold fX67_giveFirsts_B29
      simp (disch := omega) only [↓zal_in, ↓zas_in, ↓zib_in, ↓znn_in, ↓zne_in, ↓zgf_ap, ↓zpf_ap, ↓zpb_in, ↓zlt_ap, ↓zret_ap, ↓zrb_in, zitT, zitF, zi_of, zl_of, zrd_hit, zrd_miss, if_true, if_false, not_true_eq_false, not_false_eq_true, b6814]
  · right
    have w := h2.w s s0 (by omega)
    have x := h2.x s s0 (by omega)
    have o := h2.o s s0 (by omega)
    rw [← fa 600 c2 s (by omega), ← fb 6815 0 _ (by omega), ← fb 6815 0 (9 * fr + 3 * s + 1) (by omega)] at w
    rw [← fa 601 c2 s (by omega), ← fb 6815 0 _ (by omega)] at o
    rw [← fb 6815 0 (9 * fr + 3 * s) (by omega), ← fb 6815 0 (9 * fr + 3 * s + 1) (by omega), ← fb 6815 0 (9 * fr + 3 * s + 2) (by omega)] at x
    generalize e0 : B' 6815 0 (9 * fr + 3 * s) = p at w x
    generalize e1 : B' 6815 0 (9 * fr + 3 * s + 1) = q at w x
    generalize e2 : B' 6815 0 (9 * fr + 3 * s + 2) = md at o x
    obtain ⟨pp, pq⟩ := p_person w ⟨s0, by omega⟩ x.1 x.2.1
    have hf := p_find (c := 3 * n) (p := p) (q := q) (A := A') (by rw [g1n]; exact g1r) x.1 x.2.1
    rw [g1n] at hf
    have hs := zff_spec (A' 600 (3 * n)) (16 * p + q) m'.toNat 0 (by omega)
    generalize hg : zff (A' 600 (3 * n)) (16 * p + q) 0 m'.toNat = z at hs hf
    have dist : ∀ j, 0 ≤ j → j < s → A 600 c2 j ≠ 16 * p + q := by
      intro j j0 j1
      rw [← w, fa 600 c2 s (by omega)]
      exact h2.d j s j0 j1 (by omega)
    rcases hs with ⟨z1, z2⟩ | ⟨z1, z2, z3, z4⟩
    · have hno : ¬ (p = ep ∧ q = eg) := by
        intro e
        obtain ⟨k, k0, k1, k2⟩ := (g4 (16 * p + q)).2 (Or.inl ((hx p q x.1.1 x.2.1.1 x.2.1.2).2 e))
        exact z2 k k0 (by omega) k2
      have hset := p_setNew (c := 3 * n) (md := md) g1n ⟨g1r.1, by omega⟩ x.1 x.2.1 (by omega) (fun k a b => z2 k a (by omega))
      have hadd := p_addT (a := p) (b := q) (c := md) hn g2 ⟨g1r.1, by omega⟩
      refine ⟨s + 1, s + 1, ?_, ?_, (m2 - (s + 1)).toNat, by omega, ⟨rfl, by omega, by omega, rfl, ⟨m' + 1, ?_, ?_, by omega, ?_⟩, ?_, ?_⟩, ?_, ?_⟩
      rotate_left 7
      · intro f
        unfold fX5_take_B2 fX5_take_J48
        simp (disch := omega) only [↓zal_in, ↓zas_in, ↓zib_in, ↓znn_in, ↓zne_in, ↓zgf_ap, ↓zpf_ap, ↓zpb_in, ↓zlt_ap, ↓zret_ap, ↓zrb_in, zitT, zitF, zi_of, zl_of, zrd_hit, zrd_miss, if_true, if_false, not_true_eq_false, not_false_eq_true, a602, zcl_some pp, zcl_some pq, zcl_some hf, o, zcl_some hset]
        rfl
      · intro g
        unfold fX67_giveFirsts_B29 fX67_giveFirsts_J77 fX67_giveFirsts_J107
        simp (disch := omega) only [↓zal_in, ↓zas_in, ↓zib_in, ↓znn_in, ↓zne_in, ↓zgf_ap, ↓zpf_ap, ↓zpb_in, ↓zlt_ap, ↓zret_ap, ↓zrb_in, zitT, zitF, zi_of, zl_of, zrd_hit, zrd_miss, if_true, if_false, not_true_eq_false, not_false_eq_true, b6814, e0, e1, e2, zcl_some hadd]
        by_cases hp : p = ep
        · simp (disch := omega) only [↓zal_in, ↓zas_in, ↓zib_in, ↓znn_in, ↓zne_in, ↓zgf_ap, ↓zpf_ap, ↓zpb_in, ↓zlt_ap, ↓zret_ap, ↓zrb_in, zitT, zitF, zi_of, zl_of, zrd_hit, zrd_miss, if_true, if_false, not_true_eq_false, not_false_eq_true, e0, e1, e2, zcl_some hadd]
          rfl
        · simp (disch := omega) only [↓zal_in, ↓zas_in, ↓zib_in, ↓znn_in, ↓zne_in, ↓zgf_ap, ↓zpf_ap, ↓zpb_in, ↓zlt_ap, ↓zret_ap, ↓zrb_in, zitT, zitF, zi_of, zl_of, zrd_hit, zrd_miss, if_true, if_false, not_true_eq_false, not_false_eq_true, e0, e1, e2, zcl_some hadd]
      · refine I_al_put (k := m') (p := p) (q := q) (md := md) g1 (by omega) x.1 x.2.1 x.2.2 (fun j a b _ => z2 j a (by omega)) (by rw [if_pos rfl]) ?_ ?_ ?_ ?_ ?_ ?_ ?_ ?_
        · simp (disch := omega) only [zrd_hit, zrd_miss]
        · simp (disch := omega) only [zrd_hit, zrd_miss]
        · simp (disch := omega) only [zrd_hit, zrd_miss]
        · intro j hj
          simp (disch := omega) only [zrd_hit, zrd_miss, and_self]
        · simp (disch := omega) only [zrd_hit, zrd_miss]
        · simp (disch := omega) only [zrd_hit, zrd_miss]
        · simp (disch := omega) only [zrd_hit, zrd_miss]
        · intro i hi
          simp (disch := omega) only [zrd_hit, zrd_miss]
      · simp (disch := omega) only [zrd_hit, zrd_miss]
      · intro key
        constructor
        · rintro ⟨k, k0, k1, k2⟩
          by_cases e : k = m'
          · subst e
            have k2 : 16 * p + q = key := by revert k2; simp (disch := omega) only [zrd_hit, zrd_miss]; exact id
            exact Or.inr ⟨s, s0, by omega, by rw [← fa 600 c2 s (by omega), w]; exact k2⟩
          · have k2 : A' 600 (3 * n) k = key := by revert k2; simp (disch := omega) only [zrd_hit, zrd_miss]; exact id
            rcases (g4 key).1 ⟨k, k0, by omega, k2⟩ with u | ⟨j, j0, j1, j2⟩
            · exact Or.inl u
            · exact Or.inr ⟨j, j0, by omega, j2⟩
        · intro u
          have old : (∃ k, 0 ≤ k ∧ k < m' ∧ A' 600 (3 * n) k = key) → ∃ k, 0 ≤ k ∧ k < m' + 1 ∧ zup (zup (zup A' 602 (3 * n) 0 (m' + 1)) 600 (3 * n) m' (16 * p + q)) 601 (3 * n) m' md 600 (3 * n) k = key := by
            rintro ⟨k, k0, k1, k2⟩
            exact ⟨k, k0, by omega, by simp (disch := omega) only [zrd_hit, zrd_miss]; exact k2⟩
          rcases u with u | ⟨j, j0, j1, j2⟩
          · exact old ((g4 key).2 (Or.inl u))
          · by_cases e : j = s
            · refine ⟨m', by omega, by omega, ?_⟩
              simp (disch := omega) only [zrd_hit, zrd_miss]
              rw [← j2, e, ← fa 600 c2 s (by omega), w]
            · exact old ((g4 key).2 (Or.inr ⟨j, j0, by omega, j2⟩))
      · intro f x i q
        simp (disch := omega) only [zrd_hit, zrd_miss]
        exact fa f x i q
      · intro f x i q
        simp (disch := omega) only [zrd_hit, zrd_miss]
        exact fb f x i q
    · have hyes : p = ep ∧ q = eg := by
        rcases (g4 (16 * p + q)).1 ⟨z, z1, by omega, z3⟩ with u | ⟨j, j0, j1, j2⟩
        · exact (hx p q x.1.1 x.2.1.1 x.2.1.2).1 u
        · exact absurd j2 (dist j j0 j1)
      refine ⟨s + 1, s + 1, A', B', (m2 - (s + 1)).toNat, by omega, ⟨rfl, by omega, by omega, rfl, ⟨m', g1, g2, by omega, ?_⟩, fa, fb⟩, ?_, ?_⟩
      · intro key
        rw [g4 key]
        constructor
        · rintro (u | ⟨j, j0, j1, j2⟩)
          · exact Or.inl u
          · exact Or.inr ⟨j, j0, by omega, j2⟩
        · rintro (u | ⟨j, j0, j1, j2⟩)
          · exact Or.inl u
          · by_cases e : j = s
            · refine Or.inl ?_
              have := (hx p q x.1.1 x.2.1.1 x.2.1.2).2 hyes
              rw [← j2, e, ← fa 600 c2 s (by omega), w]
              exact this
            · exact Or.inr ⟨j, j0, by omega, j2⟩
      · intro f
        unfold fX5_take_B2 fX5_take_J48
        simp (disch := omega) only [↓zal_in, ↓zas_in, ↓zib_in, ↓znn_in, ↓zne_in, ↓zgf_ap, ↓zpf_ap, ↓zpb_in, ↓zlt_ap, ↓zret_ap, ↓zrb_in, zitT, zitF, zi_of, zl_of, zrd_hit, zrd_miss, if_true, if_false, not_true_eq_false, not_false_eq_true, a602, zcl_some pp, zcl_some pq, zcl_some hf]
      · intro g
        unfold fX67_giveFirsts_B29 fX67_giveFirsts_J107
        simp (disch := omega) only [↓zal_in, ↓zas_in, ↓zib_in, ↓znn_in, ↓zne_in, ↓zgf_ap, ↓zpf_ap, ↓zpb_in, ↓zlt_ap, ↓zret_ap, ↓zrb_in, zitT, zitF, zi_of, zl_of, zrd_hit, zrd_miss, if_true, if_false, not_true_eq_false, not_false_eq_true, b6814, e0, e1, e2]
