set_option linter.unusedSimpArgs false
set_option linter.unusedVariables false
/-! the twin's drop, all of it -/
theorem p_drT {B : zM} {n a c : Int} (hn : 0 < n ∧ n < 256) (ha : 0 ≤ a ∧ a < 256) (eA : fX67_account (B 6802 0 n) B = some (a, B)) (eC : fX67_cost n B = some (c, B)) (hcc : yct B n = c) (hu : -100000 ≤ B 6808 0 a - c ∧ B 6808 0 a - c ≤ 100000)
    (hl : ∀ p, yPr p → B 6820 0 p = 0 ∨ B 6820 0 p = 1) (hr : ∀ p, yPr p → B 6820 0 p = 1 → ∀ i, 0 ≤ i → i < 512 → -1 ≤ B 6839 0 (512 * p + i) ∧ B 6839 0 (512 * p + i) ≤ 10000000) : ∃ B', fX67_drop n B = some (0, B') ∧ yDr B B' [n] := by
  have ns : ∀ v : Int, v ∈ [n] ↔ v = n := fun v => by simp
  have ap : yap B n = a := by unfold yap; rw [eA]
  obtain ⟨M0, hM0⟩ : ∃ M0, M0 = zup (zup B 6808 0 a (B 6808 0 a - c)) 6800 0 n 0 := ⟨_, rfl⟩
  have st : fX67_drop n B = zlp (fX67_drop_B32 n) zBIG 0 M0 := by
    unfold fX67_drop
    rw [zal_in (by omega), zcl_some eA, zal_in ha, zcl_some eC, zas_in ha, zas_in (by omega), zi_of (by omega), hM0]
  have m0 : ∀ f, ¬ f = 6808 → ¬ f = 6800 → M0 f = B f := fun f h1 h2 => by rw [hM0, zup_col h2, zup_col h1]
  rw [st]
  refine zlp_for (lo := 0) (hi := 8) (by omega) (by omega) (fun s M => (∀ p k, yPr p → 0 ≤ k → k < 32 → M 6838 0 (32 * p + k) = if p < s ∧ B 6820 0 p = 1 ∧ 8 ≤ k ∧ B 6838 0 (32 * p + k) = n then -1 else B 6838 0 (32 * p + k))
      ∧ (∀ p i, yPr p → 0 ≤ i → i < 512 → M 6839 0 (512 * p + i) = if p < s ∧ B 6820 0 p = 1 ∧ ((8 ≤ i / 16 ∧ B 6838 0 (32 * p + i / 16) = n) ∨ (0 ≤ B 6839 0 (512 * p + i) ∧ 8 ≤ B 6839 0 (512 * p + i) / 262144 ∧ B 6839 0 (512 * p + i) / 262144 < 32 ∧ B 6838 0 (32 * p + B 6839 0 (512 * p + i) / 262144) = n)) then -1 else B 6839 0 (512 * p + i))
      ∧ (∀ p, yPr p → M 6840 0 p = if p < s ∧ B 6840 0 p = n then 0 else B 6840 0 p) ∧ (∀ p k, yPr p → 0 ≤ k → k < 4 → M 6841 0 (4 * p + k) = if p < s ∧ B 6841 0 (4 * p + k) = n then -1 else B 6841 0 (4 * p + k))
      ∧ (∀ f x i, ¬ (x = 0 ∧ ((f = 6838 ∧ 0 ≤ i ∧ i < 256) ∨ (f = 6839 ∧ 0 ≤ i ∧ i < 4096) ∨ (f = 6840 ∧ 0 ≤ i ∧ i < 8) ∨ (f = 6841 ∧ 0 ≤ i ∧ i < 32))) → M f x i = M0 f x i))
    (fun o => ∃ B', o = some (0, B') ∧ yDr B B' [n]) ?_ ?_ ⟨fun p k _ _ _ => by rw [if_neg (by have := (‹yPr p› : 0 ≤ p ∧ p < 8); omega), m0 _ (by decide) (by decide)], fun p i hp _ _ => by rw [if_neg (by omega), m0 _ (by decide) (by decide)], fun p hp => by rw [if_neg (by omega), m0 _ (by decide) (by decide)], fun p k hp _ _ => by rw [if_neg (by omega), m0 _ (by decide) (by decide)], fun _ _ _ _ => rfl⟩
  · rintro s M s0 s1 ⟨h1, h2, h3, h4, h5⟩
    have hs : yPr s := ⟨s0, s1⟩
    have e20 : ∀ p, M 6820 0 p = B 6820 0 p := fun p => by rw [h5 _ _ _ (by omega), m0 _ (by decide) (by decide)]
    have c1 : ∀ k, 0 ≤ k → k < 32 → M 6838 0 (32 * s + k) = B 6838 0 (32 * s + k) := fun k k0 k1 => by rw [h1 s k hs k0 k1, if_neg (by omega)]
    have c2 : ∀ i, 0 ≤ i → i < 512 → M 6839 0 (512 * s + i) = B 6839 0 (512 * s + i) := fun i i0 i1 => by rw [h2 s i hs i0 i1, if_neg (by omega)]
    have c3 : M 6840 0 s = B 6840 0 s := by rw [h3 s hs, if_neg (by omega)]
    have c4 : ∀ k, 0 ≤ k → k < 4 → M 6841 0 (4 * s + k) = B 6841 0 (4 * s + k) := fun k k0 k1 => by rw [h4 s k hs k0 k1, if_neg (by omega)]
    obtain ⟨M', g, e⟩ := p_dr1 (M := M) (n := n) (p := s) hs hn.1 (by rw [e20]; exact hl s hs) (by
      intro q i i0 i1
      rw [e20] at q
      rw [c2 i i0 i1]
      exact hr s hs q i i0 i1)
    refine ⟨M', ⟨?_, ?_, ?_, ?_, ?_⟩, e⟩
    · intro p k hp k0 k1
      by_cases q : p = s
      · subst q
        rw [g.k k k0 k1, e20, c1 k k0 k1]
        by_cases z : B 6820 0 p = 1 ∧ 8 ≤ k ∧ B 6838 0 (32 * p + k) = n
        · rw [if_pos z, if_pos ⟨by omega, z⟩]
        · rw [if_neg z, if_neg (fun y => z y.2)]
      · rw [g.f _ _ _ (by omega), h1 p k hp k0 k1]
        by_cases z : p < s ∧ B 6820 0 p = 1 ∧ 8 ≤ k ∧ B 6838 0 (32 * p + k) = n
        · rw [if_pos z, if_pos ⟨by omega, z.2⟩]
        · rw [if_neg z, if_neg (fun y => z ⟨by omega, y.2⟩)]
    · intro p i hp i0 i1
      by_cases q : p = s
      · subst q
        rw [g.l i i0 i1, e20, c2 i i0 i1, c1 (i / 16) (by omega) (by omega)]
        by_cases z : B 6820 0 p = 1 ∧ ((8 ≤ i / 16 ∧ B 6838 0 (32 * p + i / 16) = n) ∨ (0 ≤ B 6839 0 (512 * p + i) ∧ 8 ≤ B 6839 0 (512 * p + i) / 262144 ∧ B 6839 0 (512 * p + i) / 262144 < 32 ∧ B 6838 0 (32 * p + B 6839 0 (512 * p + i) / 262144) = n))
        · rw [if_pos (c := p < p + 1 ∧ _) ⟨by omega, z⟩, if_pos]
          exact ⟨z.1, z.2.elim Or.inl (fun y => Or.inr ⟨y.1, y.2.1, y.2.2.1, by rw [c1 _ (by omega) (by omega)]; exact y.2.2.2⟩)⟩
        · rw [if_neg (c := p < p + 1 ∧ _) (fun y => z y.2), if_neg]
          rintro ⟨y1, y2⟩
          exact z ⟨y1, y2.elim Or.inl (fun y => Or.inr ⟨y.1, y.2.1, y.2.2.1, by rw [← c1 _ (by omega) (by omega)]; exact y.2.2.2⟩)⟩
      · rw [g.f _ _ _ (by omega), h2 p i hp i0 i1]
        by_cases z : p < s ∧ B 6820 0 p = 1 ∧ ((8 ≤ i / 16 ∧ B 6838 0 (32 * p + i / 16) = n) ∨ (0 ≤ B 6839 0 (512 * p + i) ∧ 8 ≤ B 6839 0 (512 * p + i) / 262144 ∧ B 6839 0 (512 * p + i) / 262144 < 32 ∧ B 6838 0 (32 * p + B 6839 0 (512 * p + i) / 262144) = n))
        · rw [if_pos z, if_pos ⟨by omega, z.2⟩]
        · rw [if_neg z, if_neg (fun y => z ⟨by omega, y.2⟩)]
    · intro p hp
      by_cases q : p = s
      · subst q
        rw [g.w, c3]
        by_cases z : B 6840 0 p = n
        · rw [if_pos z, if_pos ⟨by omega, z⟩]
        · rw [if_neg z, if_neg (fun y => z y.2)]
      · rw [g.f _ _ _ (by omega), h3 p hp]
        by_cases z : p < s ∧ B 6840 0 p = n
        · rw [if_pos z, if_pos ⟨by omega, z.2⟩]
        · rw [if_neg z, if_neg (fun y => z ⟨by omega, y.2⟩)]
    · intro p k hp k0 k1
      by_cases q : p = s
      · subst q
        rw [g.s k k0 k1, c4 k k0 k1]
        by_cases z : B 6841 0 (4 * p + k) = n
        · rw [if_pos z, if_pos ⟨by omega, z⟩]
        · rw [if_neg z, if_neg (fun y => z y.2)]
      · rw [g.f _ _ _ (by omega), h4 p k hp k0 k1]
        by_cases z : p < s ∧ B 6841 0 (4 * p + k) = n
        · rw [if_pos z, if_pos ⟨by omega, z.2⟩]
        · rw [if_neg z, if_neg (fun y => z ⟨by omega, y.2⟩)]
    · intro f x i hf
      rw [g.f f x i (by omega)]; exact h5 f x i hf
  · rintro M ⟨h1, h2, h3, h4, h5⟩ f
    refine ⟨M, by unfold fX67_drop_B32; rw [zitT (by omega), zret_ap], ⟨?_, ?_, ?_, ?_, ?_, ?_, ?_⟩⟩
    · intro i i0 i1
      rw [h5 _ _ _ (by omega), hM0]
      by_cases e : i = n
      · rw [if_pos ((ns i).2 e)]; simp (disch := omega) only [zrd_hit, zrd_miss]
      · rw [if_neg (fun q => e ((ns i).1 q))]; simp (disch := omega) only [zrd_hit, zrd_miss]
    · intro i i0 i1
      rw [h5 _ _ _ (by omega), hM0, zrd_miss (by omega)]
      have s1 : zsm (fun m => if m ∈ [n] ∧ yap B m = i then yct B m else 0) 256 = zsm (fun m => if n = m then (if a = i then c else 0) else 0) 256 := by
        refine zsm_cg (fun m _ _ => ?_)
        show (if m ∈ [n] ∧ yap B m = i then yct B m else 0) = if n = m then (if a = i then c else 0) else 0
        by_cases e : n = m
        · subst e
          rw [if_pos rfl, ap, hcc]
          by_cases q : a = i
          · rw [if_pos ⟨(ns n).2 rfl, q⟩, if_pos q]
          · rw [if_neg (fun z => q z.2), if_neg q]
        · rw [if_neg e, if_neg (fun z => e ((ns m).1 z.1).symm)]
      rw [s1, zsm_one 256 (by omega)]
      by_cases q : a = i
      · rw [if_pos q, zrd_hit (by omega), q]
      · rw [if_neg q, zrd_miss (by omega)]; omega
    · intro p k hp k0 k1
      rw [h1 p k hp k0 k1]
      by_cases z : B 6820 0 p = 1 ∧ 8 ≤ k ∧ B 6838 0 (32 * p + k) = n
      · rw [if_pos ⟨hp.2, z⟩, if_pos ⟨z.1, z.2.1, (ns _).2 z.2.2⟩]
      · rw [if_neg (fun y => z y.2), if_neg (fun y => z ⟨y.1, y.2.1, (ns _).1 y.2.2⟩)]
    · intro p i hp i0 i1
      rw [h2 p i hp i0 i1]
      by_cases z : B 6820 0 p = 1 ∧ ((8 ≤ i / 16 ∧ B 6838 0 (32 * p + i / 16) = n) ∨ (0 ≤ B 6839 0 (512 * p + i) ∧ 8 ≤ B 6839 0 (512 * p + i) / 262144 ∧ B 6839 0 (512 * p + i) / 262144 < 32 ∧ B 6838 0 (32 * p + B 6839 0 (512 * p + i) / 262144) = n))
      · rw [if_pos ⟨hp.2, z⟩, if_pos ⟨z.1, z.2.elim (fun y => Or.inl ⟨y.1, (ns _).2 y.2⟩) (fun y => Or.inr ⟨y.1, y.2.1, y.2.2.1, (ns _).2 y.2.2.2⟩)⟩]
      · rw [if_neg (fun y => z y.2), if_neg (fun y => z ⟨y.1, y.2.elim (fun y => Or.inl ⟨y.1, (ns _).1 y.2⟩) (fun y => Or.inr ⟨y.1, y.2.1, y.2.2.1, (ns _).1 y.2.2.2⟩)⟩)]
    · intro p hp
      rw [h3 p hp]
      by_cases z : B 6840 0 p = n
      · rw [if_pos ⟨hp.2, z⟩, if_pos ((ns _).2 z)]
      · rw [if_neg (fun y => z y.2), if_neg (fun y => z ((ns _).1 y))]
    · intro p k hp k0 k1
      rw [h4 p k hp k0 k1]
      by_cases z : B 6841 0 (4 * p + k) = n
      · rw [if_pos ⟨hp.2, z⟩, if_pos ((ns _).2 z)]
      · rw [if_neg (fun y => z y.2), if_neg (fun y => z ((ns _).1 y))]
    · intro f x i hf
      rw [h5 f x i (by omega), hM0, zrd_miss (by omega), zrd_miss (by omega)]
