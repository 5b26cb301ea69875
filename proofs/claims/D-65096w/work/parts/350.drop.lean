set_option linter.unusedSimpArgs false
set_option linter.unusedVariables false
/-! the twin's drop, and what many drops make -/
/-- the account and the cost of an entry, as the twin has them -/
def yap (B : zM) (m : Int) : Int := match fX67_account (B 6802 0 m) B with | some r => r.1 | none => 0
def yct (B : zM) (m : Int) : Int := zco (B 6800 0 m) (if B 6800 0 m = 2 then B 6806 0 m else B 6807 0 m)
def yDr (B B' : zM) (L : List Int) : Prop :=
  (∀ i, 0 ≤ i → i < 256 → B' 6800 0 i = if i ∈ L then 0 else B 6800 0 i) ∧
  (∀ i, 0 ≤ i → i < 256 → B' 6808 0 i = B 6808 0 i - zsm (fun m => if m ∈ L ∧ yap B m = i then yct B m else 0) 256) ∧
  (∀ p k, yPr p → 0 ≤ k → k < 32 → B' 6838 0 (32 * p + k) = if B 6820 0 p = 1 ∧ 8 ≤ k ∧ B 6838 0 (32 * p + k) ∈ L then -1 else B 6838 0 (32 * p + k)) ∧
  (∀ p i, yPr p → 0 ≤ i → i < 512 → B' 6839 0 (512 * p + i) = if B 6820 0 p = 1 ∧ ((8 ≤ i / 16 ∧ B 6838 0 (32 * p + i / 16) ∈ L) ∨ (0 ≤ B 6839 0 (512 * p + i) ∧ 8 ≤ B 6839 0 (512 * p + i) / 262144 ∧ B 6839 0 (512 * p + i) / 262144 < 32 ∧ B 6838 0 (32 * p + B 6839 0 (512 * p + i) / 262144) ∈ L)) then -1 else B 6839 0 (512 * p + i)) ∧
  (∀ p, yPr p → B' 6840 0 p = if B 6840 0 p ∈ L then 0 else B 6840 0 p) ∧
  (∀ p k, yPr p → 0 ≤ k → k < 4 → B' 6841 0 (4 * p + k) = if B 6841 0 (4 * p + k) ∈ L then -1 else B 6841 0 (4 * p + k)) ∧
  (∀ f x i, ¬ (x = 0 ∧ ((f = 6800 ∧ 0 ≤ i ∧ i < 256) ∨ (f = 6808 ∧ 0 ≤ i ∧ i < 256) ∨ (f = 6838 ∧ 0 ≤ i ∧ i < 256) ∨ (f = 6839 ∧ 0 ≤ i ∧ i < 4096) ∨ (f = 6840 ∧ 0 ≤ i ∧ i < 8) ∨ (f = 6841 ∧ 0 ≤ i ∧ i < 32))) → B' f x i = B f x i)
theorem yDr.k {B B' : zM} {L : List Int} (h : yDr B B' L) : ∀ i, 0 ≤ i → i < 256 → B' 6800 0 i = if i ∈ L then 0 else B 6800 0 i := h.1
theorem yDr.u {B B' : zM} {L : List Int} (h : yDr B B' L) : ∀ i, 0 ≤ i → i < 256 → B' 6808 0 i = B 6808 0 i - zsm (fun m => if m ∈ L ∧ yap B m = i then yct B m else 0) 256 := h.2.1
theorem yDr.kn {B B' : zM} {L : List Int} (h : yDr B B' L) : ∀ p k, yPr p → 0 ≤ k → k < 32 → B' 6838 0 (32 * p + k) = if B 6820 0 p = 1 ∧ 8 ≤ k ∧ B 6838 0 (32 * p + k) ∈ L then -1 else B 6838 0 (32 * p + k) := h.2.2.1
theorem yDr.lk {B B' : zM} {L : List Int} (h : yDr B B' L) : ∀ p i, yPr p → 0 ≤ i → i < 512 → B' 6839 0 (512 * p + i) = if B 6820 0 p = 1 ∧ ((8 ≤ i / 16 ∧ B 6838 0 (32 * p + i / 16) ∈ L) ∨ (0 ≤ B 6839 0 (512 * p + i) ∧ 8 ≤ B 6839 0 (512 * p + i) / 262144 ∧ B 6839 0 (512 * p + i) / 262144 < 32 ∧ B 6838 0 (32 * p + B 6839 0 (512 * p + i) / 262144) ∈ L)) then -1 else B 6839 0 (512 * p + i) := h.2.2.2.1
theorem yDr.wk {B B' : zM} {L : List Int} (h : yDr B B' L) : ∀ p, yPr p → B' 6840 0 p = if B 6840 0 p ∈ L then 0 else B 6840 0 p := h.2.2.2.2.1
theorem yDr.se {B B' : zM} {L : List Int} (h : yDr B B' L) : ∀ p k, yPr p → 0 ≤ k → k < 4 → B' 6841 0 (4 * p + k) = if B 6841 0 (4 * p + k) ∈ L then -1 else B 6841 0 (4 * p + k) := h.2.2.2.2.2.1
theorem yDr.f {B B' : zM} {L : List Int} (h : yDr B B' L) : ∀ f x i, ¬ (x = 0 ∧ ((f = 6800 ∧ 0 ≤ i ∧ i < 256) ∨ (f = 6808 ∧ 0 ≤ i ∧ i < 256) ∨ (f = 6838 ∧ 0 ≤ i ∧ i < 256) ∨ (f = 6839 ∧ 0 ≤ i ∧ i < 4096) ∨ (f = 6840 ∧ 0 ≤ i ∧ i < 8) ∨ (f = 6841 ∧ 0 ≤ i ∧ i < 32))) → B' f x i = B f x i := h.2.2.2.2.2.2
theorem zsm_cg {f g : Int → Int} {n : Nat} (h : ∀ k : Int, 0 ≤ k → k < n → f k = g k) : zsm f n = zsm g n := zsm_congr n h
/-- drops of the same nodes make the same -/
theorem yDr_uni {B B1 B2 : zM} {L1 L2 : List Int} (h1 : yDr B B1 L1) (h2 : yDr B B2 L2) (e : ∀ m, m ∈ L1 ↔ m ∈ L2) : B1 = B2 := by
  funext f x i
  have it : ∀ (P Q : Prop) [Decidable P] [Decidable Q] (a b : Int), (P ↔ Q) → (if P then a else b) = (if Q then a else b) := by
    intro P Q _ _ a b h
    by_cases p : P
    · rw [if_pos p, if_pos (h.1 p)]
    · rw [if_neg p, if_neg (fun q => p (h.2 q))]
  by_cases c : x = 0 ∧ ((f = 6800 ∧ 0 ≤ i ∧ i < 256) ∨ (f = 6808 ∧ 0 ≤ i ∧ i < 256) ∨ (f = 6838 ∧ 0 ≤ i ∧ i < 256) ∨ (f = 6839 ∧ 0 ≤ i ∧ i < 4096) ∨ (f = 6840 ∧ 0 ≤ i ∧ i < 8) ∨ (f = 6841 ∧ 0 ≤ i ∧ i < 32))
  · obtain ⟨rfl, c⟩ := c
    rcases c with ⟨rfl, i0, i1⟩ | ⟨rfl, i0, i1⟩ | ⟨rfl, i0, i1⟩ | ⟨rfl, i0, i1⟩ | ⟨rfl, i0, i1⟩ | ⟨rfl, i0, i1⟩
    · rw [h1.k i i0 i1, h2.k i i0 i1]
      exact it _ _ _ _ (e i)
    · rw [h1.u i i0 i1, h2.u i i0 i1]
      refine congrArg (fun z => B 6808 0 i - z) (zsm_cg (fun m _ _ => ?_))
      exact it _ _ _ _ ⟨fun q => ⟨(e m).1 q.1, q.2⟩, fun q => ⟨(e m).2 q.1, q.2⟩⟩
    · have a := h1.kn (i / 32) (i % 32) (by omega) (by omega) (by omega)
      have b := h2.kn (i / 32) (i % 32) (by omega) (by omega) (by omega)
      rw [show 32 * (i / 32) + i % 32 = i by omega] at a b
      rw [a, b]
      exact it _ _ _ _ ⟨fun q => ⟨q.1, q.2.1, (e _).1 q.2.2⟩, fun q => ⟨q.1, q.2.1, (e _).2 q.2.2⟩⟩
    · have a := h1.lk (i / 512) (i % 512) (by omega) (by omega) (by omega)
      have b := h2.lk (i / 512) (i % 512) (by omega) (by omega) (by omega)
      rw [show 512 * (i / 512) + i % 512 = i by omega] at a b
      rw [a, b]
      refine it _ _ _ _ ⟨fun q => ⟨q.1, q.2.elim (fun z => Or.inl ⟨z.1, (e _).1 z.2⟩) (fun z => Or.inr ⟨z.1, z.2.1, z.2.2.1, (e _).1 z.2.2.2⟩)⟩, fun q => ⟨q.1, q.2.elim (fun z => Or.inl ⟨z.1, (e _).2 z.2⟩) (fun z => Or.inr ⟨z.1, z.2.1, z.2.2.1, (e _).2 z.2.2.2⟩)⟩⟩
    · rw [h1.wk i ⟨i0, i1⟩, h2.wk i ⟨i0, i1⟩]
      exact it _ _ _ _ (e _)
    · have a := h1.se (i / 4) (i % 4) (by omega) (by omega) (by omega)
      have b := h2.se (i / 4) (i % 4) (by omega) (by omega) (by omega)
      rw [show 4 * (i / 4) + i % 4 = i by omega] at a b
      rw [a, b]
      exact it _ _ _ _ (e _)
  · rw [h1.f f x i c, h2.f f x i c]
theorem p_accCo {B B1 : zM} (e1 : B1 6807 = B 6807) (e2 : B1 6802 = B 6802) : ∀ (fuel : Nat) (d : Int), (zlp fX67_account_B2 fuel d B = none ∧ zlp fX67_account_B2 fuel d B1 = none) ∨ ∃ r, zlp fX67_account_B2 fuel d B = some (r, B) ∧ zlp fX67_account_B2 fuel d B1 = some (r, B1) := by
  intro fuel
  induction fuel with
  | zero => intro d; exact Or.inl ⟨rfl, rfl⟩
  | succ f ih =>
    intro d
    show (fX67_account_B2 (zlp fX67_account_B2 f) d B = none ∧ fX67_account_B2 (zlp fX67_account_B2 f) d B1 = none) ∨ ∃ r, fX67_account_B2 (zlp fX67_account_B2 f) d B = _ ∧ fX67_account_B2 (zlp fX67_account_B2 f) d B1 = _
    unfold fX67_account_B2
    simp only [zal_ap, e1, e2]
    by_cases c : 0 ≤ d ∧ d < 256
    · rw [if_pos c, if_pos c]
      by_cases z : B 6807 0 d = 0
      · rw [zitF (fun x => x z), zitF (fun x => x z)]
        simp only [zal_ap, e2]
        rw [if_pos c, if_pos c]
        exact ih (B 6802 0 d)
      · rw [zitT z, zitT z]
        exact Or.inr ⟨d, rfl, rfl⟩
    · rw [if_neg c, if_neg c]
      exact Or.inl ⟨rfl, rfl⟩
theorem yap_co {B B1 : zM} (e1 : B1 6807 = B 6807) (e2 : B1 6802 = B 6802) (m : Int) : yap B1 m = yap B m := by
  unfold yap fX67_account
  rw [e2]
  rcases p_accCo e1 e2 zBIG (B 6802 0 m) with ⟨a, b⟩ | ⟨r, a, b⟩
  · rw [a, b]
  · rw [a, b]
/-- one more drop -/
theorem yDr_snoc {B B1 B2 : zM} {L : List Int} {n : Int} (h1 : yDr B B1 L) (h2 : yDr B1 B2 [n]) (hn : 0 < n ∧ n < 256) (hnl : ¬ n ∈ L) (h0 : ∀ m ∈ L, 0 < m) : yDr B B2 (n :: L) := by
  have nl : ∀ v, v ∈ n :: L ↔ v = n ∨ v ∈ L := fun v => by simp
  have ns : ∀ v : Int, v ∈ [n] ↔ v = n := fun v => by simp
  have m1 : ¬ ((-1 : Int) ∈ L) := fun q => by have := h0 _ q; omega
  have z0 : ¬ ((0 : Int) ∈ L) := fun q => by have := h0 _ q; omega
  have c7 : B1 6807 = B 6807 := by funext x i; exact h1.f 6807 x i (by omega)
  have c2 : B1 6802 = B 6802 := by funext x i; exact h1.f 6802 x i (by omega)
  have c6 : B1 6806 = B 6806 := by funext x i; exact h1.f 6806 x i (by omega)
  have c20 : B1 6820 = B 6820 := by funext x i; exact h1.f 6820 x i (by omega)
  have ctn : yct B1 n = yct B n := by
    unfold yct
    rw [c6, c7, h1.k n (by omega) hn.2, if_neg hnl]
  refine ⟨?_, ?_, ?_, ?_, ?_, ?_, ?_⟩
  · intro i i0 i1
    rw [h2.k i i0 i1, h1.k i i0 i1]
    by_cases e : i = n
    · rw [if_pos ((ns i).2 e), if_pos ((nl i).2 (Or.inl e))]
    · rw [if_neg (fun q => e ((ns i).1 q))]
      by_cases q : i ∈ L
      · rw [if_pos q, if_pos ((nl i).2 (Or.inr q))]
      · rw [if_neg q, if_neg (fun z => ((nl i).1 z).elim e q)]
  · intro i i0 i1
    rw [h2.u i i0 i1, h1.u i i0 i1]
    have s1 : zsm (fun m => if m ∈ [n] ∧ yap B1 m = i then yct B1 m else 0) 256 = zsm (fun m => if n = m then (if yap B n = i then yct B n else 0) else 0) 256 := by
      refine zsm_cg (fun m _ _ => ?_)
      show (if m ∈ [n] ∧ yap B1 m = i then yct B1 m else 0) = if n = m then (if yap B n = i then yct B n else 0) else 0
      by_cases e : n = m
      · subst e
        rw [if_pos rfl, yap_co c7 c2, ctn]
        by_cases q : yap B n = i
        · rw [if_pos ⟨(ns n).2 rfl, q⟩, if_pos q]
        · rw [if_neg (fun z => q z.2), if_neg q]
      · rw [if_neg e, if_neg (fun z => e ((ns m).1 z.1).symm)]
    rw [s1, zsm_one 256 (by omega)]
    have s2 := zsm_upd (f := fun m => if m ∈ L ∧ yap B m = i then yct B m else 0) (g := fun m => if m ∈ n :: L ∧ yap B m = i then yct B m else 0) (i := n) 256 (by omega) hn.2 (by
      intro m _ _ mn
      show (if m ∈ n :: L ∧ yap B m = i then yct B m else 0) = if m ∈ L ∧ yap B m = i then yct B m else 0
      by_cases q : m ∈ L ∧ yap B m = i
      · rw [if_pos q, if_pos ⟨(nl m).2 (Or.inr q.1), q.2⟩]
      · rw [if_neg q, if_neg]
        rintro ⟨a, b⟩
        exact ((nl m).1 a).elim mn (fun z => q ⟨z, b⟩))
    have s2 : zsm (fun m => if m ∈ n :: L ∧ yap B m = i then yct B m else 0) 256 = zsm (fun m => if m ∈ L ∧ yap B m = i then yct B m else 0) 256 + ((if n ∈ n :: L ∧ yap B n = i then yct B n else 0) - (if n ∈ L ∧ yap B n = i then yct B n else 0)) := s2
    rw [s2, if_neg (c := n ∈ L ∧ yap B n = i) (fun z => hnl z.1)]
    by_cases q : yap B n = i
    · rw [if_pos q, if_pos ⟨(nl n).2 (Or.inl rfl), q⟩]; omega
    · rw [if_neg q, if_neg (fun z => q z.2)]; omega
  · intro p k hp k0 k1
    rw [h2.kn p k hp k0 k1, h1.kn p k hp k0 k1, c20]
    by_cases q : B 6820 0 p = 1 ∧ 8 ≤ k ∧ B 6838 0 (32 * p + k) ∈ L
    · rw [if_pos q, if_neg (fun z => by have := (ns _).1 z.2.2; omega), if_pos ⟨q.1, q.2.1, (nl _).2 (Or.inr q.2.2)⟩]
    · rw [if_neg q]
      by_cases q2 : B 6820 0 p = 1 ∧ 8 ≤ k ∧ B 6838 0 (32 * p + k) ∈ [n]
      · rw [if_pos q2, if_pos ⟨q2.1, q2.2.1, (nl _).2 (Or.inl ((ns _).1 q2.2.2))⟩]
      · rw [if_neg q2, if_neg]
        rintro ⟨a, b, c⟩
        exact ((nl _).1 c).elim (fun z => q2 ⟨a, b, (ns _).2 z⟩) (fun z => q ⟨a, b, z⟩)
  · intro p i hp i0 i1
    have kn : ∀ k, 0 ≤ k → k < 32 → 8 ≤ k → B 6820 0 p = 1 → (B1 6838 0 (32 * p + k) ∈ [n] ↔ B 6838 0 (32 * p + k) = n) := by
      intro k k0 k1 k8 hl
      rw [ns, h1.kn p k hp k0 k1]
      by_cases q : B 6820 0 p = 1 ∧ 8 ≤ k ∧ B 6838 0 (32 * p + k) ∈ L
      · rw [if_pos q]
        exact ⟨fun z => by omega, fun z => absurd (z ▸ q.2.2) hnl⟩
      · rw [if_neg q]
    rw [h2.lk p i hp i0 i1, c20]
    have l1 := h1.lk p i hp i0 i1
    by_cases q : B 6820 0 p = 1 ∧ ((8 ≤ i / 16 ∧ B 6838 0 (32 * p + i / 16) ∈ L) ∨ (0 ≤ B 6839 0 (512 * p + i) ∧ 8 ≤ B 6839 0 (512 * p + i) / 262144 ∧ B 6839 0 (512 * p + i) / 262144 < 32 ∧ B 6838 0 (32 * p + B 6839 0 (512 * p + i) / 262144) ∈ L))
    · rw [if_pos q] at l1
      rw [l1]
      have r : B 6820 0 p = 1 ∧ ((8 ≤ i / 16 ∧ B 6838 0 (32 * p + i / 16) ∈ n :: L) ∨ (0 ≤ B 6839 0 (512 * p + i) ∧ 8 ≤ B 6839 0 (512 * p + i) / 262144 ∧ B 6839 0 (512 * p + i) / 262144 < 32 ∧ B 6838 0 (32 * p + B 6839 0 (512 * p + i) / 262144) ∈ n :: L)) :=
        ⟨q.1, q.2.elim (fun z => Or.inl ⟨z.1, (nl _).2 (Or.inr z.2)⟩) (fun z => Or.inr ⟨z.1, z.2.1, z.2.2.1, (nl _).2 (Or.inr z.2.2.2)⟩)⟩
      rw [if_pos r]
      split <;> rfl
    · rw [if_neg q] at l1
      rw [l1]
      by_cases q2 : B 6820 0 p = 1 ∧ ((8 ≤ i / 16 ∧ B 6838 0 (32 * p + i / 16) = n) ∨ (0 ≤ B 6839 0 (512 * p + i) ∧ 8 ≤ B 6839 0 (512 * p + i) / 262144 ∧ B 6839 0 (512 * p + i) / 262144 < 32 ∧ B 6838 0 (32 * p + B 6839 0 (512 * p + i) / 262144) = n))
      · rw [if_pos ⟨q2.1, q2.2.elim (fun z => Or.inl ⟨z.1, (kn _ (by omega) (by omega) z.1 q2.1).2 z.2⟩) (fun z => Or.inr ⟨z.1, z.2.1, z.2.2.1, (kn _ (by omega) (by omega) z.2.1 q2.1).2 z.2.2.2⟩)⟩,
          if_pos ⟨q2.1, q2.2.elim (fun z => Or.inl ⟨z.1, (nl _).2 (Or.inl z.2)⟩) (fun z => Or.inr ⟨z.1, z.2.1, z.2.2.1, (nl _).2 (Or.inl z.2.2.2)⟩)⟩]
      · rw [if_neg, if_neg]
        · rintro ⟨a, b⟩
          rcases b with b | b
          · exact ((nl _).1 b.2).elim (fun z => q2 ⟨a, Or.inl ⟨b.1, z⟩⟩) (fun z => q ⟨a, Or.inl ⟨b.1, z⟩⟩)
          · exact ((nl _).1 b.2.2.2).elim (fun z => q2 ⟨a, Or.inr ⟨b.1, b.2.1, b.2.2.1, z⟩⟩) (fun z => q ⟨a, Or.inr ⟨b.1, b.2.1, b.2.2.1, z⟩⟩)
        · rintro ⟨a, b⟩
          rcases b with b | b
          · exact q2 ⟨a, Or.inl ⟨b.1, (kn _ (by omega) (by omega) b.1 a).1 b.2⟩⟩
          · exact q2 ⟨a, Or.inr ⟨b.1, b.2.1, b.2.2.1, (kn _ (by omega) (by omega) b.2.1 a).1 b.2.2.2⟩⟩
  · intro p hp
    rw [h2.wk p hp, h1.wk p hp]
    by_cases q : B 6840 0 p ∈ L
    · rw [if_pos q, if_neg (fun z => by have := (ns _).1 z; omega), if_pos ((nl _).2 (Or.inr q))]
    · rw [if_neg q]
      by_cases q2 : B 6840 0 p = n
      · rw [if_pos ((ns _).2 q2), if_pos ((nl _).2 (Or.inl q2))]
      · rw [if_neg (fun z => q2 ((ns _).1 z)), if_neg (fun z => ((nl _).1 z).elim q2 q)]
  · intro p k hp k0 k1
    rw [h2.se p k hp k0 k1, h1.se p k hp k0 k1]
    by_cases q : B 6841 0 (4 * p + k) ∈ L
    · rw [if_pos q, if_neg (fun z => by have := (ns _).1 z; omega), if_pos ((nl _).2 (Or.inr q))]
    · rw [if_neg q]
      by_cases q2 : B 6841 0 (4 * p + k) = n
      · rw [if_pos ((ns _).2 q2), if_pos ((nl _).2 (Or.inl q2))]
      · rw [if_neg (fun z => q2 ((ns _).1 z)), if_neg (fun z => ((nl _).1 z).elim q2 q)]
  · intro f x i c
    rw [h2.f f x i c, h1.f f x i c]
