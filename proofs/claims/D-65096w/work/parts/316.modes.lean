/-! what lists let somebody do -/
theorem yff_snoc (g : Int → Int) (key : Int) : ∀ (n : Nat) (i : Int), 0 ≤ i → zff g key i (n + 1) = if 0 ≤ zff g key i n then zff g key i n else if g (i + n) = key then i + n else -1 := by
  intro n
  induction n with
  | zero =>
    intro i hi
    show (if g i = key then i else -1) = if (0 : Int) ≤ -1 then _ else if g (i + ((0 : Nat) : Int)) = key then i + ((0 : Nat) : Int) else -1
    rw [if_neg (show ¬ (0 : Int) ≤ -1 by omega), show i + ((0 : Nat) : Int) = i by omega]
  | succ n ih =>
    intro i hi
    have e1 : zff g key i (n + 1 + 1) = if g i = key then i else zff g key (i + 1) (n + 1) := rfl
    have e2 : zff g key i (n + 1) = if g i = key then i else zff g key (i + 1) n := rfl
    rw [e1, e2]
    by_cases h : g i = key
    · rw [if_pos h, if_pos h, if_pos hi]
    · rw [if_neg h, if_neg h, ih (i + 1) (by omega), show i + 1 + (n : Int) = i + ((n + 1 : Nat) : Int) by omega]
def ybr (a b c d : Int) : Int := if 0 ≤ a then 3 else if 0 ≤ b then 2 else if 0 ≤ c then 1 else if 0 ≤ d then 0 else -1
def yfo (g : Int → Int) (a b c d : Int) : Int := if 0 ≤ a then g a else if 0 ≤ b then g b else if 0 ≤ c then g c else if 0 ≤ d then g d else 0
/-- the modes that the component's list tells of somebody -/
def yof (A : zM) (c p q : Int) : Int := yfo (A 601 c) (zff (A 600 c) (16 * p + q) 0 (A 602 c 0).toNat) (zff (A 600 c) (16 * p + 8) 0 (A 602 c 0).toNat) (zff (A 600 c) (16 * 16 + q) 0 (A 602 c 0).toNat) (zff (A 600 c) (16 * 16 + 8) 0 (A 602 c 0).toNat)
theorem p_of {A : zM} {c p q : Int} (hm : 0 ≤ A 602 c 0 ∧ A 602 c 0 ≤ zacl c) (hp : 0 ≤ p ∧ p ≤ 15) (hq : 0 ≤ q ∧ q ≤ 7) : fX5_of c p q A = some (yof A c p q, A) := by
  have f3 := p_find (c := c) (p := p) (q := q) (A := A) hm (by omega) (by omega)
  have f2 := p_find (c := c) (p := p) (q := 8) (A := A) hm (by omega) (by omega)
  have f1 := p_find (c := c) (p := 16) (q := q) (A := A) hm (by omega) (by omega)
  have f0 := p_find (c := c) (p := 16) (q := 8) (A := A) hm (by omega) (by omega)
  have s3 := zff_spec (A 600 c) (16 * p + q) (A 602 c 0).toNat 0 (by omega)
  have s2 := zff_spec (A 600 c) (16 * p + 8) (A 602 c 0).toNat 0 (by omega)
  have s1 := zff_spec (A 600 c) (16 * 16 + q) (A 602 c 0).toNat 0 (by omega)
  have s0 := zff_spec (A 600 c) (16 * 16 + 8) (A 602 c 0).toNat 0 (by omega)
  unfold fX5_of yof yfo
  rw [zcl_some f3]
  generalize zff (A 600 c) (16 * p + q) 0 (A 602 c 0).toNat = k3 at *
  generalize zff (A 600 c) (16 * p + 8) 0 (A 602 c 0).toNat = k2 at *
  generalize zff (A 600 c) (16 * 16 + q) 0 (A 602 c 0).toNat = k1 at *
  generalize zff (A 600 c) (16 * 16 + 8) 0 (A 602 c 0).toNat = k0 at *
  unfold fX5_of_J22 fX5_of_J38 fX5_of_J55
  by_cases h3 : 0 ≤ k3
  · rw [zitT h3, zitT h3, zitT h3, zitT h3, zal_in (by omega), if_pos h3]
    rfl
  · rw [zitF h3, zcl_some f2, if_neg h3]
    by_cases h2 : 0 ≤ k2
    · rw [zitT h2, zitT h2, zitT h2, zal_in (by omega), if_pos h2]
      rfl
    · rw [zitF h2, zcl_some f1, if_neg h2]
      by_cases h1 : 0 ≤ k1
      · rw [zitT h1, zitT h1, zal_in (by omega), if_pos h1]
        rfl
      · rw [zitF h1, zcl_some f0, if_neg h1]
        by_cases h0 : 0 ≤ k0
        · rw [zitT h0, zal_in (by omega), if_pos h0]
          rfl
        · rw [zitF h0, if_neg h0]
          rfl
def yrk (x y : Int) : Int := (if x = 16 then 0 else 2) + (if y = 8 then 0 else 1)
theorem p_mo86 {B : zM} {g : Int × Int × Int → zX} {n p q best found i a flag : Int} (ha : 0 ≤ a ∧ a + 2 < 4608) (hf : flag = 0 ∨ flag = 1) :
    fX67_modesFor_J86 g n p q best found i a flag B = if flag = 1 ∧ best < yrk (B 6813 0 a) (B 6813 0 (a + 1)) then g (yrk (B 6813 0 a) (B 6813 0 (a + 1)), B 6813 0 (a + 2), zi (i + 1)) B else g (best, found, zi (i + 1)) B := by
  have e1 : zi (a + 1) = a + 1 := zi_of (by omega)
  have e2 : zi (a + 2) = a + 2 := zi_of (by omega)
  have key : ∀ s0 s1 v : Int, zi (s0 + s1) = v → fX67_modesFor_J124 g n p q best found i a flag s0 s1 B = if flag = 1 ∧ best < v then g (v, B 6813 0 (a + 2), zi (i + 1)) B else g (best, found, zi (i + 1)) B := by
    intro s0 s1 v hv
    unfold fX67_modesFor_J124 fX67_modesFor_J154
    rw [zlt_ap, hv]
    by_cases h0 : flag = 0
    · rw [zitT h0, if_neg (by omega)]
      rfl
    · rw [zitF h0]
      by_cases h1 : v ≤ best
      · rw [zitT h1, if_neg (by omega)]
        rfl
      · rw [zitF h1, e2, zal_in (by omega), if_pos (by omega)]
        rfl
  unfold fX67_modesFor_J86 fX67_modesFor_J105 yrk
  rw [zal_in (by omega)]
  by_cases hx : B 6813 0 a = 16
  · rw [zitF (fun z => z hx), e1, zal_in (by omega), if_pos hx]
    by_cases hy : B 6813 0 (a + 1) = 8
    · rw [zitF (fun z => z hy), if_pos hy]
      exact key 0 0 (0 + 0) (by decide)
    · rw [zitT hy, if_neg hy]
      exact key 0 1 (0 + 1) (by decide)
  · rw [zitT hx, e1, zal_in (by omega), if_neg hx]
    by_cases hy : B 6813 0 (a + 1) = 8
    · rw [zitF (fun z => z hy), if_pos hy]
      exact key 2 0 (2 + 0) (by decide)
    · rw [zitT hy, if_neg hy]
      exact key 2 1 (2 + 1) (by decide)
theorem p_mo_step {B : zM} {g : Int × Int × Int → zX} {n m p q best found i : Int} (hn : 0 ≤ n ∧ n < 256) (hc : B 6812 0 n = m) (hi : 0 ≤ i ∧ i < m ∧ m ≤ 6) :
    fX67_modesFor_B9 n p q g (best, found, i) B = if ((B 6813 0 (18 * n + 3 * i) = p ∨ B 6813 0 (18 * n + 3 * i) = 16) ∧ (B 6813 0 (18 * n + 3 * i + 1) = q ∨ B 6813 0 (18 * n + 3 * i + 1) = 8)) ∧ best < yrk (B 6813 0 (18 * n + 3 * i)) (B 6813 0 (18 * n + 3 * i + 1)) then g (yrk (B 6813 0 (18 * n + 3 * i)) (B 6813 0 (18 * n + 3 * i + 1)), B 6813 0 (18 * n + 3 * i + 2), i + 1) B else g (best, found, i + 1) B := by
  have e1 : zi (zi (18 * n) + zi (3 * i)) = 18 * n + 3 * i := by rw [zi_of (x := 18 * n) (by omega), zi_of (x := 3 * i) (by omega)]; exact zi_of (by omega)
  have e2 : zi (18 * n + 3 * i + 1) = 18 * n + 3 * i + 1 := zi_of (by omega)
  have e4 : zi (i + 1) = i + 1 := zi_of (by omega)
  have k0 := p_mo86 (B := B) (g := g) (n := n) (p := p) (q := q) (best := best) (found := found) (i := i) (a := 18 * n + 3 * i) (flag := 0) (by omega) (Or.inl rfl)
  have k1 := p_mo86 (B := B) (g := g) (n := n) (p := p) (q := q) (best := best) (found := found) (i := i) (a := 18 * n + 3 * i) (flag := 1) (by omega) (Or.inr rfl)
  rw [if_neg (by omega), e4] at k0
  rw [e4] at k1
  have j54 : (B 6813 0 (18 * n + 3 * i) = p ∨ B 6813 0 (18 * n + 3 * i) = 16) → fX67_modesFor_J54 g n p q best found i (18 * n + 3 * i) B = if ((B 6813 0 (18 * n + 3 * i) = p ∨ B 6813 0 (18 * n + 3 * i) = 16) ∧ (B 6813 0 (18 * n + 3 * i + 1) = q ∨ B 6813 0 (18 * n + 3 * i + 1) = 8)) ∧ best < yrk (B 6813 0 (18 * n + 3 * i)) (B 6813 0 (18 * n + 3 * i + 1)) then g (yrk (B 6813 0 (18 * n + 3 * i)) (B 6813 0 (18 * n + 3 * i + 1)), B 6813 0 (18 * n + 3 * i + 2), i + 1) B else g (best, found, i + 1) B := by
    intro hx
    have yes : (B 6813 0 (18 * n + 3 * i + 1) = q ∨ B 6813 0 (18 * n + 3 * i + 1) = 8) → fX67_modesFor_J86 g n p q best found i (18 * n + 3 * i) 1 B = if ((B 6813 0 (18 * n + 3 * i) = p ∨ B 6813 0 (18 * n + 3 * i) = 16) ∧ (B 6813 0 (18 * n + 3 * i + 1) = q ∨ B 6813 0 (18 * n + 3 * i + 1) = 8)) ∧ best < yrk (B 6813 0 (18 * n + 3 * i)) (B 6813 0 (18 * n + 3 * i + 1)) then g (yrk (B 6813 0 (18 * n + 3 * i)) (B 6813 0 (18 * n + 3 * i + 1)), B 6813 0 (18 * n + 3 * i + 2), i + 1) B else g (best, found, i + 1) B := by
      intro hy
      rw [k1]
      by_cases hb : best < yrk (B 6813 0 (18 * n + 3 * i)) (B 6813 0 (18 * n + 3 * i + 1))
      · rw [if_pos ⟨rfl, hb⟩, if_pos ⟨⟨hx, hy⟩, hb⟩]
      · rw [if_neg (fun z => hb z.2), if_neg (fun z => hb z.2)]
    unfold fX67_modesFor_J54 fX67_modesFor_J81 fX67_modesFor_J85
    rw [e2, zal_in (by omega)]
    by_cases h1 : B 6813 0 (18 * n + 3 * i + 1) = q
    · rw [zitT h1]
      exact yes (Or.inl h1)
    · rw [zitF h1, zal_in (by omega)]
      by_cases h2 : B 6813 0 (18 * n + 3 * i + 1) = 8
      · rw [zitF (fun z => z h2)]
        exact yes (Or.inr h2)
      · rw [zitT h2, k0, if_neg]
        rintro ⟨⟨-, z | z⟩, -⟩
        · exact h1 z
        · exact h2 z
  unfold fX67_modesFor_B9 fX67_modesFor_J85
  show (zal 6812 0 n 256 fun v1 => _) B = _
  rw [zal_in hn, hc, zitF (by omega), zlt_ap, e1, zal_in (by omega)]
  by_cases h1 : B 6813 0 (18 * n + 3 * i) = p
  · rw [zitT h1]
    exact j54 (Or.inl h1)
  · rw [zitF h1, zal_in (by omega)]
    by_cases h2 : B 6813 0 (18 * n + 3 * i) = 16
    · rw [zitF (fun z => z h2)]
      exact j54 (Or.inr h2)
    · rw [zitT h2, k0, if_neg]
      rintro ⟨⟨z | z, -⟩, -⟩
      · exact h1 z
      · exact h2 z
theorem p_moT_loop {A B : zM} {n m p q : Int} (h : I_al A B (3 * n) 6813 (18 * n) m) (hc : B 6812 0 n = m) (hn : 0 ≤ n ∧ n < 256) (hp : 0 ≤ p ∧ p ≤ 15) (hq : 0 ≤ q ∧ q ≤ 7) :
    ∀ (r i : Nat) (fuel : Nat), (i : Int) + r = m → r < fuel →
      zlp (fX67_modesFor_B9 n p q) fuel (ybr (zff (A 600 (3 * n)) (16 * p + q) 0 i) (zff (A 600 (3 * n)) (16 * p + 8) 0 i) (zff (A 600 (3 * n)) (16 * 16 + q) 0 i) (zff (A 600 (3 * n)) (16 * 16 + 8) 0 i), yfo (A 601 (3 * n)) (zff (A 600 (3 * n)) (16 * p + q) 0 i) (zff (A 600 (3 * n)) (16 * p + 8) 0 i) (zff (A 600 (3 * n)) (16 * 16 + q) 0 i) (zff (A 600 (3 * n)) (16 * 16 + 8) 0 i), (i : Int)) B = some (yof A (3 * n) p q, B) := by
  have hr := h.r
  have hz : zacl (3 * n) = 6 := by unfold zacl; rw [if_pos (by omega)]
  intro r
  induction r with
  | zero =>
    intro i fuel hi hf
    obtain ⟨f, rfl⟩ : ∃ f, fuel = f + 1 := ⟨fuel - 1, by omega⟩
    show fX67_modesFor_B9 n p q (zlp _ f) _ B = _
    unfold fX67_modesFor_B9
    simp only []
    rw [zal_in hn, hc, zitT (by omega), zret_ap]
    unfold yof
    rw [h.n, show m.toNat = i by omega]
  | succ r ih =>
    intro i fuel hi hf
    obtain ⟨f, rfl⟩ : ∃ f, fuel = f + 1 := ⟨fuel - 1, by omega⟩
    have ihn := ih (i + 1) f (by omega) (by omega)
    have hw := h.w i (by omega) (by omega)
    have ho := h.o i (by omega) (by omega)
    have hx := h.x i (by omega) (by omega)
    rw [yff_snoc _ _ i 0 (by omega), yff_snoc _ _ i 0 (by omega), yff_snoc _ _ i 0 (by omega), yff_snoc _ _ i 0 (by omega), show (0 : Int) + (i : Int) = (i : Int) by omega] at ihn
    have s3 := zff_spec (A 600 (3 * n)) (16 * p + q) i 0 (by omega)
    have s2 := zff_spec (A 600 (3 * n)) (16 * p + 8) i 0 (by omega)
    have s1 := zff_spec (A 600 (3 * n)) (16 * 16 + q) i 0 (by omega)
    have s0 := zff_spec (A 600 (3 * n)) (16 * 16 + 8) i 0 (by omega)
    have r3 : zff (A 600 (3 * n)) (16 * p + q) 0 i = -1 ∨ (0 ≤ zff (A 600 (3 * n)) (16 * p + q) 0 i ∧ A 600 (3 * n) i ≠ 16 * p + q) := by
      rcases s3 with s | s
      · exact Or.inl s.1
      · exact Or.inr ⟨s.1, fun e => h.d _ i s.1 (by omega) (by omega) (by rw [s.2.2.1, e])⟩
    have r2 : zff (A 600 (3 * n)) (16 * p + 8) 0 i = -1 ∨ (0 ≤ zff (A 600 (3 * n)) (16 * p + 8) 0 i ∧ A 600 (3 * n) i ≠ 16 * p + 8) := by
      rcases s2 with s | s
      · exact Or.inl s.1
      · exact Or.inr ⟨s.1, fun e => h.d _ i s.1 (by omega) (by omega) (by rw [s.2.2.1, e])⟩
    have r1 : zff (A 600 (3 * n)) (16 * 16 + q) 0 i = -1 ∨ (0 ≤ zff (A 600 (3 * n)) (16 * 16 + q) 0 i ∧ A 600 (3 * n) i ≠ 16 * 16 + q) := by
      rcases s1 with s | s
      · exact Or.inl s.1
      · exact Or.inr ⟨s.1, fun e => h.d _ i s.1 (by omega) (by omega) (by rw [s.2.2.1, e])⟩
    have r0 : zff (A 600 (3 * n)) (16 * 16 + 8) 0 i = -1 ∨ (0 ≤ zff (A 600 (3 * n)) (16 * 16 + 8) 0 i ∧ A 600 (3 * n) i ≠ 16 * 16 + 8) := by
      rcases s0 with s | s
      · exact Or.inl s.1
      · exact Or.inr ⟨s.1, fun e => h.d _ i s.1 (by omega) (by omega) (by rw [s.2.2.1, e])⟩
    clear s3 s2 s1 s0 ih
    generalize zff (A 600 (3 * n)) (16 * p + q) 0 i = k3 at *
    generalize zff (A 600 (3 * n)) (16 * p + 8) 0 i = k2 at *
    generalize zff (A 600 (3 * n)) (16 * 16 + q) 0 i = k1 at *
    generalize zff (A 600 (3 * n)) (16 * 16 + 8) 0 i = k0 at *
    show fX67_modesFor_B9 n p q (zlp (fX67_modesFor_B9 n p q) f) _ B = _
    generalize zlp (fX67_modesFor_B9 n p q) f = g at *
    rw [p_mo_step hn hc (by omega)]
    unfold yrk
    rw [hw] at ihn r3 r2 r1 r0
    rw [show ((i + 1 : Nat) : Int) = (i : Int) + 1 by omega] at ihn
    generalize B 6813 0 (18 * n + 3 * (i : Int)) = x at *
    generalize B 6813 0 (18 * n + 3 * (i : Int) + 1) = y at *
    generalize B 6813 0 (18 * n + 3 * (i : Int) + 2) = z at *
    have y3 : ∀ k : Int, (k = -1 ∨ 0 ≤ k) → ∀ P : Prop, [Decidable P] → ¬ P → (if 0 ≤ k then k else if P then (i : Int) else -1) = k := by
      intro k hk P _ hP
      by_cases q : 0 ≤ k
      · rw [if_pos q]
      · rw [if_neg q, if_neg hP]; omega
    by_cases hx1 : x = p
    · by_cases hy1 : y = q
      · rcases r3 with r3 | r3
        · rcases r2 with r2 | r2 <;> rcases r1 with r1 | r1 <;> rcases r0 with r0 | r0 <;>
            (simp (disch := omega) only [if_pos, if_neg, ybr, yfo, ho] at ihn ⊢; exact ihn)
        · exact absurd (by omega) r3.2
      · by_cases hy2 : y = 8
        · rcases r2 with r2 | r2
          · rcases r3 with r3 | r3 <;> rcases r1 with r1 | r1 <;> rcases r0 with r0 | r0 <;>
              (simp (disch := omega) only [if_pos, if_neg, ybr, yfo, ho] at ihn ⊢; exact ihn)
          · exact absurd (by omega) r2.2
        · rw [y3 k3 (by omega) _ (by omega), y3 k2 (by omega) _ (by omega), y3 k1 (by omega) _ (by omega), y3 k0 (by omega) _ (by omega)] at ihn
          simp (disch := omega) only [if_pos, if_neg] at ihn ⊢
          exact ihn
    · by_cases hx2 : x = 16
      · by_cases hy1 : y = q
        · rcases r1 with r1 | r1
          · rcases r3 with r3 | r3 <;> rcases r2 with r2 | r2 <;> rcases r0 with r0 | r0 <;>
              (simp (disch := omega) only [if_pos, if_neg, ybr, yfo, ho] at ihn ⊢; exact ihn)
          · exact absurd (by omega) r1.2
        · by_cases hy2 : y = 8
          · rcases r0 with r0 | r0
            · rcases r3 with r3 | r3 <;> rcases r2 with r2 | r2 <;> rcases r1 with r1 | r1 <;>
                (simp (disch := omega) only [if_pos, if_neg, ybr, yfo, ho] at ihn ⊢; exact ihn)
            · exact absurd (by omega) r0.2
          · rw [y3 k3 (by omega) _ (by omega), y3 k2 (by omega) _ (by omega), y3 k1 (by omega) _ (by omega), y3 k0 (by omega) _ (by omega)] at ihn
            simp (disch := omega) only [if_pos, if_neg] at ihn ⊢
            exact ihn
      · rw [y3 k3 (by omega) _ (by omega), y3 k2 (by omega) _ (by omega), y3 k1 (by omega) _ (by omega), y3 k0 (by omega) _ (by omega)] at ihn
        simp (disch := omega) only [if_pos, if_neg] at ihn ⊢
        exact ihn
theorem p_moT {A B : zM} {n m p q : Int} (h : I_al A B (3 * n) 6813 (18 * n) m) (hc : B 6812 0 n = m) (hn : 0 ≤ n ∧ n < 256) (hp : 0 ≤ p ∧ p ≤ 15) (hq : 0 ≤ q ∧ q ≤ 7) : fX67_modesFor n p q B = some (yof A (3 * n) p q, B) := by
  have hr := h.r
  have hz := zacl_rng (3 * n)
  have := p_moT_loop h hc hn hp hq m.toNat 0 zBIG (by omega) (by show _ < 1048576; omega)
  exact this
theorem yof_rng {A B : zM} {c : Int} {C : Nat} {b m p q : Int} (h : I_al A B c C b m) : 0 ≤ yof A c p q ∧ yof A c p q ≤ 7 := by
  have hr := h.r
  have key : ∀ v, 0 ≤ zff (A 600 c) v 0 (A 602 c 0).toNat → 0 ≤ A 601 c (zff (A 600 c) v 0 (A 602 c 0).toNat) ∧ A 601 c (zff (A 600 c) v 0 (A 602 c 0).toNat) ≤ 7 := by
    intro v hv
    rcases zff_spec (A 600 c) v (A 602 c 0).toNat 0 (by omega) with s | s
    · omega
    · have hn := h.n
      have hx := h.x _ hv (by omega)
      have ho := h.o _ hv (by omega)
      rw [ho]
      exact hx.2.2
  unfold yof yfo
  split
  · exact key _ (by assumption)
  · split
    · exact key _ (by assumption)
    · split
      · exact key _ (by assumption)
      · split
        · exact key _ (by assumption)
        · omega
