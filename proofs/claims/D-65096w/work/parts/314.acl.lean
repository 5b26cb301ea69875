/-! lists of items -/
def zff (g : Int → Int) (key : Int) : Int → Nat → Int
  | _, 0 => -1
  | i, n + 1 => if g i = key then i else zff g key (i + 1) n
theorem zff_spec (g : Int → Int) (key : Int) : ∀ (n : Nat) (i : Int), 0 ≤ i → (zff g key i n = -1 ∧ ∀ k, i ≤ k → k < i + n → g k ≠ key) ∨ (i ≤ zff g key i n ∧ zff g key i n < i + n ∧ g (zff g key i n) = key ∧ ∀ k, i ≤ k → k < zff g key i n → g k ≠ key) := by
  intro n
  induction n with
  | zero => intro i hi; left; exact ⟨rfl, fun k a b => by omega⟩
  | succ n ih =>
    intro i hi
    by_cases h : g i = key
    · right
      have e : zff g key i (n + 1) = i := if_pos h
      rw [e]
      exact ⟨by omega, by omega, h, fun k a b => by omega⟩
    · have e : zff g key i (n + 1) = zff g key (i + 1) n := if_neg h
      rw [e]
      rcases ih (i + 1) (by omega) with ⟨h1, h2⟩ | ⟨h1, h2, h3, h4⟩
      · left
        refine ⟨h1, fun k a b => ?_⟩
        by_cases q : k = i
        · rw [q]; exact h
        · exact h2 k (by omega) (by omega)
      · right
        refine ⟨by omega, by omega, h3, fun k a b => ?_⟩
        by_cases q : k = i
        · rw [q]; exact h
        · exact h4 k (by omega) b
theorem zacl_rng (c : Int) : zacl c = 6 ∨ zacl c = 3 := by unfold zacl; split <;> simp
theorem p_find_loop {c key : Int} {A : zM} (hm : A 602 c 0 ≤ zacl c) : ∀ (n : Nat) (i : Int) (fuel : Nat), 0 ≤ i → i + n = A 602 c 0 → n < fuel → zlp (fX5_find_B9 c key) fuel i A = some (zff (A 600 c) key i n, A) := by
  have hz := zacl_rng c
  intro n
  induction n with
  | zero =>
    intro i fuel hi hn hf
    obtain ⟨f, rfl⟩ : ∃ f, fuel = f + 1 := ⟨fuel - 1, by omega⟩
    show fX5_find_B9 c key (zlp _ f) _ A = _
    unfold fX5_find_B9
    simp only [zit_ap, zret_ap, zrb_ap, zno_ap, znn_ap, zne_ap, zlt_ap, zgf_ap, zpf_ap, zpb_ap, zib_ap, zal_ap, zas_ap, zct_ap, zsc_ap, zhd_ap, zcl_ap]
    rw [if_pos (by omega)]
    rfl
  | succ n ih =>
    intro i fuel hi hn hf
    obtain ⟨f, rfl⟩ : ∃ f, fuel = f + 1 := ⟨fuel - 1, by omega⟩
    show fX5_find_B9 c key (zlp _ f) _ A = _
    unfold fX5_find_B9
    simp only [zit_ap, zret_ap, zrb_ap, zno_ap, znn_ap, zne_ap, zlt_ap, zgf_ap, zpf_ap, zpb_ap, zib_ap, zal_ap, zas_ap, zct_ap, zsc_ap, zhd_ap, zcl_ap]
    rw [if_neg (by omega), if_pos (by omega), zi_of (by omega)]
    by_cases h : A 600 c i = key
    · rw [if_neg (fun q => q h)]
      show _ = some (if A 600 c i = key then i else zff (A 600 c) key (i + 1) n, A)
      rw [if_pos h]
    · rw [if_pos h]
      refine (ih (i + 1) f (by omega) (by omega) (by omega)).trans ?_
      show _ = some (if A 600 c i = key then i else zff (A 600 c) key (i + 1) n, A)
      rw [if_neg h]
theorem p_find {c p q : Int} {A : zM} (hm : 0 ≤ A 602 c 0 ∧ A 602 c 0 ≤ zacl c) (hp : 0 ≤ p ∧ p ≤ 16) (hq : 0 ≤ q ∧ q ≤ 8) : fX5_find c p q A = some (zff (A 600 c) (16 * p + q) 0 (A 602 c 0).toNat, A) := by
  have hz := zacl_rng c
  have e : fX5_key p q A = some (16 * p + q, A) := by
    unfold fX5_key
    rw [zi_of (x := 16 * p) (by omega), zi_of (by omega)]
    rfl
  unfold fX5_find
  rw [zcl_some e]
  exact p_find_loop hm.2 _ 0 zBIG (by omega) (by omega) (by show _ < 1048576; omega)
/-- a list of the component and one of the twin -/
def I_al (A B : zM) (c : Int) (C : Nat) (b m : Int) : Prop :=
  (A 602 c 0 = m) ∧
  (0 ≤ m ∧ m ≤ zacl c) ∧
  (∀ k, 0 ≤ k → k < m → A 600 c k = 16 * B C 0 (b + 3 * k) + B C 0 (b + 3 * k + 1)) ∧
  (∀ k, 0 ≤ k → k < m → A 601 c k = B C 0 (b + 3 * k + 2)) ∧
  (∀ k, 0 ≤ k → k < m → (0 ≤ B C 0 (b + 3 * k) ∧ B C 0 (b + 3 * k) ≤ 16) ∧ (0 ≤ B C 0 (b + 3 * k + 1) ∧ B C 0 (b + 3 * k + 1) ≤ 8) ∧ (0 ≤ B C 0 (b + 3 * k + 2) ∧ B C 0 (b + 3 * k + 2) ≤ 7)) ∧
  (∀ j k, 0 ≤ j → j < k → k < m → A 600 c j ≠ A 600 c k)
theorem I_al.n {A B : zM} {c : Int} {C : Nat} {b m : Int} (h : I_al A B c C b m) : A 602 c 0 = m := h.1
theorem I_al.r {A B : zM} {c : Int} {C : Nat} {b m : Int} (h : I_al A B c C b m) : 0 ≤ m ∧ m ≤ zacl c := h.2.1
theorem I_al.w {A B : zM} {c : Int} {C : Nat} {b m : Int} (h : I_al A B c C b m) : ∀ k, 0 ≤ k → k < m → A 600 c k = 16 * B C 0 (b + 3 * k) + B C 0 (b + 3 * k + 1) := h.2.2.1
theorem I_al.o {A B : zM} {c : Int} {C : Nat} {b m : Int} (h : I_al A B c C b m) : ∀ k, 0 ≤ k → k < m → A 601 c k = B C 0 (b + 3 * k + 2) := h.2.2.2.1
theorem I_al.x {A B : zM} {c : Int} {C : Nat} {b m : Int} (h : I_al A B c C b m) : ∀ k, 0 ≤ k → k < m → (0 ≤ B C 0 (b + 3 * k) ∧ B C 0 (b + 3 * k) ≤ 16) ∧ (0 ≤ B C 0 (b + 3 * k + 1) ∧ B C 0 (b + 3 * k + 1) ≤ 8) ∧ (0 ≤ B C 0 (b + 3 * k + 2) ∧ B C 0 (b + 3 * k + 2) ≤ 7) := h.2.2.2.2.1
theorem I_al.d {A B : zM} {c : Int} {C : Nat} {b m : Int} (h : I_al A B c C b m) : ∀ j k, 0 ≤ j → j < k → k < m → A 600 c j ≠ A 600 c k := h.2.2.2.2.2
/-- where the twin's search ends -/
def zfe (A : zM) (c key m : Int) : Int := if zff (A 600 c) key 0 m.toNat = -1 then m else zff (A 600 c) key 0 m.toNat
theorem p_sit_loop {A B : zM} {c : Int} {C : Nat} {b m most p q md : Int} (h : I_al A B c C b m) (hb : 0 ≤ b ∧ b + 3 * zacl c ≤ zlen C) (hl : zlen C ≤ 4608) (hq : 0 ≤ q ∧ q ≤ 8) :
    ∀ (n : Nat) (i : Int) (fuel : Nat), 0 ≤ i → i + n = m → n < fuel → zlp (fX67_setItem_B3 C b m most p q md) fuel i B = fX67_setItem_J43 C b m most p q md (if zff (A 600 c) (16 * p + q) i n = -1 then m else zff (A 600 c) (16 * p + q) i n) B := by
  have hz := zacl_rng c
  have hr := h.r
  intro n
  induction n with
  | zero =>
    intro i fuel hi hn hf
    obtain ⟨f, rfl⟩ : ∃ f, fuel = f + 1 := ⟨fuel - 1, by omega⟩
    show fX67_setItem_B3 C b m most p q md (zlp _ f) _ B = _
    unfold fX67_setItem_B3
    rw [zitT (by omega)]
    show _ = fX67_setItem_J43 C b m most p q md m B
    rw [show i = m by omega]
  | succ n ih =>
    intro i fuel hi hn hf
    obtain ⟨f, rfl⟩ : ∃ f, fuel = f + 1 := ⟨fuel - 1, by omega⟩
    show fX67_setItem_B3 C b m most p q md (zlp _ f) _ B = _
    unfold fX67_setItem_B3 fX67_setItem_J37
    have e1 : zi (b + zi (3 * i)) = b + 3 * i := by rw [zi_of (x := 3 * i) (by omega)]; exact zi_of (by omega)
    have e2 : zi (b + 3 * i + 1) = b + 3 * i + 1 := zi_of (by omega)
    rw [zitF (by omega), e1, e2, zal_in (by omega)]
    have hw := h.w i hi (by omega)
    have hx := h.x i hi (by omega)
    have ihn := ih (i + 1) f (by omega) (by omega) (by omega)
    have e3 : zi (i + 1) = i + 1 := zi_of (by omega)
    have hs : zff (A 600 c) (16 * p + q) i (n + 1) = if A 600 c i = 16 * p + q then i else zff (A 600 c) (16 * p + q) (i + 1) n := rfl
    by_cases h1 : B C 0 (b + 3 * i) = p
    · rw [zitF (fun z => z h1), zal_in (by omega)]
      by_cases h2 : B C 0 (b + 3 * i + 1) = q
      · have hs1 : zff (A 600 c) (16 * p + q) i (n + 1) = i := by rw [hs, if_pos (by omega)]
        rw [zitT h2, hs1, if_neg (by omega)]
      · have hs1 : zff (A 600 c) (16 * p + q) i (n + 1) = zff (A 600 c) (16 * p + q) (i + 1) n := by rw [hs, if_neg (by omega)]
        rw [zitF h2, hs1, zlt_ap, e3]
        exact ihn
    · have hs1 : zff (A 600 c) (16 * p + q) i (n + 1) = zff (A 600 c) (16 * p + q) (i + 1) n := by rw [hs, if_neg (by omega)]
      rw [zitT h1, hs1, zlt_ap, e3]
      exact ihn
theorem p_sit {A B : zM} {c : Int} {C : Nat} {b m most p q md : Int} (h : I_al A B c C b m) (hb : 0 ≤ b ∧ b + 3 * zacl c ≤ zlen C) (hl : zlen C ≤ 4608) (hq : 0 ≤ q ∧ q ≤ 8) :
    fX67_setItem C b m most p q md B = fX67_setItem_J43 C b m most p q md (zfe A c (16 * p + q) m) B := by
  have hz := zacl_rng c
  have hr := h.r
  exact p_sit_loop h hb hl hq m.toNat 0 zBIG (by omega) (by omega) (by show _ < 1048576; omega)
/-- the component's items move up -/
theorem p_arem {A : zM} {c k m : Int} (hm : A 602 c 0 = m) (hr : 0 ≤ k ∧ k < m ∧ m ≤ zacl c) : ∃ A', fX5_remove c k A = some (0, A') ∧ A' 602 c 0 = m - 1 ∧ (∀ i, k ≤ i → i < m - 1 → A' 600 c i = A 600 c (i + 1) ∧ A' 601 c i = A 601 c (i + 1)) ∧ (∀ f x i, ¬ (x = c ∧ (f = 602 ∨ ((f = 600 ∨ f = 601) ∧ k ≤ i ∧ i < m - 1))) → A' f x i = A f x i) := by
  have hz := zacl_rng c
  unfold fX5_remove
  simp only [zit_ap, zret_ap, zrb_ap, zno_ap, znn_ap, zne_ap, zlt_ap, zgf_ap, zpf_ap, zpb_ap, zib_ap, zal_ap, zas_ap, zct_ap, zsc_ap, zhd_ap, zcl_ap, hm]
  rw [zi_of (x := m - 1) (by omega)]
  refine zlp_big (B := fX5_remove_B12 c) (fun s M n => k ≤ s ∧ s ≤ m - 1 ∧ n = (m - 1 - s).toNat ∧ M 602 c 0 = m - 1 ∧ (∀ i, k ≤ i → i < s → M 600 c i = A 600 c (i + 1) ∧ M 601 c i = A 601 c (i + 1)) ∧ (∀ f x i, ¬ (x = c ∧ (f = 602 ∨ ((f = 600 ∨ f = 601) ∧ k ≤ i ∧ i < s))) → M f x i = A f x i))
    (fun o => ∃ A', o = some (0, A') ∧ A' 602 c 0 = m - 1 ∧ (∀ i, k ≤ i → i < m - 1 → A' 600 c i = A 600 c (i + 1) ∧ A' 601 c i = A 601 c (i + 1)) ∧ (∀ f x i, ¬ (x = c ∧ (f = 602 ∨ ((f = 600 ∨ f = 601) ∧ k ≤ i ∧ i < m - 1))) → A' f x i = A f x i)) ?_ (n := (m - 1 - k).toNat) ⟨Int.le_refl _, by omega, rfl, zup_eq, fun i a b => by omega, ?_⟩ (by omega)
  · rintro s M n ⟨s1, s2, rfl, hn, ha, hf⟩
    by_cases hd : m - 1 ≤ s
    · left
      intro f
      unfold fX5_remove_B12
      simp only [zit_ap, zret_ap, zrb_ap, zno_ap, znn_ap, zne_ap, zlt_ap, zgf_ap, zpf_ap, zpb_ap, zib_ap, zal_ap, zas_ap, zct_ap, zsc_ap, zhd_ap, zcl_ap, hn]
      rw [if_pos hd]
      have : s = m - 1 := by omega
      subst this
      exact ⟨M, rfl, hn, ha, hf⟩
    · right
      have g0 := hf 600 c (s + 1) (by omega)
      have g1 := hf 601 c (s + 1) (by omega)
      refine ⟨s + 1, zup (zup M 600 c s (A 600 c (s + 1))) 601 c s (A 601 c (s + 1)), (m - 1 - (s + 1)).toNat, by omega, ⟨by omega, by omega, rfl, ?_, ?_, ?_⟩, ?_⟩
      · simp (disch := omega) only [zrd_miss, hn]
      · intro i i1 i2
        by_cases q : i = s
        · subst q
          simp (disch := omega) only [zrd_miss, zrd_hit, and_self]
        · simp (disch := omega) only [zrd_miss]
          exact ha i i1 (by omega)
      · intro f x i q
        simp (disch := omega) only [zrd_miss]
        exact hf f x i (by omega)
      · intro f
        unfold fX5_remove_B12
        simp only [zit_ap, zret_ap, zrb_ap, zno_ap, znn_ap, zne_ap, zlt_ap, zgf_ap, zpf_ap, zpb_ap, zib_ap, zal_ap, zas_ap, zct_ap, zsc_ap, zhd_ap, zcl_ap, hn]
        rw [if_neg hd, zi_of (by omega), if_pos (by omega), if_pos (by omega), if_pos (by omega), if_pos (by omega)]
        simp (disch := omega) only [zrd_miss, g0, g1]
  · intro f x i q
    exact zrd_miss (by omega)
