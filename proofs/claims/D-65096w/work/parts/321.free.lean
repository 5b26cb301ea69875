/-! the first free node -/
theorem p_freeT_loop {B : zM} : ∀ (r : Nat) (i : Int) (fuel : Nat), 0 ≤ i → i + r < 256 → ¬ 0 < B 6800 0 (i + r) → (∀ k, i ≤ k → k < i + r → 0 < B 6800 0 k) → r < fuel → zlp fX67_free_B2 fuel i B = some (i + r, B) := by
  intro r
  induction r with
  | zero =>
    intro i fuel hi hn hz _ hf
    obtain ⟨f, rfl⟩ : ∃ f, fuel = f + 1 := ⟨fuel - 1, by omega⟩
    show fX67_free_B2 (zlp _ f) i B = _
    have e : i + ((0 : Nat) : Int) = i := by omega
    rw [e] at hz ⊢
    unfold fX67_free_B2
    rw [zitF (by omega), zal_in (by omega), zitT (by omega), zret_ap]
  | succ r ih =>
    intro i fuel hi hn hz hk hf
    obtain ⟨f, rfl⟩ : ∃ f, fuel = f + 1 := ⟨fuel - 1, by omega⟩
    show fX67_free_B2 (zlp fX67_free_B2 f) i B = _
    have h0 := hk i (by omega) (by omega)
    have e : i + ((r + 1 : Nat) : Int) = i + 1 + r := by omega
    rw [e] at hz hk ⊢
    have ihn := ih (i + 1) f (by omega) (by omega) hz (fun k a b => hk k (by omega) b) (by omega)
    rw [← ihn]
    generalize zlp fX67_free_B2 f = g
    unfold fX67_free_B2
    rw [zitF (by omega), zal_in (by omega), zitF (by omega), zlt_ap, zi_of (by omega)]
/-- the least place where a test holds -/
theorem y_least (P : Int → Prop) : ∀ (n : Nat), (∃ k : Int, 0 ≤ k ∧ k < n ∧ P k) → ∃ r : Nat, (r : Int) < n ∧ P r ∧ ∀ k : Int, 0 ≤ k → k < r → ¬ P k := by
  intro n
  induction n with
  | zero => rintro ⟨k, a, b, _⟩; omega
  | succ n ih =>
    rintro ⟨k, a, b, c⟩
    by_cases h : ∃ k : Int, 0 ≤ k ∧ k < n ∧ P k
    · obtain ⟨r, r1, r2, r3⟩ := ih h
      exact ⟨r, by omega, r2, r3⟩
    · have e : k = n := by
        by_cases q : k < n
        · exact absurd ⟨k, a, q, c⟩ h
        · omega
      rw [e] at c
      exact ⟨n, by omega, c, fun k a b d => h ⟨k, a, b, d⟩⟩
theorem p_free {A B : zM} (h : I_nd A B) (hx : ∃ k : Int, 0 ≤ k ∧ k < 256 ∧ ¬ 0 < A 501 k 0) : ∃ r : Int, (0 < r ∧ r < 256) ∧ A 501 r 0 = 0 ∧ fX1_free A = some (r, A) ∧ fX67_free B = some (r, B) := by
  obtain ⟨r, r1, r2, r3⟩ := y_least (fun k => ¬ 0 < A 501 k 0) 256 hx
  have hr := h.rt
  have r0 : r ≠ 0 := by
    intro q
    subst q
    exact r2 (by show 0 < A 501 0 0; omega)
  have hk := h.k r (by omega) (by omega)
  have e : (0 : Int) + (r : Int) = r := by omega
  refine ⟨r, ⟨by omega, by omega⟩, by omega, ?_, ?_⟩
  · have := p_free0_loop (A := A) r 0 zBIG (by omega) (by omega) (by rw [e]; exact r2) (fun k a b => by have := r3 k a (by omega); omega) (by show _ < 1048576; omega)
    rw [e] at this
    exact this
  · have := p_freeT_loop (B := B) r 0 zBIG (by omega) (by omega) (by rw [e]; omega) (fun k a b => by have := r3 k a (by omega); have := h.k k a (by omega); omega) (by show _ < 1048576; omega)
    rw [e] at this
    exact this
