/-! entries by their names -/
def ybk (d w : Int) : Int := zi ((zxR (zl ((zl ((zxR w (w % 18446744073709551616 / 131072)) * 31)) + (zl (d * 7919)))) ((zl ((zl ((zxR w (w % 18446744073709551616 / 131072)) * 31)) + (zl (d * 7919)))) % 18446744073709551616 / 8388608)) % 256)
theorem ybk_rng (d w : Int) : 0 ≤ ybk d w ∧ ybk d w < 256 := by
  unfold ybk
  rw [zi_of (by omega)]
  omega
theorem p_bk {d : Int} (w : Int) (hd : 0 ≤ d) (M : zM) : fX2_bucket d w M = some (ybk d w, M) := by
  unfold fX2_bucket ybk
  rw [znn_in hd, zlt_ap, zret_ap]
/-- entries of one bucket -/
abbrev yBm (A : zM) (b n : Int) : Prop := (0 < n ∧ n < 256) ∧ 0 < A 501 n 0 ∧ ybk (A 504 n 0) (A 502 n 0) = b
def I_ix (A : zM) (rho : Int → Int) (K : Int) : Prop :=
  (∀ b, 0 ≤ b → b < 256 → zPv (yBm A b) rho K (A 300 0 b)) ∧
  (∀ n, yLv A n → n ≠ 0 → zPv (yBm A (ybk (A 504 n 0) (A 502 n 0))) rho (rho n) (A 507 n 0)) ∧
  (∀ n, yLv A n → n ≠ 0 → 0 ≤ rho n ∧ rho n < K) ∧
  (∀ m n, yLv A m → yLv A n → m ≠ 0 → n ≠ 0 → rho m = rho n → m = n)
theorem I_ix.hd {A : zM} {rho : Int → Int} {K : Int} (h : I_ix A rho K) : ∀ b, 0 ≤ b → b < 256 → zPv (yBm A b) rho K (A 300 0 b) := h.1
theorem I_ix.al {A : zM} {rho : Int → Int} {K : Int} (h : I_ix A rho K) : ∀ n, yLv A n → n ≠ 0 → zPv (yBm A (ybk (A 504 n 0) (A 502 n 0))) rho (rho n) (A 507 n 0) := h.2.1
theorem I_ix.rg {A : zM} {rho : Int → Int} {K : Int} (h : I_ix A rho K) : ∀ n, yLv A n → n ≠ 0 → 0 ≤ rho n ∧ rho n < K := h.2.2.1
theorem I_ix.ij {A : zM} {rho : Int → Int} {K : Int} (h : I_ix A rho K) : ∀ m n, yLv A m → yLv A n → m ≠ 0 → n ≠ 0 → rho m = rho n → m = n := h.2.2.2
/-- the entry of a directory with a name; -1 -/
def yFd (A : zM) (d w r : Int) : Prop := (r = -1 ∧ ∀ n, yEn A d n → A 502 n 0 ≠ w) ∨ (yEn A d r ∧ A 502 r 0 = w)
theorem p_fnd_loop {A : zM} {rho : Int → Int} {K d w : Int} (h : I_ix A rho K) : ∀ (n : Nat) (c x : Int) (fuel : Nat), zPv (yBm A (ybk d w)) rho c x → (∀ m, yEn A d m → A 502 m 0 = w → rho m < c) → c ≤ n → n < fuel → ∃ r, zlp (fX2_find_B12 d w) fuel x A = some (r, A) ∧ yFd A d w r := by
  intro n
  induction n with
  | zero =>
    intro c x fuel hx hc hn hf
    obtain ⟨f, rfl⟩ : ∃ f, fuel = f + 1 := ⟨fuel - 1, by omega⟩
    rcases hx with ⟨h1, h2⟩ | ⟨h1, h2, h3⟩
    · refine ⟨-1, ?_, Or.inl ⟨rfl, fun m hm e => ?_⟩⟩
      · show fX2_find_B12 d w (zlp _ f) x A = _
        unfold fX2_find_B12
        rw [zitT (by omega), zret_ap, h1]
      · have a := hc m hm e
        have b := h.rg m ⟨by omega, hm.2.1⟩ (by omega)
        omega
    · have b := h.rg x ⟨by omega, h1.2.1⟩ (by omega)
      omega
  | succ n ih =>
    intro c x fuel hx hc hn hf
    obtain ⟨f, rfl⟩ : ∃ f, fuel = f + 1 := ⟨fuel - 1, by omega⟩
    rcases hx with ⟨h1, h2⟩ | ⟨h1, h2, h3⟩
    · refine ⟨-1, ?_, Or.inl ⟨rfl, fun m hm e => ?_⟩⟩
      · show fX2_find_B12 d w (zlp _ f) x A = _
        unfold fX2_find_B12
        rw [zitT (by omega), zret_ap, h1]
      · have a := hc m hm e
        have q : yBm A (ybk d w) m := ⟨hm.1, hm.2.1, by rw [hm.2.2, e]⟩
        exact h2 m q a
    · have hl : yLv A x := ⟨by omega, h1.2.1⟩
      have ha := h.al x hl (by omega)
      rw [h1.2.2] at ha
      by_cases hp : A 504 x 0 = d ∧ A 502 x 0 = w
      · refine ⟨x, ?_, Or.inr ⟨⟨h1.1, h1.2.1, hp.1⟩, hp.2⟩⟩
        show fX2_find_B12 d w (zlp _ f) x A = _
        unfold fX2_find_B12
        rw [zitF (by omega), zgf_ap, zitF (fun q => q hp.1), zgf_ap, zitT hp.2, zret_ap]
      · obtain ⟨r, r1, r2⟩ := ih (rho x) (A 507 x 0) f ha (by
          intro m hm e
          have a := hc m hm e
          have q : yBm A (ybk d w) m := ⟨hm.1, hm.2.1, by rw [hm.2.2, e]⟩
          have b := h3 m q a
          by_cases e2 : rho m = rho x
          · have e3 := h.ij m x ⟨by omega, hm.2.1⟩ hl (by omega) (by omega) e2
            rw [e3] at hm e
            exact absurd ⟨hm.2.2, e⟩ hp
          · omega) (by omega) (by omega)
        refine ⟨r, ?_, r2⟩
        rw [← r1]
        show fX2_find_B12 d w (zlp (fX2_find_B12 d w) f) x A = _
        generalize zlp (fX2_find_B12 d w) f = g
        unfold fX2_find_B12 fX2_find_J36
        rw [zitF (by omega), zgf_ap]
        by_cases h5 : A 504 x 0 = d
        · rw [zitF (fun q => q h5), zgf_ap, zitF (fun q => hp ⟨h5, q⟩), znn_in (by omega), zgf_ap]
        · rw [zitT h5, znn_in (by omega), zgf_ap]
