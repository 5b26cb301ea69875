set_option linter.unusedSimpArgs false
set_option linter.unusedVariables false
/-! an entry goes out of the index, or comes into it -/
def I_ixW (A : zM) (rho : Int → Int) (K n : Int) : Prop :=
  (∀ b, 0 ≤ b → b < 256 → zPv (fun m => yBm A b m ∧ m ≠ n) rho K (A 300 0 b)) ∧
  (∀ m, yLv A m → m ≠ 0 → m ≠ n → zPv (fun x => yBm A (ybk (A 504 m 0) (A 502 m 0)) x ∧ x ≠ n) rho (rho m) (A 507 m 0)) ∧
  (∀ m, yLv A m → m ≠ 0 → m ≠ n → 0 ≤ rho m ∧ rho m < K) ∧
  (∀ x y, yLv A x → yLv A y → x ≠ 0 → y ≠ 0 → x ≠ n → y ≠ n → rho x = rho y → x = y)
theorem I_ixW.hd {A : zM} {rho : Int → Int} {K n : Int} (h : I_ixW A rho K n) : ∀ b, 0 ≤ b → b < 256 → zPv (fun m => yBm A b m ∧ m ≠ n) rho K (A 300 0 b) := h.1
theorem I_ixW.al {A : zM} {rho : Int → Int} {K n : Int} (h : I_ixW A rho K n) : ∀ m, yLv A m → m ≠ 0 → m ≠ n → zPv (fun x => yBm A (ybk (A 504 m 0) (A 502 m 0)) x ∧ x ≠ n) rho (rho m) (A 507 m 0) := h.2.1
theorem I_ixW.rg {A : zM} {rho : Int → Int} {K n : Int} (h : I_ixW A rho K n) : ∀ m, yLv A m → m ≠ 0 → m ≠ n → 0 ≤ rho m ∧ rho m < K := h.2.2.1
theorem I_ixW.ij {A : zM} {rho : Int → Int} {K n : Int} (h : I_ixW A rho K n) : ∀ x y, yLv A x → yLv A y → x ≠ 0 → y ≠ 0 → x ≠ n → y ≠ n → rho x = rho y → x = y := h.2.2.2
theorem p_ixrem {A : zM} {rho : Int → Int} {K n : Int} (h : I_ix A rho K) (hK : K < 1000000) (n0 : yLv A n) (nz : n ≠ 0) (hp : 0 ≤ A 504 n 0) :
    ∃ A', fX2_remove n A = some (0, A') ∧ I_ixW A' rho K n ∧ (∀ f, ¬ f ∈ [300, 507] → A' f = A f) := by
  have br := ybk_rng (A 504 n 0) (A 502 n 0)
  have nb : yBm A (ybk (A 504 n 0) (A 502 n 0)) n := ⟨by omega, n0.2, rfl⟩
  have S0 : ∀ {b m}, yBm A b m → 0 ≤ m := fun hm => by omega
  have lv : ∀ {b m}, yBm A b m → yLv A m ∧ m ≠ 0 := fun hm => ⟨⟨by omega, hm.2.1⟩, by omega⟩
  have inj : ∀ b m m', yBm A b m → yBm A b m' → rho m = rho m' → m = m' := fun b m m' h1 h2 e => h.ij m m' (lv h1).1 (lv h2).1 (lv h1).2 (lv h2).2 e
  have W : ∀ b m, (fun m => yBm A b m ∧ m ≠ n) m ↔ yBm A b m ∧ m ≠ n := fun _ _ => Iff.rfl
  -- the same told of another memory
  have fin : ∀ A' : zM, (∀ f, ¬ f ∈ [300, 507] → A' f = A f) → (∀ b, 0 ≤ b → b < 256 → zPv (fun m => yBm A b m ∧ m ≠ n) rho K (A' 300 0 b)) → (∀ m, yLv A m → m ≠ 0 → m ≠ n → zPv (fun x => yBm A (ybk (A 504 m 0) (A 502 m 0)) x ∧ x ≠ n) rho (rho m) (A' 507 m 0)) → I_ixW A' rho K n := by
    intro A' hf h1 h2
    have a1 : A' 501 = A 501 := hf 501 (by decide)
    have a2 : A' 502 = A 502 := hf 502 (by decide)
    have a4 : A' 504 = A 504 := hf 504 (by decide)
    refine ⟨?_, ?_, ?_, ?_⟩
    · simp only [yBm, a1, a2, a4]; exact h1
    · simp only [yBm, yLv, a1, a2, a4]; exact h2
    · simp only [yLv, a1]; exact fun m q1 q2 _ => h.rg m q1 q2
    · simp only [yLv, a1]; exact fun x y q1 q2 q3 q4 _ _ => h.ij x y q1 q2 q3 q4
  have other : ∀ m, yLv A m → m ≠ 0 → ybk (A 504 m 0) (A 502 m 0) ≠ ybk (A 504 n 0) (A 502 n 0) → zPv (fun x => yBm A (ybk (A 504 m 0) (A 502 m 0)) x ∧ x ≠ n) rho (rho m) (A 507 m 0) := by
    intro m hm m0 e
    refine zPv_del (W _) ?_ (h.al m hm m0)
    intro q
    rcases h.al m hm m0 with ⟨q1, -⟩ | ⟨q1, -⟩
    · omega
    · rw [q] at q1; exact e q1.2.2.symm
  have headO : ∀ b, 0 ≤ b → b < 256 → b ≠ ybk (A 504 n 0) (A 502 n 0) → zPv (fun m => yBm A b m ∧ m ≠ n) rho K (A 300 0 b) := by
    intro b b0 b1 e
    refine zPv_del (W _) ?_ (h.hd b b0 b1)
    intro q
    rcases h.hd b b0 b1 with ⟨q1, -⟩ | ⟨q1, -⟩
    · omega
    · rw [q] at q1; exact e q1.2.2.symm
  have hb := h.hd _ br.1 br.2
  generalize hB : ybk (A 504 n 0) (A 502 n 0) = b at *
  have st : fX2_remove n A = (zal 300 0 b 256 fun v5 => if ¬ v5 = n then (zal 300 0 b 256 fun v6 => zlp (fX2_remove_B40 n) zBIG v6) else (zgf 507 n fun v13 => zas 300 0 b 256 v13 <| zret 0)) A := by
    unfold fX2_remove
    rw [znn_in (by omega), zgf_ap, zgf_ap, zcl_some (p_bk _ hp A), hB]
  by_cases e : A 300 0 b = n
  · refine ⟨zup A 300 0 b (A 507 n 0), ?_, fin _ ?_ ?_ ?_, ?_⟩
    · rw [st, zal_in br, zitF (fun x => x e), zgf_ap, zas_in br, zret_ap]
    · intro f hf
      simp only [List.mem_cons, List.not_mem_nil, or_false, not_or] at hf
      exact zup_col (by omega)
    · intro c c0 c1
      by_cases q : c = b
      · rw [zrd_hit (by omega), q]
        rw [e] at hb
        have a := h.al n n0 nz
        rw [hB] at a
        exact zPv_delx (fun m hm => S0 hm) (inj b) (W b) hb (by omega) a
      · rw [zrd_miss (by omega)]
        exact headO c c0 c1 q
    · intro m hm m0 mn
      rw [zrd_miss (by omega)]
      by_cases q : ybk (A 504 m 0) (A 502 m 0) = b
      · refine zPv_del (W _) ?_ (h.al m hm m0)
        intro r
        have a := h.al m hm m0
        rw [r] at a
        obtain ⟨a1, a2, -⟩ := zPv_mem a (by omega)
        rw [e] at hb
        obtain ⟨b1, b2, b3⟩ := zPv_mem hb (by omega)
        have := b3 m ⟨by omega, hm.2, q⟩ (h.rg m hm m0).2
        omega
      · exact other m hm m0 q
    · intro f hf
      simp only [List.mem_cons, List.not_mem_nil, or_false, not_or] at hf
      exact zup_col (by omega)
  · -- the one ahead of it
    have lp : ∀ (r : Nat) (x : Int) (fuel : Nat), yBm A b x → rho n < rho x → rho x ≤ r → r < fuel → ∃ k, yBm A b k ∧ A 507 k 0 = n ∧ zlp (fX2_remove_B40 n) fuel x A = some (0, zup A 507 k 0 (A 507 n 0)) := by
      intro r
      induction r with
      | zero =>
        intro x fuel hx hr hx2 hf
        have := h.rg n n0 nz
        omega
      | succ r ih =>
        intro x fuel hx hr hx2 hf
        obtain ⟨f, rfl⟩ : ∃ f, fuel = f + 1 := ⟨fuel - 1, by omega⟩
        have a := h.al x (lv hx).1 (lv hx).2
        rw [hx.2.2] at a
        show ∃ k, _ ∧ _ ∧ fX2_remove_B40 n (zlp (fX2_remove_B40 n) f) x A = _
        by_cases q : A 507 x 0 = n
        · refine ⟨x, hx, q, ?_⟩
          generalize zlp (fX2_remove_B40 n) f = g
          unfold fX2_remove_B40 fX2_remove_J56
          simp (disch := omega) only [↓zal_in, ↓zas_in, ↓zib_in, ↓znn_in, ↓zne_in, ↓zgf_ap, ↓zpf_ap, ↓zpb_in, ↓zlt_ap, ↓zret_ap, ↓zrb_in, zitT, zitF, zi_of, zl_of, zrd_hit, zrd_miss, if_true, if_false, not_true_eq_false, not_false_eq_true, q]
        · have nx : A 507 x 0 ≠ -1 := by
            intro z
            rw [z] at a
            exact zPv_none (fun m hm => S0 hm) a n nb hr
          obtain ⟨a1, a2, a3⟩ := zPv_mem a nx
          have g1 := a3 n nb hr
          have g2 : rho n ≠ rho (A 507 x 0) := fun z => q (inj b n _ nb a1 z).symm
          obtain ⟨k, k1, k2, k3⟩ := ih (A 507 x 0) f a1 (by omega) (by omega) (by omega)
          refine ⟨k, k1, k2, ?_⟩
          rw [← k3]
          generalize zlp (fX2_remove_B40 n) f = g
          unfold fX2_remove_B40
          simp (disch := omega) only [↓zal_in, ↓zas_in, ↓zib_in, ↓znn_in, ↓zne_in, ↓zgf_ap, ↓zpf_ap, ↓zpb_in, ↓zlt_ap, ↓zret_ap, ↓zrb_in, zitT, zitF, zi_of, zl_of, zrd_hit, zrd_miss, if_true, if_false, not_true_eq_false, not_false_eq_true]
    have hx : A 300 0 b ≠ -1 := by
      intro z
      rw [z] at hb
      exact zPv_none (fun m hm => S0 hm) hb n nb (h.rg n n0 nz).2
    obtain ⟨x1, x2, x3⟩ := zPv_mem hb hx
    have g1 := x3 n nb (h.rg n n0 nz).2
    have g2 : rho n ≠ rho (A 300 0 b) := fun z => e (inj b n _ nb x1 z).symm
    obtain ⟨k, k1, k2, k3⟩ := lp 1000000 (A 300 0 b) zBIG x1 (by omega) (by omega) (by show 1000000 < 1048576; omega)
    refine ⟨zup A 507 k 0 (A 507 n 0), ?_, fin _ ?_ ?_ ?_, ?_⟩
    · rw [st, zal_in br, zitT e, zal_in br]; exact k3
    · intro f hf
      simp only [List.mem_cons, List.not_mem_nil, or_false, not_or] at hf
      exact zup_col (by omega)
    · intro c c0 c1
      rw [zrd_miss (by omega)]
      by_cases q : c = b
      · rw [q]
        exact zPv_del (W _) e hb
      · exact headO c c0 c1 q
    · intro m hm m0 mn
      by_cases q : m = k
      · rw [zrd_hit (by omega), q, k1.2.2]
        have a := h.al k (lv k1).1 (lv k1).2
        rw [k1.2.2, k2] at a
        have an := h.al n n0 nz
        rw [hB] at an
        exact zPv_delx (fun m hm => S0 hm) (inj b) (W b) a (by omega) an
      · rw [zrd_miss (by omega)]
        by_cases q2 : ybk (A 504 m 0) (A 502 m 0) = b
        · refine zPv_del (W _) ?_ (h.al m hm m0)
          intro r
          have a := h.al m hm m0
          rw [r, q2] at a
          obtain ⟨a1, a2, a3⟩ := zPv_mem a (by omega)
          have ak := h.al k (lv k1).1 (lv k1).2
          rw [k1.2.2, k2] at ak
          obtain ⟨c1, c2, c3⟩ := zPv_mem ak (by omega)
          have mb : yBm A b m := ⟨by omega, hm.2, q2⟩
          have : rho m ≠ rho k := fun z => q (inj b m k mb k1 z)
          by_cases w : rho m < rho k
          · have := c3 m mb w; omega
          · have := a3 k k1 (by omega); omega
        · exact other m hm m0 q2
    · intro f hf
      simp only [List.mem_cons, List.not_mem_nil, or_false, not_or] at hf
      exact zup_col (by omega)
/-- an entry comes in -/
theorem T_ixadd {A A' : zM} {rho : Int → Int} {K n d w : Int} (h : I_ixW A rho K n) (hK : 0 ≤ K) (hn : 0 < n ∧ n < 256) (hl : 0 < A' 501 n 0)
    (h1 : ∀ m, m ≠ n → A' 501 m 0 = A 501 m 0) (h2 : ∀ m, m ≠ n → A' 502 m 0 = A 502 m 0) (h4 : ∀ m, m ≠ n → A' 504 m 0 = A 504 m 0) (hw : A' 502 n 0 = w) (hd : A' 504 n 0 = d)
    (h7 : ∀ i, A' 507 i 0 = if i = n then A 300 0 (ybk d w) else A 507 i 0) (h3 : ∀ i, A' 300 0 i = if i = ybk d w then n else A 300 0 i) : I_ix A' (fun x => if x = n then K else rho x) (K + 1) := by
  have lv : ∀ m, yLv A' m → m ≠ n → yLv A m := fun m hm e => ⟨hm.1, by rw [← h1 m e]; exact hm.2⟩
  have en : ∀ b m, yBm A' b m ↔ (yBm A b m ∧ m ≠ n) ∨ (m = n ∧ b = ybk d w) := by
    intro b m
    show ((0 < m ∧ m < 256) ∧ 0 < A' 501 m 0 ∧ ybk (A' 504 m 0) (A' 502 m 0) = b) ↔ _
    by_cases e : m = n
    · rw [e, hd, hw]
      constructor
      · rintro ⟨-, -, q⟩; exact Or.inr ⟨rfl, q.symm⟩
      · rintro (q | q)
        · exact absurd rfl q.2
        · exact ⟨hn, hl, q.2.symm⟩
    · rw [h1 m e, h2 m e, h4 m e]
      exact ⟨fun q => Or.inl ⟨q, e⟩, fun q => q.elim (fun x => x.1) (fun x => absurd x.1 e)⟩
  have e1 : ∀ b, b ≠ ybk d w → ∀ m, (yBm A b m ∧ m ≠ n) ↔ yBm A' b m := fun b q m => by
    rw [en]; exact ⟨fun x => Or.inl x, fun x => x.elim id (fun y => absurd y.2 q)⟩
  have e2 : ∀ m, yBm A' (ybk d w) m ↔ (yBm A (ybk d w) m ∧ m ≠ n) ∨ m = n := fun m => by
    rw [en]; exact ⟨fun x => x.elim Or.inl (fun y => Or.inr y.1), fun x => x.elim Or.inl (fun y => Or.inr ⟨y, rfl⟩)⟩
  have kk : ∀ {b m}, (yBm A b m ∧ m ≠ n) → rho m = if m = n then K else rho m := fun hm => by
    rw [if_neg hm.2]
  have kb : ∀ {b m}, (yBm A b m ∧ m ≠ n) → rho m < K := fun hm => (h.rg _ ⟨by omega, hm.1.2.1⟩ (by omega) hm.2).2
  refine ⟨?_, ?_, ?_, ?_⟩
  · intro b b0 b1
    by_cases q : b = ybk d w
    · rw [h3, if_pos q, q]
      have := zPv_top (S := fun m => yBm A (ybk d w) m ∧ m ≠ n) (key := fun x => if x = n then K else rho x) e2 (by
        intro m hm
        rw [← kk hm, if_pos rfl]
        exact kb hm)
      rw [if_pos rfl] at this
      exact this
    · rw [h3, if_neg q]
      have g := zPv_congr (key' := fun x => if x = n then K else rho x) (e1 b q) (fun m hm => kk hm) (h.hd b b0 b1)
      refine zPv_bound ?_ ?_ g
      · intro m hm
        have hm := (e1 b q m).2 hm
        rw [← kk hm]; exact kb hm
      · intro m hm
        have hm := (e1 b q m).2 hm
        have := kb hm
        rw [← kk hm]; omega
  · intro m hm m0
    by_cases e : m = n
    · rw [h7, if_pos e, e, hd, hw]
      show zPv _ _ (if n = n then K else rho n) _
      rw [if_pos rfl]
      have g := zPv_congr (key' := fun x => if x = n then K else rho x) (fun m => Iff.rfl) (fun m hm => kk hm) (h.hd (ybk d w) (ybk_rng d w).1 (ybk_rng d w).2)
      exact zPv_under (S := fun m => yBm A (ybk d w) m ∧ m ≠ n) e2 (by rw [if_pos rfl]; exact Int.le_refl _) g
    · have hl := lv m hm e
      have g := h.al m hl m0 e
      rw [h7, if_neg e, h4 m e, h2 m e]
      show zPv _ _ (if m = n then K else rho m) _
      rw [if_neg e]
      by_cases q : ybk (A 504 m 0) (A 502 m 0) = ybk d w
      · rw [q] at g ⊢
        have g := zPv_congr (key' := fun x => if x = n then K else rho x) (fun m => Iff.rfl) (fun m hm => kk hm) g
        exact zPv_under (S := fun m => yBm A (ybk d w) m ∧ m ≠ n) e2 (by rw [if_pos rfl]; have := h.rg m hl m0 e; omega) g
      · exact zPv_congr (e1 _ q) (fun m hm => kk hm) g
  · intro m hm m0
    show 0 ≤ (if m = n then K else rho m) ∧ (if m = n then K else rho m) < K + 1
    by_cases e : m = n
    · rw [if_pos e]; omega
    · have := h.rg m (lv m hm e) m0 e
      rw [if_neg e]; omega
  · intro x y hx hy x0 y0
    show (if x = n then K else rho x) = (if y = n then K else rho y) → _
    by_cases e : x = n
    · by_cases e' : y = n
      · intro _; rw [e, e']
      · have := h.rg y (lv y hy e') y0 e'
        rw [if_pos e, if_neg e']; intro q; omega
    · have := h.rg x (lv x hx e) x0 e
      by_cases e' : y = n
      · rw [if_neg e, if_pos e']; intro q; omega
      · rw [if_neg e, if_neg e']
        exact h.ij x y (lv x hx e) (lv y hy e') x0 y0 e e'
