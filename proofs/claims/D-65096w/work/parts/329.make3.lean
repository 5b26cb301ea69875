set_option linter.unusedSimpArgs false
set_option linter.unusedVariables false
/-! a node is made: the twin's side -/
theorem p_mkT_loop {k d s n : Int} (hn : 0 ≤ n ∧ n < 256) {M : zM} : ∀ (r : Nat) (i : Int) (fuel : Nat), 0 ≤ i → i + r = 1024 → r < fuel → zlp (fX67_make_B161 k d s n) fuel i (zfil M 6816 0 (1024 * n) (1024 * n + i) (fun _ => 0)) = fX67_make_J190 k d s n (zfil M 6816 0 (1024 * n) (1024 * n + 1024) (fun _ => 0)) := by
  intro r
  induction r with
  | zero =>
    intro i fuel hi hr hf
    obtain ⟨f, rfl⟩ : ∃ f, fuel = f + 1 := ⟨fuel - 1, by omega⟩
    show fX67_make_B161 k d s n (zlp (fX67_make_B161 k d s n) f) i _ = _
    generalize zlp (fX67_make_B161 k d s n) f = g
    have e : i = 1024 := by omega
    subst e
    unfold fX67_make_B161
    rw [zitT (by omega)]
  | succ r ih =>
    intro i fuel hi hr hf
    obtain ⟨f, rfl⟩ : ∃ f, fuel = f + 1 := ⟨fuel - 1, by omega⟩
    show fX67_make_B161 k d s n (zlp (fX67_make_B161 k d s n) f) i _ = _
    rw [← ih (i + 1) f (by omega) (by omega) (by omega)]
    generalize zlp (fX67_make_B161 k d s n) f = g
    unfold fX67_make_B161
    rw [zitF (by omega), zi_of (x := 1024 * n) (by omega), zi_of (x := 1024 * n + i) (by omega), zas_in (by omega), zlt_ap, zi_of (by omega)]
    have := zfil_up (M := M) (f := 6816) (x := 0) (lo := 1024 * n) (hi := 1024 * n + i) (g := fun _ => 0) (by omega)
    rw [show 1024 * n + (i + 1) = 1024 * n + i + 1 by omega, ← this]
theorem p_sbT {n a b c : Int} (hn : 0 ≤ n ∧ n < 256) (M : zM) : fX67_setBrackets n a b c M = some (0, zup (zup (zup M 6804 0 (3 * n) a) 6804 0 (3 * n + 1) b) 6804 0 (3 * n + 2) c) := by
  unfold fX67_setBrackets
  simp (disch := omega) only [↓zal_in, ↓zas_in, ↓zib_in, ↓znn_in, ↓zne_in, ↓zgf_ap, ↓zpf_ap, ↓zpb_in, ↓zlt_ap, ↓zret_ap, ↓zrb_in, zitT, zitF, zi_of, zl_of, zrd_hit, zrd_miss, if_true, if_false, not_true_eq_false, not_false_eq_true]
def yMk1 (B : zM) (n d k w l lim len : Int) : zM := zup (zup (zup (zup (zup (zup (zup (zup (zup (zup (zup (zup (zup (zup (zup B 6800 0 n k) 6801 0 n w) 6802 0 n d) 6803 0 n l) 6805 0 n 0) 6806 0 n len) 6807 0 n lim) 6808 0 n 0) 6809 0 n 0) 6812 0 n 0) 6814 0 (2 * n) 0) 6814 0 (2 * n + 1) 0) 6817 0 n 0) 6811 0 0 (B 6811 0 0 + 1)) 6810 0 n (B 6811 0 0 + 1)
def yMk2 (B : zM) (n d k w l lim len : Int) : zM := zup (zup (zup (zfil (yMk1 B n d k w l lim len) 6816 0 (1024 * n) (1024 * n + 1024) (fun _ => 0)) 6804 0 (3 * n) 4) 6804 0 (3 * n + 1) 4) 6804 0 (3 * n + 2) 4
theorem p_makeT {B : zM} {n d k w l s a lim len c : Int} (hn : 0 < n ∧ n < 256) (hfree : fX67_free B = some (n, B)) (hk : 1 ≤ k ∧ k ≤ 3) (hs : 0 ≤ s ∧ s ≤ 1024) (hlim : lim = if k = 1 then s else 0) (hlen : len = if k = 2 then s else 0) (hc : c = zco k s)
    (hcm : 0 ≤ B 6811 0 0 ∧ B 6811 0 0 < 900000) (hacc : fX67_account d (yMk2 B n d k w l lim len) = some (a, yMk2 B n d k w l lim len)) (ha : 0 ≤ a ∧ a < 256 ∧ a ≠ n) (hu : 0 ≤ B 6808 0 a ∧ B 6808 0 a ≤ 255) :
    fX67_make k d w l s B = some (n, zup (yMk2 B n d k w l lim len) 6808 0 a (B 6808 0 a + c)) := by
  have hc2 := p_coT (k := k) (s := s) hs (yMk2 B n d k w l lim len)
  have cr : 0 ≤ c ∧ c ≤ 2000 := by
    rw [hc]; unfold zco zrec
    split <;> (try split) <;> omega
  have u : (yMk2 B n d k w l lim len) 6808 0 a = B 6808 0 a := by
    unfold yMk2 yMk1
    simp (disch := omega) only [zrd_hit, zrd_miss, zfil_miss]
  have fin : fX67_make_J190 k d s n (zfil (yMk1 B n d k w l lim len) 6816 0 (1024 * n) (1024 * n + 1024) (fun _ => 0)) = some (n, zup (yMk2 B n d k w l lim len) 6808 0 a (B 6808 0 a + c)) := by
    unfold fX67_make_J190
    rw [zcl_some (p_sbT (by omega) _)]
    show zcl (fX67_account d) _ (yMk2 B n d k w l lim len) = _
    rw [zcl_some hacc, zal_in (by omega), zcl_some hc2, zas_in (by omega), zret_ap, u, ← hc, zi_of (by omega)]
  have lp := p_mkT_loop (k := k) (d := d) (s := s) (n := n) (by omega) (M := yMk1 B n d k w l lim len) 1024 0 zBIG (by omega) (by omega) (by show 1024 < 1048576; omega)
  rw [show (1024 * n + 0) = 1024 * n by omega, zfil_nil, fin] at lp
  rw [← lp]
  have st : ∀ lim len, fX67_make_J82 k d s n n lim (zup (zup (zup (zup (zup (zup B 6800 0 n k) 6801 0 n w) 6802 0 n d) 6803 0 n l) 6805 0 n 0) 6806 0 n len) = zlp (fX67_make_B161 k d s n) zBIG 0 (yMk1 B n d k w l lim len) := by
    intro lim len
    unfold fX67_make_J82 yMk1
    generalize zlp (fX67_make_B161 k d s n) zBIG = g
    simp (disch := omega) only [↓zal_in, ↓zas_in, ↓zib_in, ↓znn_in, ↓zne_in, ↓zgf_ap, ↓zpf_ap, ↓zpb_in, ↓zlt_ap, ↓zret_ap, ↓zrb_in, zitT, zitF, zi_of, zl_of, zrd_hit, zrd_miss, if_true, if_false, not_true_eq_false, not_false_eq_true]
  unfold fX67_make fX67_make_J64
  rw [zcl_some hfree, hlim, hlen]
  by_cases k2 : k = 2
  · rw [zas_in (by omega), zas_in (by omega), zas_in (by omega), zas_in (by omega), zas_in (by omega), zitF (P := ¬ k = 2) (by omega), zas_in (by omega), zitT (P := ¬ k = 1) (by omega), st, if_neg (by omega), if_pos k2]
  · by_cases k1 : k = 1
    · rw [zas_in (by omega), zas_in (by omega), zas_in (by omega), zas_in (by omega), zas_in (by omega), zitT (P := ¬ k = 2) k2, zas_in (by omega), zitF (P := ¬ k = 1) (by omega), st, if_pos k1, if_neg k2]
    · rw [zas_in (by omega), zas_in (by omega), zas_in (by omega), zas_in (by omega), zas_in (by omega), zitT (P := ¬ k = 2) k2, zas_in (by omega), zitT (P := ¬ k = 1) k1, st, if_neg k1, if_neg k2]
theorem p_mkT_facts {B : zM} {n d k w l a lim len c : Int} (hn : 0 < n ∧ n < 256) (ha : a ≠ n) :
    yMkB B (zup (yMk2 B n d k w l lim len) 6808 0 a (B 6808 0 a + c)) n d k w l lim a c len ∧ (zup (yMk2 B n d k w l lim len) 6808 0 a (B 6808 0 a + c)) 6812 0 n = 0 := by
  have hna : ¬ n = a := fun e => ha e.symm
  refine ⟨⟨?_, ?_, ?_, ?_, ?_, ?_, ?_, ?_, ?_, ?_, ?_, ?_, ?_, ?_, ?_, ?_, ?_, ?_⟩, ?_⟩
  all_goals unfold yMk2 yMk1
  · intro i; by_cases e : i = n <;> simp [zup, zfil, e]
  · intro i; by_cases e : i = n <;> simp [zup, zfil, e]
  · intro i; by_cases e : i = n <;> simp [zup, zfil, e]
  · intro i; by_cases e : i = n <;> simp [zup, zfil, e]
  · intro i
    by_cases e : 3 * n ≤ i ∧ i < 3 * n + 3
    · rw [if_pos e]
      rw [zrd_miss (by omega)]
      by_cases e2 : i = 3 * n + 2
      · rw [zrd_hit (by omega)]
      · by_cases e1 : i = 3 * n + 1
        · rw [zrd_miss (by omega), zrd_hit (by omega)]
        · rw [zrd_miss (by omega), zrd_miss (by omega), zrd_hit (by omega)]
    · rw [if_neg e]
      simp (disch := omega) only [zrd_hit, zrd_miss, zfil_miss]
  · intro i; by_cases e : i = n <;> simp [zup, zfil, e]
  · intro i; by_cases e : i = n <;> simp [zup, zfil, e]
  · intro i; by_cases e : i = n <;> simp [zup, zfil, e]
  · intro i
    by_cases e : i = n
    · simp [zup, zfil, e, hna]
    · by_cases e' : i = a <;> simp [zup, zfil, e, e', ha]
  · intro i; by_cases e : i = n <;> simp [zup, zfil, e]
  · intro i; by_cases e : i = n <;> simp [zup, zfil, e]
  · simp [zup, zfil]
  · intro i e; simp [zup, zfil, e]
  · intro i e; simp [zup, zfil]
  · intro i
    by_cases e : i = 2 * n
    · simp [zup, zfil, e]
    · by_cases e' : i = 2 * n + 1 <;> simp [zup, zfil, e, e']
  · intro i
    by_cases e : 1024 * n ≤ i ∧ i < 1024 * n + 1024
    · rw [if_pos e]
      simp (disch := omega) only [zrd_hit, zrd_miss, zfil_hit]
    · rw [if_neg e]
      simp (disch := omega) only [zrd_hit, zrd_miss, zfil_miss]
  · intro i; by_cases e : i = n <;> simp [zup, zfil, e]
  · intro f hf
    have d1 : ∀ f ∈ [6815, 6818, 6819], ¬ f ∈ [6800, 6801, 6802, 6803, 6804, 6805, 6806, 6807, 6808, 6809, 6810, 6811, 6812, 6814, 6816, 6817] := by decide
    have d1 := d1 f hf
    simp only [List.mem_cons, List.not_mem_nil, or_false, not_or] at d1
    funext x i
    simp (disch := omega) only [zrd_hit, zrd_miss, zfil_miss]
  · simp [zup, zfil]
/-- the own list of the new node may still change -/
theorem yMkB_gf {B B1 B' : zM} {n d k w l lim a c len : Int} (h : yMkB B B1 n d k w l lim a c len) (hf : ∀ f x i, ¬ (x = 0 ∧ ((f = 6813 ∧ 18 * n ≤ i ∧ i < 18 * n + 18) ∨ (f = 6812 ∧ i = n))) → B' f x i = B1 f x i) : yMkB B B' n d k w l lim a c len := by
  refine ⟨?_, ?_, ?_, ?_, ?_, ?_, ?_, ?_, ?_, ?_, ?_, ?_, ?_, ?_, ?_, ?_, ?_, ?_⟩
  · intro i; rw [hf _ _ _ (by omega)]; exact h.c6800 i
  · intro i; rw [hf _ _ _ (by omega)]; exact h.c6801 i
  · intro i; rw [hf _ _ _ (by omega)]; exact h.c6802 i
  · intro i; rw [hf _ _ _ (by omega)]; exact h.c6803 i
  · intro i; rw [hf _ _ _ (by omega)]; exact h.c6804 i
  · intro i; rw [hf _ _ _ (by omega)]; exact h.c6805 i
  · intro i; rw [hf _ _ _ (by omega)]; exact h.c6806 i
  · intro i; rw [hf _ _ _ (by omega)]; exact h.c6807 i
  · intro i; rw [hf _ _ _ (by omega)]; exact h.c6808 i
  · intro i; rw [hf _ _ _ (by omega)]; exact h.c6809 i
  · intro i; rw [hf _ _ _ (by omega)]; exact h.c6810 i
  · rw [hf _ _ _ (by omega)]; exact h.c6811
  · intro i e; rw [hf _ _ _ (by omega)]; exact h.c6812 i e
  · intro i e; rw [hf _ _ _ (by omega)]; exact h.c6813 i e
  · intro i; rw [hf _ _ _ (by omega)]; exact h.c6814 i
  · intro i; rw [hf _ _ _ (by omega)]; exact h.c6816 i
  · intro i; rw [hf _ _ _ (by omega)]; exact h.c6817 i
  · intro f hm
    have d1 : ∀ f ∈ [6815, 6818, 6819], ¬ (f = 6813 ∨ f = 6812) := by decide
    have d1 := d1 f hm
    funext x i
    rw [hf f x i (by omega)]
    exact congrFun (congrFun (h.cco f hm) x) i
