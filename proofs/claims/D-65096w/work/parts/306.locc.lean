set_option linter.unusedVariables false
/-! each side reads and writes its own columns alone -/
abbrev zSc : Nat → Prop := fun c => c < 6800
abbrev zSt_ : Nat → Prop := fun c => 6800 ≤ c
def zAg (S : Nat → Prop) (A B : zM) : Prop := ∀ c, S c → A c = B c
def zLoc (S : Nat → Prop) (X : zX) : Prop := ∀ A B : zM, zAg S A B → (X A = none ∧ X B = none) ∨ ∃ (r : Int) (A' B' : zM), X A = some (r, A') ∧ X B = some (r, B') ∧ zAg S A' B' ∧ (∀ c, ¬ S c → A' c = A c) ∧ (∀ c, ¬ S c → B' c = B c)
section
variable {S : Nat → Prop}
theorem lc_ret (v : Int) : zLoc S (zret v) := fun A B h => Or.inr ⟨v, A, B, rfl, rfl, h, fun _ _ => rfl, fun _ _ => rfl⟩
theorem lc_no : zLoc S zno := fun _ _ _ => Or.inl ⟨rfl, rfl⟩
theorem lc_ite {P : Prop} {hd : Decidable P} {X Y : zX} (h1 : zLoc S X) (h2 : zLoc S Y) : zLoc S (@ite _ P hd X Y) := by
  by_cases h : P
  · rw [if_pos h]; exact h1
  · rw [if_neg h]; exact h2
theorem lc_if {P : Prop} {hd : Decidable P} {X : zX} (h1 : zLoc S X) : zLoc S (fun M => @ite _ P hd (X M) none) := by
  intro A B h
  by_cases q : P
  · simp only [if_pos q]; exact h1 A B h
  · simp only [if_neg q]; exact Or.inl ⟨trivial, trivial⟩
theorem lc_rb (v : Int) : zLoc S (zrb v) := lc_if (lc_ret v)
theorem lc_nn {x : Int} {k : zX} (h : zLoc S k) : zLoc S (znn x k) := lc_if h
theorem lc_ne {x : Int} {k : zX} (h : zLoc S k) : zLoc S (zne x k) := by
  intro A B hh
  show (zne x k A = none ∧ _) ∨ _
  unfold zne
  by_cases q : x = 0
  · simp only [if_pos q]; exact Or.inl ⟨trivial, trivial⟩
  · simp only [if_neg q]; exact h A B hh
theorem lc_lt {x : Int} {k : Int → zX} (h : ∀ v, zLoc S (k v)) : zLoc S (zlt x k) := h x
theorem lc_gf {f : Nat} (hf : S f) {x : Int} {k : Int → zX} (h : ∀ v, zLoc S (k v)) : zLoc S (zgf f x k) := by
  intro A B hh
  have e : B f x 0 = A f x 0 := by rw [hh f hf]
  show (k (A f x 0) A = none ∧ k (B f x 0) B = none) ∨ ∃ r A' B', k (A f x 0) A = _ ∧ k (B f x 0) B = _ ∧ _
  rw [e]
  exact h _ A B hh
theorem zag_up {A B : zM} {f : Nat} {x i v : Int} (h : zAg S A B) : zAg S (zup A f x i v) (zup B f x i v) := by
  intro c hc
  funext x' i'
  simp only [zup, h c hc]
theorem lc_up {f : Nat} (hf : S f) {x i v : Int} {k : zX} (h : zLoc S k) : zLoc S (fun M => k (zup M f x i v)) := by
  intro A B hh
  have off : ∀ (C : zM) (c : Nat), ¬ S c → zup C f x i v c = C c := by
    intro C c hc
    funext x' i'
    simp only [zup]
    rw [if_neg (fun q => hc (by rw [q.1]; exact hf))]
  rcases h _ _ (zag_up (f := f) (x := x) (i := i) (v := v) hh) with q | ⟨r, A', B', e1, e2, e3, e4, e5⟩
  · exact Or.inl q
  · exact Or.inr ⟨r, A', B', e1, e2, e3, fun c hc => (e4 c hc).trans (off A c hc), fun c hc => (e5 c hc).trans (off B c hc)⟩
theorem lc_pf {f : Nat} (hf : S f) {x v : Int} {k : zX} (h : zLoc S k) : zLoc S (zpf f x v k) := lc_up hf h
theorem lc_pb {f : Nat} (hf : S f) {x v : Int} {k : zX} (h : zLoc S k) : zLoc S (zpb f x v k) := lc_if (lc_up hf h)
theorem lc_ib {i n : Int} {k : zX} (h : zLoc S k) : zLoc S (zib i n k) := lc_if h
theorem lc_al {f : Nat} (hf : S f) {x i n : Int} {k : Int → zX} (h : ∀ v, zLoc S (k v)) : zLoc S (zal f x i n k) := by
  refine lc_if (X := fun M => k (M f x i) M) ?_
  intro A B hh
  have e : B f x i = A f x i := by rw [hh f hf]
  show (k (A f x i) A = none ∧ k (B f x i) B = none) ∨ ∃ r A' B', k (A f x i) A = _ ∧ k (B f x i) B = _ ∧ _
  rw [e]
  exact h _ A B hh
theorem lc_as {f : Nat} (hf : S f) {x i n v : Int} {k : zX} (h : zLoc S k) : zLoc S (zas f x i n v k) := lc_if (lc_up hf h)
theorem lc_ct {c : Nat} {i n : Int} {k : Int → zX} (h : ∀ v, zLoc S (k v)) : zLoc S (zct c i n k) := lc_if (h _)
theorem lc_sc {s i : Int} {k : Int → zX} (h : ∀ v, zLoc S (k v)) : zLoc S (zsc s i k) := lc_if (h _)
theorem lc_hd {i : Int} {k : Int → zX} (h : ∀ v, zLoc S (k v)) : zLoc S (zhd i k) := lc_if (h _)
theorem lc_cl {c : zX} (hc : zLoc S c) {k : Int → zX} (h : ∀ v, zLoc S (k v)) : zLoc S (zcl c k) := by
  intro A B hh
  unfold zcl
  rcases hc A B hh with ⟨q1, q2⟩ | ⟨r, A', B', e1, e2, e3, e4, e5⟩
  · rw [q1, q2]; exact Or.inl ⟨rfl, rfl⟩
  · rw [e1, e2]
    rcases h r A' B' e3 with q | ⟨r2, A2, B2, d1, d2, d3, d4, d5⟩
    · exact Or.inl q
    · exact Or.inr ⟨r2, A2, B2, d1, d2, d3, fun c hc => (d4 c hc).trans (e4 c hc), fun c hc => (d5 c hc).trans (e5 c hc)⟩
theorem lc_lp {σ : Type} {B : (σ → zX) → σ → zX} (h : ∀ f : σ → zX, (∀ s, zLoc S (f s)) → ∀ s, zLoc S (B f s)) (n : Nat) (s : σ) : zLoc S (zlp B n s) := by
  induction n generalizing s with
  | zero => exact lc_no
  | succ n ih => exact h _ ih s
end
theorem lc_fX0_isIn (x0 : Int) (x2 : Int) (x4 : Int) : zLoc zSc (fX0_isIn x0 x2 x4) :=
  (lc_ite (lc_ret _) (lc_ite (lc_ret _) (lc_ret _)))
theorem lc_fX1_node (x1 : Int) : zLoc zSc (fX1_node x1) :=
  (lc_cl (lc_fX0_isIn x1 0 255) fun v1 => (lc_ite (lc_ret _) (lc_ib (lc_gf (by decide) fun v4 => (lc_ite (lc_ret _) (lc_ib (lc_ret _)))))))
theorem lc_fX4_isDirectory (x0 : Int) : zLoc zSc (fX4_isDirectory x0) :=
  (lc_gf (by decide) fun v1 => (lc_ite (lc_ret _) (lc_ret _)))
theorem lc_fX1_directory (x1 : Int) : zLoc zSc (fX1_directory x1) :=
  (lc_cl (lc_fX1_node x1) fun v1 => (lc_ite (lc_ret _) (lc_cl (lc_fX4_isDirectory v1) fun v3 => (lc_ite (lc_ret _) (lc_ret _)))))
theorem lc_fX0_isWord (x0 : Int) : zLoc zSc (fX0_isWord x0) :=
  (lc_ite (lc_ret _) (lc_ite (lc_ret _) (lc_ret _)))
theorem lc_fX0_isName_J65 {r23 : Int × Int → zX} (hr23 : ∀ s, zLoc zSc (r23 s)) (x0 : Int) (x3 : Int) (s0 : Int) : zLoc zSc (fX0_isName_J65 r23 x0 x3 s0) :=
  (lc_lt fun v3 => (hr23 (s0, v3)))
theorem lc_fX0_isName_J55 {r23 : Int × Int → zX} (hr23 : ∀ s, zLoc zSc (r23 s)) (x0 : Int) (x3 : Int) (x4 : Int) : zLoc zSc (fX0_isName_J55 r23 x0 x3 x4) :=
  (lc_ite (lc_fX0_isName_J65 hr23 x0 x3 0) (lc_fX0_isName_J65 hr23 x0 x3 1))
theorem lc_fX0_isName_B23 (x0 : Int) : ∀ r23 : Int × Int → zX, (∀ s, zLoc zSc (r23 s)) → ∀ s, zLoc zSc (fX0_isName_B23 x0 r23 s) := by
  intro r23 hr23 s
  obtain ⟨x2, x3⟩ := s
  unfold fX0_isName_B23
  exact (lc_ite (lc_ret _) (lc_lt fun v2 => (lc_ite (lc_ret _) (lc_ite (lc_fX0_isName_J55 hr23 x0 x3 v2) (lc_ite (lc_fX0_isName_J55 hr23 x0 x3 v2) (lc_ret _))))))
theorem lc_fX0_isName (x0 : Int) : zLoc zSc (fX0_isName x0) :=
  (lc_cl (lc_fX0_isWord x0) fun v1 => (lc_ite (lc_ret _) (lc_ite (lc_lp (lc_fX0_isName_B23 x0) zBIG (0, 30)) (lc_ret _))))
theorem lc_fX0_isLabel (x0 : Int) : zLoc zSc (fX0_isLabel x0) :=
  (lc_cl (lc_fX0_isIn x0 0 31) fun v1 => (lc_rb _))
theorem lc_fX0_dominates (x0 : Int) (x1 : Int) : zLoc zSc (fX0_dominates x0 x1) :=
  (lc_ite (lc_ret _) (lc_ite (lc_ret _) (lc_ret _)))
theorem lc_fX0_isRightLimit_J20 (s0 : Int) (s1 : Int) : zLoc zSc (fX0_isRightLimit_J20 s0 s1) :=
  (lc_cl (lc_fX0_isIn s0 s1 255) fun v2 => (lc_ite (lc_ret _) (lc_ret _)))
theorem lc_fX0_isRightLimit (x0 : Int) (x1 : Int) (x2 : Int) : zLoc zSc (fX0_isRightLimit x0 x1 x2) :=
  (lc_cl (lc_fX0_dominates x0 x1) fun v1 => (lc_ite (lc_ret _) (lc_ite (lc_fX0_isRightLimit_J20 x2 1) (lc_fX0_isRightLimit_J20 x2 0))))
theorem lc_fX2_bucket (x0 : Int) (x1 : Int) : zLoc zSc (fX2_bucket x0 x1) :=
  (lc_nn (lc_lt fun v2 => (lc_ret _)))
theorem lc_fX2_find_J36 {r12 : Int → zX} (hr12 : ∀ s, zLoc zSc (r12 s)) (x1 : Int) (x2 : Int) (x4 : Int) : zLoc zSc (fX2_find_J36 r12 x1 x2 x4) :=
  (lc_nn (lc_gf (by decide) fun v6 => (hr12 v6)))
theorem lc_fX2_find_B12 (x1 : Int) (x2 : Int) : ∀ r12 : Int → zX, (∀ s, zLoc zSc (r12 s)) → ∀ s, zLoc zSc (fX2_find_B12 x1 x2 r12 s) := by
  intro r12 hr12 x4
  unfold fX2_find_B12
  exact (lc_ite (lc_ret _) (lc_gf (by decide) fun v4 => (lc_ite (lc_fX2_find_J36 hr12 x1 x2 x4) (lc_gf (by decide) fun v7 => (lc_ite (lc_ret _) (lc_fX2_find_J36 hr12 x1 x2 x4))))))
theorem lc_fX2_find (x1 : Int) (x2 : Int) : zLoc zSc (fX2_find x1 x2) :=
  (lc_cl (lc_fX2_bucket x1 x2) fun v1 => (lc_al (by decide) fun v2 => (lc_lp (lc_fX2_find_B12 x1 x2) zBIG v2)))
theorem lc_fX1_account_B2 : ∀ r2 : Int → zX, (∀ s, zLoc zSc (r2 s)) → ∀ s, zLoc zSc (fX1_account_B2 r2 s) := by
  intro r2 hr2 x2
  unfold fX1_account_B2
  exact (lc_nn (lc_gf (by decide) fun v2 => (lc_ite (lc_ret _) (lc_gf (by decide) fun v3 => (hr2 v3)))))
theorem lc_fX1_account (x1 : Int) : zLoc zSc (fX1_account x1) :=
  (lc_lp lc_fX1_account_B2 zBIG x1)
theorem lc_fX1_bears (x1 : Int) (x2 : Int) : zLoc zSc (fX1_bears x1 x2) :=
  (lc_cl (lc_fX1_account x1) fun v1 => (lc_nn (lc_gf (by decide) fun v3 => (lc_gf (by decide) fun v4 => (lc_ite (lc_ret _) (lc_ret _))))))
theorem lc_fX1_free_J20 (x1 : Int) : zLoc zSc (fX1_free_J20 x1) :=
  (lc_ib (lc_ret _))
theorem lc_fX1_free_B2 : ∀ r2 : Int → zX, (∀ s, zLoc zSc (r2 s)) → ∀ s, zLoc zSc (fX1_free_B2 r2 s) := by
  intro r2 hr2 x1
  unfold fX1_free_B2
  exact (lc_ib (lc_gf (by decide) fun v3 => (lc_ite (lc_fX1_free_J20 x1) (lc_lt fun v6 => (hr2 v6)))))
theorem lc_fX1_free : zLoc zSc (fX1_free) :=
  (lc_lp lc_fX1_free_B2 zBIG 0)
theorem lc_fX5_clear (x0 : Int) : zLoc zSc (fX5_clear x0) :=
  (lc_pf (by decide) (lc_ret _))
theorem lc_fX4_setBrackets (x0 : Int) (x1 : Int) (x2 : Int) (x3 : Int) : zLoc zSc (fX4_setBrackets x0 x1 x2 x3) :=
  (lc_pf (by decide) (lc_pf (by decide) (lc_pf (by decide) (lc_ret _))))
theorem lc_fX4_begin (x0 : Int) (x1 : Int) (x2 : Int) (x4 : Int) : zLoc zSc (fX4_begin x0 x1 x2 x4) :=
  (lc_pf (by decide) (lc_pf (by decide) (lc_pf (by decide) (lc_cl (lc_fX5_clear (3 * x0)) fun _ => (lc_cl (lc_fX5_clear (3 * x0 + 1)) fun _ => (lc_cl (lc_fX5_clear (3 * x0 + 2)) fun _ => (lc_pf (by decide) (lc_cl (lc_fX4_setBrackets x0 4 4 4) fun _ => (lc_pf (by decide) (lc_pf (by decide) (lc_pf (by decide) (lc_pf (by decide) (lc_pf (by decide) (lc_pf (by decide) (lc_pf (by decide) (lc_pf (by decide) (lc_ret _)))))))))))))))))
theorem lc_fX4_initial (x0 : Int) (x1 : Int) : zLoc zSc (fX4_initial x0 x1) :=
  (lc_ite (lc_ret _) (lc_ret _))
theorem lc_fX5_person (x0 : Int) (x1 : Int) : zLoc zSc (fX5_person x0 x1) :=
  (lc_al (by decide) fun v1 => (lc_ret _))
theorem lc_fX5_project (x0 : Int) (x1 : Int) : zLoc zSc (fX5_project x0 x1) :=
  (lc_al (by decide) fun v1 => (lc_ret _))
theorem lc_fX5_key (x0 : Int) (x1 : Int) : zLoc zSc (fX5_key x0 x1) :=
  (lc_ret _)
theorem lc_fX5_find_B9 (x0 : Int) (x3 : Int) : ∀ r9 : Int → zX, (∀ s, zLoc zSc (r9 s)) → ∀ s, zLoc zSc (fX5_find_B9 x0 x3 r9 s) := by
  intro r9 hr9 x4
  unfold fX5_find_B9
  exact (lc_gf (by decide) fun v2 => (lc_ite (lc_ret _) (lc_al (by decide) fun v3 => (lc_ite (lc_lt fun v4 => (hr9 v4)) (lc_ret _)))))
theorem lc_fX5_find (x0 : Int) (x1 : Int) (x2 : Int) : zLoc zSc (fX5_find x0 x1 x2) :=
  (lc_cl (lc_fX5_key x1 x2) fun v1 => (lc_lp (lc_fX5_find_B9 x0 v1) zBIG 0))
theorem lc_fX5_remove_B12 (x0 : Int) : ∀ r12 : Int → zX, (∀ s, zLoc zSc (r12 s)) → ∀ s, zLoc zSc (fX5_remove_B12 x0 r12 s) := by
  intro r12 hr12 x2
  unfold fX5_remove_B12
  exact (lc_gf (by decide) fun v2 => (lc_ite (lc_ret _) (lc_al (by decide) fun v3 => (lc_as (by decide) (lc_al (by decide) fun v4 => (lc_as (by decide) (lc_lt fun v5 => (hr12 v5))))))))
theorem lc_fX5_remove (x0 : Int) (x1 : Int) : zLoc zSc (fX5_remove x0 x1) :=
  (lc_gf (by decide) fun v1 => (lc_pf (by decide) (lc_lp (lc_fX5_remove_B12 x0) zBIG x1)))
theorem lc_fX5_set_J66 (x0 : Int) (x1 : Int) (x2 : Int) (x3 : Int) (x4 : Int) : zLoc zSc (fX5_set_J66 x0 x1 x2 x3 x4) :=
  (lc_cl (lc_fX5_key x1 x2) fun v2 => (lc_as (by decide) (lc_as (by decide) (lc_ret _))))
theorem lc_fX5_set (x0 : Int) (x1 : Int) (x2 : Int) (x3 : Int) : zLoc zSc (fX5_set x0 x1 x2 x3) :=
  (lc_cl (lc_fX5_find x0 x1 x2) fun v1 => (lc_ite (lc_ite (lc_fX5_set_J66 x0 x1 x2 x3 v1) (lc_gf (by decide) fun v3 => (lc_ite (lc_gf (by decide) fun v4 => (lc_gf (by decide) fun v5 => (lc_pf (by decide) (lc_fX5_set_J66 x0 x1 x2 x3 v4)))) (lc_ret _)))) (lc_ite (lc_cl (lc_fX5_remove x0 v1) fun v6 => (lc_ret _)) (lc_ret _))))
theorem lc_fX5_take_J48 {r2 : Int → zX} (hr2 : ∀ s, zLoc zSc (r2 s)) (x0 : Int) (x1 : Int) (x2 : Int) : zLoc zSc (fX5_take_J48 r2 x0 x1 x2) :=
  (lc_lt fun v6 => (hr2 v6))
theorem lc_fX5_take_B2 (x0 : Int) (x1 : Int) : ∀ r2 : Int → zX, (∀ s, zLoc zSc (r2 s)) → ∀ s, zLoc zSc (fX5_take_B2 x0 x1 r2 s) := by
  intro r2 hr2 x2
  unfold fX5_take_B2
  exact (lc_nn (lc_gf (by decide) fun v2 => (lc_ite (lc_ret _) (lc_cl (lc_fX5_person x1 x2) fun v3 => (lc_cl (lc_fX5_project x1 x2) fun v4 => (lc_cl (lc_fX5_find x0 v3 v4) fun v5 => (lc_ite (lc_fX5_take_J48 hr2 x0 x1 x2) (lc_cl (lc_fX5_person x1 x2) fun v7 => (lc_cl (lc_fX5_project x1 x2) fun v8 => (lc_al (by decide) fun v9 => (lc_cl (lc_fX5_set x0 v7 v8 v9) fun v10 => (lc_fX5_take_J48 hr2 x0 x1 x2))))))))))))
theorem lc_fX5_take (x0 : Int) (x1 : Int) : zLoc zSc (fX5_take x0 x1) :=
  (lc_lp (lc_fX5_take_B2 x0 x1) zBIG 0)
theorem lc_fX4_append_J41 (x0 : Int) (x1 : Int) : zLoc zSc (fX4_append_J41 x0 x1) :=
  (lc_pf (by decide) (lc_gf (by decide) fun v5 => (lc_pf (by decide) (lc_ret _))))
theorem lc_fX4_append (x0 : Int) (x1 : Int) : zLoc zSc (fX4_append x0 x1) :=
  (lc_nn (lc_pf (by decide) (lc_gf (by decide) fun v2 => (lc_pf (by decide) (lc_pf (by decide) (lc_gf (by decide) fun v3 => (lc_ite (lc_pf (by decide) (lc_fX4_append_J41 x0 x1)) (lc_gf (by decide) fun v6 => (lc_nn (lc_pf (by decide) (lc_fX4_append_J41 x0 x1)))))))))))
theorem lc_fX2_add (x1 : Int) : zLoc zSc (fX2_add x1) :=
  (lc_nn (lc_gf (by decide) fun v2 => (lc_gf (by decide) fun v3 => (lc_cl (lc_fX2_bucket v2 v3) fun v4 => (lc_al (by decide) fun v5 => (lc_pf (by decide) (lc_as (by decide) (lc_ret _))))))))
theorem lc_fX4_isMailbox (x0 : Int) : zLoc zSc (fX4_isMailbox x0) :=
  (lc_gf (by decide) fun v1 => (lc_ite (lc_ret _) (lc_ret _)))
theorem lc_fX4_isSegment (x0 : Int) : zLoc zSc (fX4_isSegment x0) :=
  (lc_gf (by decide) fun v1 => (lc_ite (lc_ret _) (lc_ret _)))
theorem lc_fX0_records (x0 : Int) : zLoc zSc (fX0_records x0) :=
  (lc_ret _)
theorem lc_fX4_cost_J34 (s0 : Int) (s1 : Int) : zLoc zSc (fX4_cost_J34 s0 s1) :=
  (lc_ret _)
theorem lc_fX4_cost (x0 : Int) : zLoc zSc (fX4_cost x0) :=
  (lc_cl (lc_fX4_isMailbox x0) fun v1 => (lc_ite (lc_cl (lc_fX4_isSegment x0) fun v2 => (lc_ite (lc_gf (by decide) fun v3 => (lc_fX4_cost_J34 1 v3)) (lc_gf (by decide) fun v4 => (lc_cl (lc_fX0_records v4) fun v5 => (lc_fX4_cost_J34 1 v5))))) (lc_ret _)))
theorem lc_fX1_charge (x1 : Int) (x2 : Int) : zLoc zSc (fX1_charge x1 x2) :=
  (lc_cl (lc_fX1_account x1) fun v1 => (lc_nn (lc_gf (by decide) fun v3 => (lc_pf (by decide) (lc_ret _)))))
theorem lc_fX1_make_J73 (x1 : Int) (x7 : Int) : zLoc zSc (fX1_make_J73 x1 x7) :=
  (lc_nn (lc_cl (lc_fX4_append x1 x7) fun _ => (lc_cl (lc_fX2_add x7) fun _ => (lc_nn (lc_cl (lc_fX4_cost x7) fun v11 => (lc_cl (lc_fX1_charge x1 v11) fun _ => (lc_gf (by decide) fun v13 => (lc_pf (by decide) (lc_gf (by decide) fun v14 => (lc_pf (by decide) (lc_ret _)))))))))))
theorem lc_fX1_make (x1 : Int) (x2 : Int) (x3 : Int) (x5 : Int) (x6 : Int) : zLoc zSc (fX1_make x1 x2 x3 x5 x6) :=
  (lc_cl lc_fX1_free fun v1 => (lc_nn (lc_cl (lc_fX4_begin v1 x2 x3 x5) fun _ => (lc_pf (by decide) (lc_nn (lc_cl (lc_fX4_initial x1 x2) fun v5 => (lc_cl (lc_fX5_take (3 * v1) v5) fun _ => (lc_ite (lc_fX1_make_J73 x1 v1) (lc_gf (by decide) fun v15 => (lc_pf (by decide) (lc_gf (by decide) fun v16 => (lc_al (by decide) fun v17 => (lc_pf (by decide) (lc_gf (by decide) fun v18 => (lc_nn (lc_pf (by decide) (lc_fX1_make_J73 x1 v1)))))))))))))))))
theorem lc_fX12_newDirectory (x1 : Int) (x2 : Int) (x4 : Int) (x5 : Int) : zLoc zSc (fX12_newDirectory x1 x2 x4 x5) :=
  (lc_cl (lc_fX2_find x1 x2) fun v1 => (lc_ite (lc_cl (lc_fX1_bears x1 (zi (1 + x5))) fun v3 => (lc_ite (lc_ret _) (lc_cl (lc_fX1_make x1 1 x2 x4 x5) fun v4 => (lc_nn (lc_ret _))))) (lc_ret _)))
theorem lc_fX0_directory (x1 : Int) (x2 : Int) (x4 : Int) (x5 : Int) : zLoc zSc (fX0_directory x1 x2 x4 x5) :=
  (lc_cl (lc_fX1_directory x1) fun v1 => (lc_ite (lc_ret _) (lc_cl (lc_fX0_isName x2) fun v3 => (lc_ite (lc_ret _) (lc_cl (lc_fX0_isLabel x4) fun v4 => (lc_ite (lc_ret _) (lc_gf (by decide) fun v5 => (lc_cl (lc_fX0_isRightLimit x4 v5 x5) fun v6 => (lc_ite (lc_cl (lc_fX12_newDirectory v1 x2 x4 x5) fun v7 => (lc_ret _)) (lc_ret _))))))))))
theorem lc_fX3_clear_B2 (x1 : Int) : ∀ r2 : Int → zX, (∀ s, zLoc zSc (r2 s)) → ∀ s, zLoc zSc (fX3_clear_B2 x1 r2 s) := by
  intro r2 hr2 x3
  unfold fX3_clear_B2
  exact (lc_ite (lc_ret _) (lc_as (by decide) (lc_lt fun v1 => (hr2 v1))))
theorem lc_fX3_clear (x1 : Int) (x2 : Int) : zLoc zSc (fX3_clear x1 x2) :=
  (lc_lp (lc_fX3_clear_B2 x1) zBIG x2)
theorem lc_fX3_take : zLoc zSc (fX3_take) :=
  (lc_gf (by decide) fun v1 => (lc_pf (by decide) (lc_gf (by decide) fun v2 => (lc_al (by decide) fun v3 => (lc_cl (lc_fX3_clear v3 0) fun _ => (lc_ret _))))))
theorem lc_fX3_give (x1 : Int) : zLoc zSc (fX3_give x1) :=
  (lc_gf (by decide) fun v1 => (lc_as (by decide) (lc_gf (by decide) fun v2 => (lc_pf (by decide) (lc_ret _)))))
theorem lc_fX1_resize_J109 (x1 : Int) (x2 : Int) (x3 : Int) (x4 : Int) : zLoc zSc (fX1_resize_J109 x1 x2 x3 x4) :=
  (lc_nn (lc_pf (by decide) (lc_gf (by decide) fun v8 => (lc_cl (lc_fX1_charge v8 (zi (x4 - x3))) fun _ => (lc_ret _)))))
theorem lc_fX1_resize_B82 (x1 : Int) (x2 : Int) (x3 : Int) (x4 : Int) : ∀ r82 : Int → zX, (∀ s, zLoc zSc (r82 s)) → ∀ s, zLoc zSc (fX1_resize_B82 x1 x2 x3 x4 r82 s) := by
  intro r82 hr82 x5
  unfold fX1_resize_B82
  exact (lc_ite (lc_fX1_resize_J109 x1 x2 x3 x4) (lc_nn (lc_cl lc_fX3_take fun v11 => (lc_as (by decide) (lc_lt fun v12 => (hr82 v12))))))
theorem lc_fX1_resize_J79 (x1 : Int) (x2 : Int) (x3 : Int) (x4 : Int) : zLoc zSc (fX1_resize_J79 x1 x2 x3 x4) :=
  (lc_lp (lc_fX1_resize_B82 x1 x2 x3 x4) zBIG x3)
theorem lc_fX1_resize_J44 (x1 : Int) (x2 : Int) (x3 : Int) (x4 : Int) : zLoc zSc (fX1_resize_J44 x1 x2 x3 x4) :=
  (lc_nn (lc_gf (by decide) fun v6 => (lc_ite (lc_fX1_resize_J79 x1 x2 x3 x4) (lc_ite (lc_fX1_resize_J79 x1 x2 x3 x4) (lc_al (by decide) fun v13 => (lc_cl (lc_fX3_clear v13 (Int.tmod x2 64)) fun _ => (lc_fX1_resize_J79 x1 x2 x3 x4)))))))
theorem lc_fX1_resize_B18 (x1 : Int) (x2 : Int) (x3 : Int) (x4 : Int) : ∀ r18 : Int → zX, (∀ s, zLoc zSc (r18 s)) → ∀ s, zLoc zSc (fX1_resize_B18 x1 x2 x3 x4 r18 s) := by
  intro r18 hr18 x5
  unfold fX1_resize_B18
  exact (lc_ite (lc_fX1_resize_J44 x1 x2 x3 x4) (lc_nn (lc_al (by decide) fun v16 => (lc_cl (lc_fX3_give v16) fun _ => (lc_lt fun v18 => (hr18 v18))))))
theorem lc_fX1_resize (x1 : Int) (x2 : Int) : zLoc zSc (fX1_resize x1 x2) :=
  (lc_nn (lc_gf (by decide) fun v2 => (lc_cl (lc_fX0_records v2) fun v3 => (lc_cl (lc_fX0_records x2) fun v4 => (lc_lp (lc_fX1_resize_B18 x1 x2 v3 v4) zBIG v4)))))
theorem lc_fX12_newSegment (x1 : Int) (x2 : Int) (x4 : Int) : zLoc zSc (fX12_newSegment x1 x2 x4) :=
  (lc_cl (lc_fX2_find x1 x2) fun v1 => (lc_ite (lc_cl (lc_fX0_records x4) fun v3 => (lc_cl (lc_fX1_bears x1 (zi (1 + v3))) fun v4 => (lc_ite (lc_nn (lc_gf (by decide) fun v6 => (lc_cl (lc_fX1_make x1 2 x2 v6 0) fun v7 => (lc_cl (lc_fX1_resize v7 x4) fun _ => (lc_nn (lc_ret _)))))) (lc_ret _)))) (lc_ret _)))
theorem lc_fX0_segment (x1 : Int) (x2 : Int) (x4 : Int) : zLoc zSc (fX0_segment x1 x2 x4) :=
  (lc_cl (lc_fX1_directory x1) fun v1 => (lc_ite (lc_ret _) (lc_cl (lc_fX0_isName x2) fun v3 => (lc_ite (lc_ret _) (lc_cl (lc_fX0_isIn x4 0 1024) fun v4 => (lc_ite (lc_cl (lc_fX12_newSegment v1 x2 x4) fun v5 => (lc_ret _)) (lc_ret _)))))))
theorem lc_fX12_newMailbox (x1 : Int) (x2 : Int) : zLoc zSc (fX12_newMailbox x1 x2) :=
  (lc_cl (lc_fX2_find x1 x2) fun v1 => (lc_ite (lc_cl (lc_fX1_bears x1 17) fun v3 => (lc_ite (lc_ret _) (lc_nn (lc_gf (by decide) fun v5 => (lc_cl (lc_fX1_make x1 3 x2 v5 0) fun v6 => (lc_nn (lc_ret _))))))) (lc_ret _)))
theorem lc_fX0_mailbox (x1 : Int) (x2 : Int) : zLoc zSc (fX0_mailbox x1 x2) :=
  (lc_cl (lc_fX1_directory x1) fun v1 => (lc_ite (lc_ret _) (lc_cl (lc_fX0_isName x2) fun v3 => (lc_ite (lc_cl (lc_fX12_newMailbox v1 x2) fun v4 => (lc_ret _)) (lc_ret _)))))
theorem lc_fX0_initial (x1 : Int) (x2 : Int) (x3 : Int) (x4 : Int) (x5 : Int) : zLoc zSc (fX0_initial x1 x2 x3 x4 x5) :=
  (lc_cl (lc_fX1_directory x1) fun v1 => (lc_ite (lc_ret _) (lc_cl (lc_fX0_isIn x2 1 2) fun v3 => (lc_ite (lc_ret _) (lc_cl (lc_fX0_isIn x3 0 16) fun v4 => (lc_ite (lc_ret _) (lc_cl (lc_fX0_isIn x4 0 8) fun v5 => (lc_ite (lc_ret _) (lc_cl (lc_fX0_isIn x5 0 8) fun v6 => (lc_ite (lc_cl (lc_fX4_initial v1 x2) fun v7 => (lc_nn (lc_cl (lc_fX5_set v7 x3 x4 x5) fun v9 => (lc_ite (lc_cl (lc_fX4_initial v1 x2) fun v10 => (lc_nn (lc_gf (by decide) fun v12 => (lc_ret _)))) (lc_ret _))))) (lc_ret _)))))))))))
theorem lc_fX0_item (x1 : Int) (x2 : Int) (x3 : Int) (x4 : Int) : zLoc zSc (fX0_item x1 x2 x3 x4) :=
  (lc_cl (lc_fX1_node x1) fun v1 => (lc_ite (lc_ret _) (lc_cl (lc_fX0_isIn x2 0 16) fun v3 => (lc_ite (lc_ret _) (lc_cl (lc_fX0_isIn x3 0 8) fun v4 => (lc_ite (lc_ret _) (lc_cl (lc_fX0_isIn x4 0 8) fun v5 => (lc_ite (lc_cl (lc_fX5_set (3 * v1) x2 x3 x4) fun v6 => (lc_gf (by decide) fun v7 => (lc_pf (by decide) (lc_ite (lc_gf (by decide) fun v8 => (lc_ret _)) (lc_ret _))))) (lc_ret _)))))))))
theorem lc_fX0_areBrackets (x0 : Int) (x1 : Int) (x2 : Int) : zLoc zSc (fX0_areBrackets x0 x1 x2) :=
  (lc_ite (lc_ret _) (lc_ite (lc_ret _) (lc_ite (lc_ret _) (lc_ite (lc_ret _) (lc_ret _)))))
theorem lc_fX0_brackets_J44 (x2 : Int) (x3 : Int) (x4 : Int) (x5 : Int) (x6 : Int) (s0 : Int) (s1 : Int) (s2 : Int) : zLoc zSc (fX0_brackets_J44 x2 x3 x4 x5 x6 s0 s1 s2) :=
  (lc_cl (lc_fX0_isIn s0 s1 s2) fun v5 => (lc_ite (lc_nn (lc_cl (lc_fX4_setBrackets x6 x2 x3 x4) fun _ => (lc_pf (by decide) (lc_ret _)))) (lc_ret _)))
theorem lc_fX0_brackets (x1 : Int) (x2 : Int) (x3 : Int) (x4 : Int) (x5 : Int) : zLoc zSc (fX0_brackets x1 x2 x3 x4 x5) :=
  (lc_cl (lc_fX1_node x1) fun v1 => (lc_ite (lc_ret _) (lc_cl (lc_fX0_areBrackets x2 x3 x4) fun v3 => (lc_ite (lc_ret _) (lc_cl (lc_fX4_isSegment v1) fun v4 => (lc_ite (lc_fX0_brackets_J44 x2 x3 x4 x5 v1 x5 0 0) (lc_fX0_brackets_J44 x2 x3 x4 x5 v1 x5 0 63)))))))
theorem lc_fX1_segment (x1 : Int) : zLoc zSc (fX1_segment x1) :=
  (lc_cl (lc_fX1_node x1) fun v1 => (lc_ite (lc_ret _) (lc_cl (lc_fX4_isSegment v1) fun v3 => (lc_ite (lc_ret _) (lc_ret _)))))
theorem lc_fX12_newLength (x1 : Int) (x2 : Int) : zLoc zSc (fX12_newLength x1 x2) :=
  (lc_nn (lc_gf (by decide) fun v2 => (lc_cl (lc_fX0_records x2) fun v3 => (lc_gf (by decide) fun v4 => (lc_cl (lc_fX0_records v4) fun v5 => (lc_cl (lc_fX1_bears v2 (zi (v3 - v5))) fun v6 => (lc_ite (lc_cl (lc_fX1_resize x1 x2) fun _ => (lc_ret _)) (lc_ret _))))))))
theorem lc_fX0_length (x1 : Int) (x2 : Int) : zLoc zSc (fX0_length x1 x2) :=
  (lc_cl (lc_fX1_segment x1) fun v1 => (lc_ite (lc_ret _) (lc_cl (lc_fX0_isIn x2 0 1024) fun v3 => (lc_ite (lc_gf (by decide) fun v4 => (lc_cl (lc_fX12_newLength v1 x2) fun v5 => (lc_ite (lc_ret _) (lc_ret _)))) (lc_ret _)))))
theorem lc_fX1_limit (x1 : Int) (x2 : Int) : zLoc zSc (fX1_limit x1 x2) :=
  (lc_nn (lc_gf (by decide) fun v2 => (lc_ite (lc_ret _) (lc_gf (by decide) fun v3 => (lc_gf (by decide) fun v4 => (lc_cl (lc_fX1_bears v3 (zi (x2 - v4))) fun v5 => (lc_ite (lc_gf (by decide) fun v6 => (lc_gf (by decide) fun v7 => (lc_cl (lc_fX1_charge v6 (zi (x2 - v7))) fun _ => (lc_pf (by decide) (lc_ret _))))) (lc_ret _))))))))
theorem lc_fX0_limit (x1 : Int) (x2 : Int) : zLoc zSc (fX0_limit x1 x2) :=
  (lc_cl (lc_fX1_directory x1) fun v1 => (lc_ite (lc_ret _) (lc_ite (lc_ret _) (lc_gf (by decide) fun v3 => (lc_ite (lc_ret _) (lc_cl (lc_fX0_isIn x2 1 255) fun v4 => (lc_ite (lc_gf (by decide) fun v5 => (lc_cl (lc_fX1_limit v1 x2) fun v6 => (lc_ite (lc_ret _) (lc_ret _)))) (lc_ret _))))))))
theorem lc_fX2_remove_J56 (x1 : Int) (x3 : Int) : zLoc zSc (fX2_remove_J56 x1 x3) :=
  (lc_nn (lc_gf (by decide) fun v10 => (lc_nn (lc_pf (by decide) (lc_ret _)))))
theorem lc_fX2_remove_B40 (x1 : Int) : ∀ r40 : Int → zX, (∀ s, zLoc zSc (r40 s)) → ∀ s, zLoc zSc (fX2_remove_B40 x1 r40 s) := by
  intro r40 hr40 x3
  unfold fX2_remove_B40
  exact (lc_nn (lc_gf (by decide) fun v8 => (lc_ite (lc_fX2_remove_J56 x1 x3) (lc_gf (by decide) fun v12 => (hr40 v12)))))
theorem lc_fX2_remove (x1 : Int) : zLoc zSc (fX2_remove x1) :=
  (lc_nn (lc_gf (by decide) fun v2 => (lc_gf (by decide) fun v3 => (lc_cl (lc_fX2_bucket v2 v3) fun v4 => (lc_al (by decide) fun v5 => (lc_ite (lc_al (by decide) fun v6 => (lc_lp (lc_fX2_remove_B40 x1) zBIG v6)) (lc_gf (by decide) fun v13 => (lc_as (by decide) (lc_ret _)))))))))
theorem lc_fX1_rename (x1 : Int) (x2 : Int) : zLoc zSc (fX1_rename x1 x2) :=
  (lc_cl (lc_fX2_remove x1) fun _ => (lc_nn (lc_pf (by decide) (lc_cl (lc_fX2_add x1) fun _ => (lc_ret _)))))
theorem lc_fX0_rename_J70 (x2 : Int) (x4 : Int) : zLoc zSc (fX0_rename_J70 x2 x4) :=
  (lc_cl (lc_fX1_rename x4 x2) fun _ => (lc_ret _))
theorem lc_fX0_rename (x1 : Int) (x2 : Int) : zLoc zSc (fX0_rename x1 x2) :=
  (lc_cl (lc_fX1_node x1) fun v1 => (lc_ite (lc_ret _) (lc_ite (lc_ret _) (lc_cl (lc_fX0_isName x2) fun v3 => (lc_ite (lc_gf (by decide) fun v4 => (lc_cl (lc_fX2_find v4 x2) fun v5 => (lc_ite (lc_fX0_rename_J70 x2 v1) (lc_ite (lc_fX0_rename_J70 x2 v1) (lc_ret _))))) (lc_ret _))))))
theorem lc_fX4_detach_J58 (x0 : Int) : zLoc zSc (fX4_detach_J58 x0) :=
  (lc_gf (by decide) fun v9 => (lc_pf (by decide) (lc_ret _)))
theorem lc_fX4_detach_J29 (x0 : Int) (x1 : Int) : zLoc zSc (fX4_detach_J29 x0 x1) :=
  (lc_nn (lc_gf (by decide) fun v6 => (lc_ite (lc_gf (by decide) fun v8 => (lc_pf (by decide) (lc_fX4_detach_J58 x0))) (lc_gf (by decide) fun v10 => (lc_gf (by decide) fun v11 => (lc_nn (lc_pf (by decide) (lc_fX4_detach_J58 x0))))))))
theorem lc_fX4_detach (x0 : Int) (x1 : Int) : zLoc zSc (fX4_detach x0 x1) :=
  (lc_nn (lc_gf (by decide) fun v2 => (lc_ite (lc_gf (by decide) fun v4 => (lc_pf (by decide) (lc_fX4_detach_J29 x0 x1))) (lc_gf (by decide) fun v13 => (lc_gf (by decide) fun v14 => (lc_nn (lc_pf (by decide) (lc_fX4_detach_J29 x0 x1))))))))
theorem lc_fX8_unbind_B2 (x0 : Int) (x1 : Int) : ∀ r2 : Int → zX, (∀ s, zLoc zSc (r2 s)) → ∀ s, zLoc zSc (fX8_unbind_B2 x0 x1 r2 s) := by
  intro r2 hr2 x2
  unfold fX8_unbind_B2
  exact (lc_ite (lc_ret _) (lc_as (by decide) (lc_lt fun v1 => (hr2 v1))))
theorem lc_fX8_unbind (x0 : Int) (x1 : Int) : zLoc zSc (fX8_unbind x0 x1) :=
  (lc_lp (lc_fX8_unbind_B2 x0 x1) zBIG 0)
theorem lc_fX8_forget_J48 {r14 : Int → zX} (hr14 : ∀ s, zLoc zSc (r14 s)) (x0 : Int) (x1 : Int) (x2 : Int) (s0 : Int) (s1 : Int) (s2 : Int) : zLoc zSc (fX8_forget_J48 r14 x0 x1 x2 s0 s1 s2) :=
  (lc_as (by decide) (lc_lt fun v4 => (hr14 v4)))
theorem lc_fX8_forget_B14 (x0 : Int) (x1 : Int) : ∀ r14 : Int → zX, (∀ s, zLoc zSc (r14 s)) → ∀ s, zLoc zSc (fX8_forget_B14 x0 x1 r14 s) := by
  intro r14 hr14 x2
  unfold fX8_forget_B14
  exact (lc_ite (lc_ret _) (lc_al (by decide) fun v2 => (lc_ite (lc_al (by decide) fun v3 => (lc_fX8_forget_J48 hr14 x0 x1 x2 x0 x2 v3)) (lc_fX8_forget_J48 hr14 x0 x1 x2 x0 x2 (-1)))))
theorem lc_fX8_forget (x0 : Int) (x1 : Int) : zLoc zSc (fX8_forget x0 x1) :=
  (lc_as (by decide) (lc_cl (lc_fX8_unbind x0 x1) fun _ => (lc_lp (lc_fX8_forget_B14 x0 x1) zBIG 0)))
theorem lc_fX8_loose_J96 {r66 : Int → zX} (hr66 : ∀ s, zLoc zSc (r66 s)) (x0 : Int) (x1 : Int) (x2 : Int) (s0 : Int) (s1 : Int) (s2 : Int) : zLoc zSc (fX8_loose_J96 r66 x0 x1 x2 s0 s1 s2) :=
  (lc_as (by decide) (lc_lt fun v7 => (hr66 v7)))
theorem lc_fX8_loose_B66 (x0 : Int) (x1 : Int) : ∀ r66 : Int → zX, (∀ s, zLoc zSc (r66 s)) → ∀ s, zLoc zSc (fX8_loose_B66 x0 x1 r66 s) := by
  intro r66 hr66 x2
  unfold fX8_loose_B66
  exact (lc_ite (lc_ret _) (lc_al (by decide) fun v5 => (lc_ite (lc_al (by decide) fun v6 => (lc_fX8_loose_J96 hr66 x0 x1 x2 x0 x2 v6)) (lc_fX8_loose_J96 hr66 x0 x1 x2 x0 x2 (-1)))))
theorem lc_fX8_loose_J61 (x0 : Int) (x1 : Int) (s0 : Int) (s1 : Int) : zLoc zSc (fX8_loose_J61 x0 x1 s0 s1) :=
  (lc_nn (lc_pf (by decide) (lc_lp (lc_fX8_loose_B66 x0 x1) zBIG 0)))
theorem lc_fX8_loose_J38 (x0 : Int) (x1 : Int) : zLoc zSc (fX8_loose_J38 x0 x1) :=
  (lc_gf (by decide) fun v2 => (lc_ite (lc_gf (by decide) fun v3 => (lc_fX8_loose_J61 x0 x1 x0 v3)) (lc_fX8_loose_J61 x0 x1 x0 0)))
theorem lc_fX8_loose_J32 {r11 : Int → zX} (hr11 : ∀ s, zLoc zSc (r11 s)) (x0 : Int) (x1 : Int) (x2 : Int) : zLoc zSc (fX8_loose_J32 r11 x0 x1 x2) :=
  (lc_lt fun v9 => (hr11 v9))
theorem lc_fX8_loose_B11 (x0 : Int) (x1 : Int) : ∀ r11 : Int → zX, (∀ s, zLoc zSc (r11 s)) → ∀ s, zLoc zSc (fX8_loose_B11 x0 x1 r11 s) := by
  intro r11 hr11 x2
  unfold fX8_loose_B11
  exact (lc_ite (lc_fX8_loose_J38 x0 x1) (lc_al (by decide) fun v8 => (lc_ite (lc_fX8_loose_J32 hr11 x0 x1 x2) (lc_cl (lc_fX8_forget x0 x2) fun _ => (lc_fX8_loose_J32 hr11 x0 x1 x2)))))
theorem lc_fX8_loose (x0 : Int) (x1 : Int) : zLoc zSc (fX8_loose x0 x1) :=
  (lc_gf (by decide) fun v1 => (lc_ite (lc_lp (lc_fX8_loose_B11 x0 x1) zBIG 8) (lc_ret _)))
theorem lc_fX1_remove_B139 {sf : Int → zX} (hsf : ∀ (a0 : Int), zLoc zSc (sf a0)) (x1 : Int) (x2 : Int) (x4 : Int) : ∀ r139 : Int → zX, (∀ s, zLoc zSc (r139 s)) → ∀ s, zLoc zSc (fX1_remove_B139 sf x1 x2 x4 r139 s) := by
  intro r139 hr139 x5
  unfold fX1_remove_B139
  exact (lc_ite (lc_ret _) (lc_ib (lc_cl (lc_fX8_loose x5 x1) fun _ => (lc_lt fun v20 => (hr139 v20)))))
theorem lc_fX1_remove_J73 {sf : Int → zX} (hsf : ∀ (a0 : Int), zLoc zSc (sf a0)) (x1 : Int) (x2 : Int) : zLoc zSc (fX1_remove_J73 sf x1 x2) :=
  (lc_nn (lc_gf (by decide) fun v8 => (lc_cl (lc_fX4_cost x1) fun v9 => (lc_cl (lc_fX1_charge v8 (zi (- v9))) fun _ => (lc_cl (lc_fX2_remove x1) fun _ => (lc_gf (by decide) fun v12 => (lc_nn (lc_cl (lc_fX4_detach v12 x1) fun _ => (lc_pf (by decide) (lc_gf (by decide) fun v15 => (lc_pf (by decide) (lc_gf (by decide) fun v16 => (lc_pf (by decide) (lc_lp (lc_fX1_remove_B139 hsf x1 x2 8) zBIG 0))))))))))))))
theorem lc_fX1_remove_J43 {sf : Int → zX} (hsf : ∀ (a0 : Int), zLoc zSc (sf a0)) (x1 : Int) (x2 : Int) : zLoc zSc (fX1_remove_J43 sf x1 x2) :=
  (lc_nn (lc_cl (lc_fX4_isMailbox x1) fun v6 => (lc_ite (lc_fX1_remove_J73 hsf x1 x2) (lc_gf (by decide) fun v21 => (lc_gf (by decide) fun v22 => (lc_as (by decide) (lc_gf (by decide) fun v23 => (lc_pf (by decide) (lc_fX1_remove_J73 hsf x1 x2)))))))))
theorem lc_fX1_remove_J30 {sf : Int → zX} (hsf : ∀ (a0 : Int), zLoc zSc (sf a0)) (x1 : Int) (x2 : Int) : zLoc zSc (fX1_remove_J30 sf x1 x2) :=
  (lc_nn (lc_cl (lc_fX4_isSegment x1) fun v4 => (lc_ite (lc_fX1_remove_J43 hsf x1 x2) (lc_cl (lc_fX1_resize x1 0) fun _ => (lc_fX1_remove_J43 hsf x1 x2)))))
theorem lc_fX1_remove_B2 {sf : Int → zX} (hsf : ∀ (a0 : Int), zLoc zSc (sf a0)) (x1 : Int) : ∀ r2 : Int → zX, (∀ s, zLoc zSc (r2 s)) → ∀ s, zLoc zSc (fX1_remove_B2 sf x1 r2 s) := by
  intro r2 hr2 x2
  unfold fX1_remove_B2
  exact (lc_nn (lc_cl (lc_fX4_isDirectory x1) fun v2 => (lc_ite (lc_fX1_remove_J30 hsf x1 x2) (lc_gf (by decide) fun v25 => (lc_ite (lc_fX1_remove_J30 hsf x1 x2) (lc_gf (by decide) fun v27 => (lc_cl (hsf v27) fun v28 => (lc_lt fun v29 => (hr2 v29)))))))))
theorem lc_fX1_remove_E {sf : Int → zX} (hsf : ∀ (a0 : Int), zLoc zSc (sf a0)) (x1 : Int) : zLoc zSc (fX1_remove_E sf x1) :=
  (lc_lp (lc_fX1_remove_B2 hsf x1) zBIG 1)
theorem lc_fX1_remove : ∀ (n : Nat) (a0 : Int), zLoc zSc (fX1_remove n a0) := by
  intro n
  induction n with
  | zero => intro a0; exact lc_no
  | succ n ih => intro a0; exact lc_fX1_remove_E ih a0
theorem lc_fX0_remove (x1 : Int) : zLoc zSc (fX0_remove x1) :=
  (lc_cl (lc_fX1_node x1) fun v1 => (lc_ite (lc_ret _) (lc_ite (lc_cl (lc_fX1_remove 300 v1) fun v3 => (lc_ret _)) (lc_ret _))))
theorem lc_fX0_find (x1 : Int) (x2 : Int) : zLoc zSc (fX0_find x1 x2) :=
  (lc_cl (lc_fX1_directory x1) fun v1 => (lc_ite (lc_ret _) (lc_cl (lc_fX2_find v1 x2) fun v3 => (lc_ite (lc_ret _) (lc_ret _)))))
theorem lc_fX0_about (x1 : Int) (x2 : Int) : zLoc zSc (fX0_about x1 x2) :=
  (lc_cl (lc_fX1_node x1) fun v1 => (lc_ite (lc_ret _) (lc_ite (lc_gf (by decide) fun v4 => (lc_ret _)) (lc_ite (lc_gf (by decide) fun v6 => (lc_ite (lc_ret _) (lc_gf (by decide) fun v8 => (lc_nn (lc_ret _))))) (lc_ite (lc_gf (by decide) fun v11 => (lc_ret _)) (lc_ite (lc_gf (by decide) fun v13 => (lc_ret _)) (lc_ite (lc_gf (by decide) fun v15 => (lc_ret _)) (lc_ite (lc_gf (by decide) fun v17 => (lc_ret _)) (lc_ite (lc_gf (by decide) fun v19 => (lc_ret _)) (lc_ite (lc_gf (by decide) fun v21 => (lc_ret _)) (lc_ite (lc_gf (by decide) fun v23 => (lc_ret _)) (lc_ite (lc_gf (by decide) fun v25 => (lc_ret _)) (lc_ite (lc_gf (by decide) fun v27 => (lc_ret _)) (lc_ite (lc_gf (by decide) fun v29 => (lc_ret _)) (lc_ite (lc_gf (by decide) fun v31 => (lc_ret _)) (lc_ite (lc_gf (by decide) fun v33 => (lc_ret _)) (lc_ite (lc_cl (lc_fX4_isMailbox v1) fun v35 => (lc_ite (lc_ret _) (lc_gf (by decide) fun v36 => (lc_nn (lc_gf (by decide) fun v38 => (lc_ret _)))))) (lc_ite (lc_gf (by decide) fun v40 => (lc_ret _)) (lc_ite (lc_gf (by decide) fun v42 => (lc_ret _)) (lc_ret _))))))))))))))))))))
theorem lc_fX5_of_J55 (x0 : Int) (s0 : Int) : zLoc zSc (fX5_of_J55 x0 s0) :=
  (lc_ite (lc_al (by decide) fun v2 => (lc_ret _)) (lc_ret _))
theorem lc_fX5_of_J38 (x0 : Int) (s0 : Int) : zLoc zSc (fX5_of_J38 x0 s0) :=
  (lc_ite (lc_fX5_of_J55 x0 s0) (lc_cl (lc_fX5_find x0 16 8) fun v3 => (lc_fX5_of_J55 x0 v3)))
theorem lc_fX5_of_J22 (x0 : Int) (x2 : Int) (s0 : Int) : zLoc zSc (fX5_of_J22 x0 x2 s0) :=
  (lc_ite (lc_fX5_of_J38 x0 s0) (lc_cl (lc_fX5_find x0 16 x2) fun v4 => (lc_fX5_of_J38 x0 v4)))
theorem lc_fX5_of (x0 : Int) (x1 : Int) (x2 : Int) : zLoc zSc (fX5_of x0 x1 x2) :=
  (lc_cl (lc_fX5_find x0 x1 x2) fun v1 => (lc_ite (lc_fX5_of_J22 x0 x2 v1) (lc_cl (lc_fX5_find x0 x1 8) fun v5 => (lc_fX5_of_J22 x0 x2 v5))))
theorem lc_fX0_modes (x1 : Int) (x2 : Int) (x3 : Int) : zLoc zSc (fX0_modes x1 x2 x3) :=
  (lc_cl (lc_fX1_node x1) fun v1 => (lc_ite (lc_ret _) (lc_cl (lc_fX0_isIn x2 0 15) fun v3 => (lc_ite (lc_ret _) (lc_cl (lc_fX0_isIn x3 0 7) fun v4 => (lc_ite (lc_cl (lc_fX5_of (3 * v1) x2 x3) fun v5 => (lc_ret _)) (lc_ret _)))))))
theorem lc_fX0_hasPlace (x1 : Int) (x2 : Int) : zLoc zSc (fX0_hasPlace x1 x2) :=
  (lc_ite (lc_ret _) (lc_gf (by decide) fun v2 => (lc_cl (lc_fX0_isIn x2 0 (zl (v2 - 1))) fun v3 => (lc_ite (lc_ret _) (lc_ret _)))))
theorem lc_fX3_get (x1 : Int) (x2 : Int) : zLoc zSc (fX3_get x1 x2) :=
  (lc_al (by decide) fun v1 => (lc_ret _))
theorem lc_fX1_get (x1 : Int) (x2 : Int) : zLoc zSc (fX1_get x1 x2) :=
  (lc_nn (lc_al (by decide) fun v2 => (lc_cl (lc_fX3_get v2 (Int.tmod x2 64)) fun v3 => (lc_ret _))))
theorem lc_fX0_word (x1 : Int) (x2 : Int) : zLoc zSc (fX0_word x1 x2) :=
  (lc_cl (lc_fX1_segment x1) fun v1 => (lc_cl (lc_fX0_hasPlace v1 x2) fun v2 => (lc_ite (lc_ret _) (lc_cl (lc_fX1_get v1 x2) fun v3 => (lc_ret _)))))
theorem lc_fX3_put (x1 : Int) (x2 : Int) (x3 : Int) : zLoc zSc (fX3_put x1 x2 x3) :=
  (lc_as (by decide) (lc_ret _))
theorem lc_fX1_put (x1 : Int) (x2 : Int) (x3 : Int) : zLoc zSc (fX1_put x1 x2 x3) :=
  (lc_nn (lc_al (by decide) fun v2 => (lc_cl (lc_fX3_put v2 (Int.tmod x2 64) x3) fun _ => (lc_ret _))))
theorem lc_fX0_put (x1 : Int) (x2 : Int) (x3 : Int) : zLoc zSc (fX0_put x1 x2 x3) :=
  (lc_cl (lc_fX1_segment x1) fun v1 => (lc_cl (lc_fX0_hasPlace v1 x2) fun v2 => (lc_ite (lc_cl (lc_fX0_isWord x3) fun v3 => (lc_ite (lc_cl (lc_fX1_get v1 x2) fun v4 => (lc_cl (lc_fX1_put v1 x2 x3) fun _ => (lc_ret _))) (lc_ret _))) (lc_ret _))))
theorem lc_fX1_mailbox (x1 : Int) : zLoc zSc (fX1_mailbox x1) :=
  (lc_cl (lc_fX1_node x1) fun v1 => (lc_ite (lc_ret _) (lc_cl (lc_fX4_isMailbox v1) fun v3 => (lc_ite (lc_ret _) (lc_ret _)))))
theorem lc_fX0_letter (x1 : Int) (x2 : Int) (x3 : Int) : zLoc zSc (fX0_letter x1 x2 x3) :=
  (lc_cl (lc_fX1_mailbox x1) fun v1 => (lc_ite (lc_ret _) (lc_gf (by decide) fun v3 => (lc_nn (lc_gf (by decide) fun v5 => (lc_cl (lc_fX0_isIn x2 0 (zl (v5 - 1))) fun v6 => (lc_ite (lc_ite (lc_ite (lc_ret _) (lc_gf (by decide) fun v7 => (lc_nn (lc_al (by decide) fun v9 => (lc_ret _))))) (lc_gf (by decide) fun v10 => (lc_nn (lc_al (by decide) fun v12 => (lc_ret _))))) (lc_ret _))))))))
theorem lc_fX13_has (x1 : Int) : zLoc zSc (fX13_has x1) :=
  (lc_ite (lc_ret _) (lc_gf (by decide) fun v1 => (lc_ite (lc_ret _) (lc_gf (by decide) fun v2 => (lc_ite (lc_ret _) (lc_ret _))))))
theorem lc_fX0_audit (x1 : Int) (x2 : Int) : zLoc zSc (fX0_audit x1 x2) :=
  (lc_cl (lc_fX13_has x1) fun v1 => (lc_ite (lc_cl (lc_fX0_isIn x2 0 3) fun v2 => (lc_ite (lc_ret _) (lc_al (by decide) fun v3 => (lc_ret _)))) (lc_ret _)))
theorem lc_fX0_isHalf (x0 : Int) : zLoc zSc (fX0_isHalf x0) :=
  (lc_ite (lc_ret _) (lc_ite (lc_ret _) (lc_ret _)))
theorem lc_fX9_go (x0 : Int) (x1 : Int) (x2 : Int) (x3 : Int) : zLoc zSc (fX9_go x0 x1 x2 x3) :=
  (lc_pf (by decide) (lc_pf (by decide) (lc_pf (by decide) (lc_ret _))))
theorem lc_fX9_point (x0 : Int) (x1 : Int) (x2 : Int) (x3 : Int) (x4 : Int) : zLoc zSc (fX9_point x0 x1 x2 x3 x4) :=
  (lc_as (by decide) (lc_as (by decide) (lc_as (by decide) (lc_ret _))))
theorem lc_fX9_clear_J52 (x0 : Int) : zLoc zSc (fX9_clear_J52 x0) :=
  (lc_cl (lc_fX9_go x0 0 0 0) fun _ => (lc_pf (by decide) (lc_pf (by decide) (lc_ret _))))
theorem lc_fX9_clear_B32 (x0 : Int) : ∀ r32 : Int → zX, (∀ s, zLoc zSc (r32 s)) → ∀ s, zLoc zSc (fX9_clear_B32 x0 r32 s) := by
  intro r32 hr32 x1
  unfold fX9_clear_B32
  exact (lc_ite (lc_fX9_clear_J52 x0) (lc_cl (lc_fX9_point x0 x1 0 0 0) fun _ => (lc_lt fun v3 => (hr32 v3))))
theorem lc_fX9_clear_J30 (x0 : Int) : zLoc zSc (fX9_clear_J30 x0) :=
  (lc_lp (lc_fX9_clear_B32 x0) zBIG 0)
theorem lc_fX9_clear_B12 (x0 : Int) : ∀ r12 : Int → zX, (∀ s, zLoc zSc (r12 s)) → ∀ s, zLoc zSc (fX9_clear_B12 x0 r12 s) := by
  intro r12 hr12 x1
  unfold fX9_clear_B12
  exact (lc_ite (lc_fX9_clear_J30 x0) (lc_as (by decide) (lc_lt fun v4 => (hr12 v4))))
theorem lc_fX9_clear (x0 : Int) : zLoc zSc (fX9_clear x0) :=
  (lc_pf (by decide) (lc_pf (by decide) (lc_lp (lc_fX9_clear_B12 x0) zBIG 0)))
theorem lc_fX8_know (x0 : Int) (x1 : Int) (x2 : Int) : zLoc zSc (fX8_know x0 x1 x2) :=
  (lc_as (by decide) (lc_ib (lc_pf (by decide) (lc_ret _))))
theorem lc_fX10_clear (x0 : Int) : zLoc zSc (fX10_clear x0) :=
  (lc_pf (by decide) (lc_pf (by decide) (lc_ret _)))
theorem lc_fX8_begin_J159 (x0 : Int) : zLoc zSc (fX8_begin_J159 x0) :=
  (lc_pf (by decide) (lc_pf (by decide) (lc_cl (lc_fX10_clear x0) fun _ => (lc_ret _))))
theorem lc_fX8_begin_B139 (x0 : Int) : ∀ r139 : Int → zX, (∀ s, zLoc zSc (r139 s)) → ∀ s, zLoc zSc (fX8_begin_B139 x0 r139 s) := by
  intro r139 hr139 x7
  unfold fX8_begin_B139
  exact (lc_ite (lc_fX8_begin_J159 x0) (lc_as (by decide) (lc_lt fun v5 => (hr139 v5))))
theorem lc_fX8_begin_J117 (x0 : Int) (x4 : Int) : zLoc zSc (fX8_begin_J117 x0 x4) :=
  (lc_cl (lc_fX8_know x0 8 x4) fun _ => (lc_pf (by decide) (lc_lp (lc_fX8_begin_B139 x0) zBIG 0)))
theorem lc_fX8_begin_B90 (x0 : Int) (x4 : Int) : ∀ r90 : Int → zX, (∀ s, zLoc zSc (r90 s)) → ∀ s, zLoc zSc (fX8_begin_B90 x0 x4 r90 s) := by
  intro r90 hr90 x7
  unfold fX8_begin_B90
  exact (lc_ite (lc_fX8_begin_J117 x0 x4) (lc_as (by decide) (lc_cl (lc_fX8_unbind x0 x7) fun _ => (lc_lt fun v7 => (hr90 v7)))))
theorem lc_fX8_begin_J87 (x0 : Int) (x4 : Int) : zLoc zSc (fX8_begin_J87 x0 x4) :=
  (lc_lp (lc_fX8_begin_B90 x0 x4) zBIG 0)
theorem lc_fX8_begin_B63 (x0 : Int) (x4 : Int) : ∀ r63 : Int → zX, (∀ s, zLoc zSc (r63 s)) → ∀ s, zLoc zSc (fX8_begin_B63 x0 x4 r63 s) := by
  intro r63 hr63 x7
  unfold fX8_begin_B63
  exact (lc_ite (lc_fX8_begin_J87 x0 x4) (lc_as (by decide) (lc_lt fun v8 => (hr63 v8))))
theorem lc_fX8_begin (x0 : Int) (x1 : Int) (x2 : Int) (x3 : Int) (x4 : Int) (x5 : Int) (x6 : Int) : zLoc zSc (fX8_begin x0 x1 x2 x3 x4 x5 x6) :=
  (lc_pf (by decide) (lc_pf (by decide) (lc_pf (by decide) (lc_pf (by decide) (lc_pf (by decide) (lc_pf (by decide) (lc_cl (lc_fX9_clear x0) fun _ => (lc_cl (lc_fX9_go x0 8 x5 x6) fun _ => (lc_pf (by decide) (lc_pf (by decide) (lc_lp (lc_fX8_begin_B63 x0 x4) zBIG 0)))))))))))
theorem lc_fX0_login_J96 (x1 : Int) (x2 : Int) (x3 : Int) (x5 : Int) (x6 : Int) (x7 : Int) (x8 : Int) : zLoc zSc (fX0_login_J96 x1 x2 x3 x5 x6 x7 x8) :=
  (lc_ib (lc_cl (lc_fX8_begin x8 x1 x2 x3 x7 x5 x6) fun _ => (lc_ret _)))
theorem lc_fX0_login_B76 (x1 : Int) (x2 : Int) (x3 : Int) (x5 : Int) (x6 : Int) (x7 : Int) : ∀ r76 : Int → zX, (∀ s, zLoc zSc (r76 s)) → ∀ s, zLoc zSc (fX0_login_B76 x1 x2 x3 x5 x6 x7 r76 s) := by
  intro r76 hr76 x8
  unfold fX0_login_B76
  exact (lc_ite (lc_ret _) (lc_ib (lc_gf (by decide) fun v10 => (lc_ite (lc_lt fun v11 => (hr76 v11)) (lc_fX0_login_J96 x1 x2 x3 x5 x6 x7 x8)))))
theorem lc_fX0_login (x1 : Int) (x2 : Int) (x3 : Int) (x4 : Int) (x5 : Int) (x6 : Int) : zLoc zSc (fX0_login x1 x2 x3 x4 x5 x6) :=
  (lc_cl (lc_fX1_segment x4) fun v1 => (lc_cl (lc_fX0_isIn x1 0 15) fun v2 => (lc_ite (lc_ret _) (lc_cl (lc_fX0_isIn x2 0 7) fun v3 => (lc_ite (lc_ret _) (lc_cl (lc_fX0_isLabel x3) fun v4 => (lc_ite (lc_ret _) (lc_ite (lc_ret _) (lc_cl (lc_fX0_isHalf x5) fun v6 => (lc_ite (lc_ret _) (lc_cl (lc_fX0_isIn x6 0 7) fun v7 => (lc_ite (lc_lp (lc_fX0_login_B76 x1 x2 x3 x5 x6 v1) zBIG 0) (lc_ret _)))))))))))))
theorem lc_fX0_processAt (x1 : Int) : zLoc zSc (fX0_processAt x1) :=
  (lc_cl (lc_fX0_isIn x1 0 7) fun v1 => (lc_ite (lc_ret _) (lc_ib (lc_gf (by decide) fun v4 => (lc_ite (lc_ret _) (lc_ib (lc_ret _)))))))
theorem lc_fX0_logout (x1 : Int) : zLoc zSc (fX0_logout x1) :=
  (lc_cl (lc_fX0_processAt x1) fun v1 => (lc_ite (lc_ret _) (lc_pf (by decide) (lc_ret _))))
theorem lc_fX8_isFull (x0 : Int) : zLoc zSc (fX8_isFull x0) :=
  (lc_gf (by decide) fun v1 => (lc_ite (lc_ret _) (lc_ret _)))
theorem lc_fX8_receive (x0 : Int) (x1 : Int) : zLoc zSc (fX8_receive x0 x1) :=
  (lc_gf (by decide) fun v1 => (lc_gf (by decide) fun v2 => (lc_as (by decide) (lc_gf (by decide) fun v3 => (lc_pf (by decide) (lc_ret _))))))
theorem lc_fX0_send (x1 : Int) (x2 : Int) : zLoc zSc (fX0_send x1 x2) :=
  (lc_cl (lc_fX0_processAt x1) fun v1 => (lc_ite (lc_ret _) (lc_cl (lc_fX0_isWord x2) fun v3 => (lc_ite (lc_cl (lc_fX8_isFull v1) fun v4 => (lc_ite (lc_cl (lc_fX8_receive v1 x2) fun _ => (lc_gf (by decide) fun v6 => (lc_ret _))) (lc_ret _))) (lc_ret _)))))
theorem lc_fX10_add_B65 (x0 : Int) (x8 : Int) : ∀ r65 : Int → zX, (∀ s, zLoc zSc (r65 s)) → ∀ s, zLoc zSc (fX10_add_B65 x0 x8 r65 s) := by
  intro r65 hr65 x9
  unfold fX10_add_B65
  exact (lc_ite (lc_ret _) (lc_gf (by decide) fun v4 => (lc_al (by decide) fun v5 => (lc_pf (by decide) (lc_lt fun v6 => (hr65 v6))))))
theorem lc_fX10_add (x0 : Int) (x1 : Int) (x2 : Int) (x4 : Int) (x6 : Int) : zLoc zSc (fX10_add x0 x1 x2 x4 x6) :=
  (lc_gf (by decide) fun v1 => (lc_lt fun v2 => (lc_as (by decide) (lc_as (by decide) (lc_as (by decide) (lc_as (by decide) (lc_gf (by decide) fun v3 => (lc_pf (by decide) (lc_lp (lc_fX10_add_B65 x0 v2) zBIG 0)))))))))
theorem lc_fX8_event (x0 : Int) (x1 : Int) (x2 : Int) (x4 : Int) (x6 : Int) : zLoc zSc (fX8_event x0 x1 x2 x4 x6) :=
  (lc_cl (lc_fX10_add x0 x1 x2 x4 x6) fun _ => (lc_ret _))
theorem lc_fX9_copy_J78 (x0 : Int) (x1 : Int) : zLoc zSc (fX9_copy_J78 x0 x1) :=
  (lc_nn (lc_gf (by decide) fun v5 => (lc_gf (by decide) fun v6 => (lc_gf (by decide) fun v7 => (lc_cl (lc_fX9_go x0 v5 v6 v7) fun _ => (lc_gf (by decide) fun v9 => (lc_pb (by decide) (lc_gf (by decide) fun v11 => (lc_pb (by decide) (lc_ret _))))))))))
theorem lc_fX9_copy_B43 (x0 : Int) (x1 : Int) : ∀ r43 : Int → zX, (∀ s, zLoc zSc (r43 s)) → ∀ s, zLoc zSc (fX9_copy_B43 x0 x1 r43 s) := by
  intro r43 hr43 x2
  unfold fX9_copy_B43
  exact (lc_ite (lc_fX9_copy_J78 x0 x1) (lc_nn (lc_al (by decide) fun v14 => (lc_al (by decide) fun v15 => (lc_al (by decide) fun v16 => (lc_cl (lc_fX9_point x0 x2 v14 v15 v16) fun _ => (lc_lt fun v18 => (hr43 v18))))))))
theorem lc_fX9_copy_J41 (x0 : Int) (x1 : Int) : zLoc zSc (fX9_copy_J41 x0 x1) :=
  (lc_lp (lc_fX9_copy_B43 x0 x1) zBIG 0)
theorem lc_fX9_copy_B18 (x0 : Int) (x1 : Int) : ∀ r18 : Int → zX, (∀ s, zLoc zSc (r18 s)) → ∀ s, zLoc zSc (fX9_copy_B18 x0 x1 r18 s) := by
  intro r18 hr18 x2
  unfold fX9_copy_B18
  exact (lc_ite (lc_fX9_copy_J41 x0 x1) (lc_nn (lc_al (by decide) fun v20 => (lc_as (by decide) (lc_lt fun v21 => (hr18 v21))))))
theorem lc_fX9_copy (x0 : Int) (x1 : Int) : zLoc zSc (fX9_copy x0 x1) :=
  (lc_nn (lc_gf (by decide) fun v2 => (lc_pf (by decide) (lc_gf (by decide) fun v3 => (lc_pf (by decide) (lc_lp (lc_fX9_copy_B18 x0 x1) zBIG 0))))))
theorem lc_fX0_pointerWord (x0 : Int) (x1 : Int) (x2 : Int) : zLoc zSc (fX0_pointerWord x0 x1 x2) :=
  (lc_ret _)
theorem lc_fX8_fault_J40 (x0 : Int) : zLoc zSc (fX8_fault_J40 x0) :=
  (lc_pf (by decide) (lc_cl (lc_fX8_event x0 9 0 0 0) fun _ => (lc_ret _)))
theorem lc_fX8_fault (x0 : Int) (x1 : Int) (x2 : Int) (x3 : Int) (x4 : Int) : zLoc zSc (fX8_fault x0 x1 x2 x3 x4) :=
  (lc_cl (lc_fX8_event x0 2 x1 x2 x3) fun _ => (lc_gf (by decide) fun v2 => (lc_ite (lc_fX8_fault_J40 x0) (lc_gf (by decide) fun v4 => (lc_gf (by decide) fun v5 => (lc_ite (lc_fX8_fault_J40 x0) (lc_gf (by decide) fun v6 => (lc_ite (lc_gf (by decide) fun v7 => (lc_ib (lc_cl (lc_fX9_copy (4 * x0 + 8 + v7) x0) fun _ => (lc_gf (by decide) fun v11 => (lc_pf (by decide) (lc_pf (by decide) (lc_cl (lc_fX0_pointerWord x2 x3 x4) fun v12 => (lc_pf (by decide) (lc_gf (by decide) fun v13 => (lc_gf (by decide) fun v14 => (lc_gf (by decide) fun v15 => (lc_cl (lc_fX9_go x0 v13 v14 v15) fun _ => (lc_ret _))))))))))))) (lc_fX8_fault_J40 x0)))))))))
theorem lc_fX12_refuse (x1 : Int) (x2 : Int) (x3 : Int) (x4 : Int) : zLoc zSc (fX12_refuse x1 x2 x3 x4) :=
  (lc_gf (by decide) fun v1 => (lc_nn (lc_cl (lc_fX8_fault v1 x1 x2 x3 x4) fun _ => (lc_ret _))))
theorem lc_fX12_isThere (x1 : Int) (x2 : Int) (x3 : Int) : zLoc zSc (fX12_isThere x1 x2 x3) :=
  (lc_ite (lc_gf (by decide) fun v1 => (lc_nn (lc_al (by decide) fun v3 => (lc_ite (lc_cl (lc_fX12_refuse 1 x1 x2 x3) fun v5 => (lc_rb _)) (lc_gf (by decide) fun v6 => (lc_ite (lc_ret _) (lc_cl (lc_fX12_refuse 2 x1 x2 x3) fun v7 => (lc_ite (lc_ret _) (lc_ret _))))))))) (lc_ite (lc_ret _) (lc_cl (lc_fX12_refuse 2 x1 x2 x3) fun v8 => (lc_ite (lc_ret _) (lc_ret _)))))
theorem lc_fX8_rightsOf_J90 (x2 : Int) (s0 : Int) (s1 : Int) : zLoc zSc (fX8_rightsOf_J90 x2 s0 s1) :=
  (lc_nn (lc_pb (by decide) (lc_ret _)))
theorem lc_fX8_rightsOf (x0 : Int) (x1 : Int) : zLoc zSc (fX8_rightsOf x0 x1) :=
  (lc_ib (lc_lt fun v3 => (lc_gf (by decide) fun v4 => (lc_gf (by decide) fun v5 => (lc_ite (lc_ret _) (lc_al (by decide) fun v6 => (lc_gf (by decide) fun v7 => (lc_pf (by decide) (lc_nn (lc_gf (by decide) fun v9 => (lc_gf (by decide) fun v10 => (lc_cl (lc_fX5_of (3 * v6) v9 v10) fun v11 => (lc_pf (by decide) (lc_gf (by decide) fun v12 => (lc_gf (by decide) fun v13 => (lc_cl (lc_fX0_dominates v12 v13) fun v14 => (lc_pb (by decide) (lc_gf (by decide) fun v16 => (lc_gf (by decide) fun v17 => (lc_ite (lc_fX8_rightsOf_J90 v3 v3 0) (lc_fX8_rightsOf_J90 v3 v3 1)))))))))))))))))))))
theorem lc_fX8_refusal_J120 (s0 : Int) : zLoc zSc (fX8_refusal_J120 s0) :=
  (lc_ite (lc_ret _) (lc_ret _))
theorem lc_fX8_refusal_J119 : zLoc zSc (fX8_refusal_J119) :=
  (lc_fX8_refusal_J120 0)
theorem lc_fX8_refusal_J53 (x2 : Int) (x3 : Int) (x4 : Int) : zLoc zSc (fX8_refusal_J53 x2 x3 x4) :=
  (lc_ite (lc_ite (lc_nn (lc_gf (by decide) fun v7 => (lc_ite lc_fX8_refusal_J119 (lc_gf (by decide) fun v8 => (lc_ite lc_fX8_refusal_J119 (lc_fX8_refusal_J120 1)))))) (lc_nn (lc_gf (by decide) fun v10 => (lc_ite (lc_fX8_refusal_J120 0) (lc_fX8_refusal_J120 1))))) (lc_nn (lc_gf (by decide) fun v12 => (lc_ite (lc_fX8_refusal_J120 0) (lc_fX8_refusal_J120 1)))))
theorem lc_fX8_refusal (x0 : Int) (x1 : Int) (x2 : Int) (x3 : Int) : zLoc zSc (fX8_refusal x0 x1 x2 x3) :=
  (lc_al (by decide) fun v1 => (lc_cl (lc_fX8_rightsOf x0 x1) fun v2 => (lc_nn (lc_gf (by decide) fun v4 => (lc_ite (lc_ite (lc_gf (by decide) fun v5 => (lc_ite (lc_fX8_refusal_J53 x2 x3 v1) (lc_ret _))) (lc_gf (by decide) fun v13 => (lc_ite (lc_fX8_refusal_J53 x2 x3 v1) (lc_ret _)))) (lc_ret _))))))
theorem lc_fX13_add (x1 : Int) (x2 : Int) (x3 : Int) (x4 : Int) : zLoc zSc (fX13_add x1 x2 x3 x4) :=
  (lc_gf (by decide) fun v1 => (lc_lt fun v2 => (lc_as (by decide) (lc_as (by decide) (lc_as (by decide) (lc_as (by decide) (lc_gf (by decide) fun v3 => (lc_pf (by decide) (lc_ret _)))))))))
theorem lc_fX12_deny (x1 : Int) (x2 : Int) : zLoc zSc (fX12_deny x1 x2) :=
  (lc_nn (lc_gf (by decide) fun v2 => (lc_pf (by decide) (lc_gf (by decide) fun v3 => (lc_nn (lc_cl (lc_fX13_add v3 1 x1 x2) fun _ => (lc_ret _)))))))
theorem lc_fX12_may (x1 : Int) (x2 : Int) (x3 : Int) (x4 : Int) : zLoc zSc (fX12_may x1 x2 x3 x4) :=
  (lc_cl (lc_fX12_isThere x1 x2 x3) fun v1 => (lc_ite (lc_ite (lc_gf (by decide) fun v2 => (lc_nn (lc_cl (lc_fX8_refusal v2 x1 x3 x4) fun v4 => (lc_ite (lc_gf (by decide) fun v5 => (lc_nn (lc_al (by decide) fun v7 => (lc_cl (lc_fX12_deny v7 v4) fun _ => (lc_cl (lc_fX12_refuse v4 x1 x2 x3) fun v9 => (lc_rb _)))))) (lc_ret _))))) (lc_ite (lc_ite (lc_ret _) (lc_cl (lc_fX12_refuse 5 x1 x2 x3) fun v10 => (lc_ite (lc_ret _) (lc_ret _)))) (lc_cl (lc_fX12_refuse 3 x1 x2 x3) fun v11 => (lc_rb _)))) (lc_ret _)))
theorem lc_fX12_load (x1 : Int) (x2 : Int) : zLoc zSc (fX12_load x1 x2) :=
  (lc_ite (lc_gf (by decide) fun v1 => (lc_nn (lc_al (by decide) fun v3 => (lc_cl (lc_fX1_get v3 x2) fun v4 => (lc_ret _))))) (lc_gf (by decide) fun v5 => (lc_nn (lc_al (by decide) fun v7 => (lc_ret _)))))
theorem lc_fX14_takesMode (x0 : Int) (x1 : Int) : zLoc zSc (fX14_takesMode x0 x1) :=
  (lc_ite (lc_ite (lc_ite (lc_ret _) (lc_ite (lc_ret _) (lc_ret _))) (lc_ite (lc_ret _) (lc_ite (lc_ret _) (lc_ite (lc_ret _) (lc_ret _))))) (lc_ret _))
theorem lc_fX7_take_J148 (s0 : Int) (s1 : Int) : zLoc zSc (fX7_take_J148 s0 s1) :=
  (lc_nn (lc_pf (by decide) (lc_ret _)))
theorem lc_fX7_take_J147 (s0 : Int) : zLoc zSc (fX7_take_J147 s0) :=
  (lc_fX7_take_J148 s0 (-1))
theorem lc_fX7_take_J142 (x5 : Int) (s0 : Int) : zLoc zSc (fX7_take_J142 x5 s0) :=
  (lc_fX7_take_J148 s0 x5)
theorem lc_fX7_take_J114 (x0 : Int) (x5 : Int) (s0 : Int) (s1 : Int) : zLoc zSc (fX7_take_J114 x0 x5 s0 s1) :=
  (lc_ite (lc_fX7_take_J147 s0) (lc_gf (by decide) fun v6 => (lc_ite (lc_fX7_take_J147 s0) (lc_nn (lc_ite (lc_fX7_take_J142 x5 s0) (lc_gf (by decide) fun v8 => (lc_ite (lc_fX7_take_J147 s0) (lc_fX7_take_J142 x5 s0))))))))
theorem lc_fX7_take_J89 (x0 : Int) (s0 : Int) : zLoc zSc (fX7_take_J89 x0 s0) :=
  (lc_ite (lc_fX7_take_J147 x0) (lc_ite (lc_fX7_take_J142 s0 x0) (lc_gf (by decide) fun v4 => (lc_cl (lc_fX14_takesMode s0 v4) fun v5 => (lc_fX7_take_J114 x0 s0 x0 v5)))))
theorem lc_fX7_take (x0 : Int) (x1 : Int) : zLoc zSc (fX7_take x0 x1) :=
  (lc_pf (by decide) (lc_lt fun v1 => (lc_pf (by decide) (lc_pf (by decide) (lc_pf (by decide) (lc_pf (by decide) (lc_pf (by decide) (lc_ite (lc_fX7_take_J89 x0 (-1)) (lc_ib (lc_fX7_take_J89 x0 v1))))))))))
theorem lc_fX12_decode (x1 : Int) : zLoc zSc (fX12_decode x1) :=
  (lc_ib (lc_lt fun v3 => (lc_gf (by decide) fun v4 => (lc_ite (lc_ret _) (lc_cl (lc_fX7_take v3 x1) fun _ => (lc_ret _))))))
theorem lc_fX12_refuseHere (x1 : Int) : zLoc zSc (fX12_refuseHere x1) :=
  (lc_gf (by decide) fun v1 => (lc_nn (lc_gf (by decide) fun v3 => (lc_gf (by decide) fun v4 => (lc_gf (by decide) fun v5 => (lc_cl (lc_fX12_refuse x1 v3 v4 v5) fun v6 => (lc_rb _)))))))
theorem lc_fX8_end (x0 : Int) : zLoc zSc (fX8_end x0) :=
  (lc_pf (by decide) (lc_cl (lc_fX8_event x0 6 0 0 0) fun _ => (lc_ret _)))
theorem lc_fX15_run_0 (x2 : Int) (x3 : Int) : zLoc zSc (fX15_run_0 x2 x3) :=
  (lc_gf (by decide) fun v1 => (lc_nn (lc_cl (lc_fX8_end v1) fun _ => (lc_ret _))))
theorem lc_fX15_run_1 (x2 : Int) (x3 : Int) : zLoc zSc (fX15_run_1 x2 x3) :=
  (lc_ret _)
theorem lc_fX12_value_J39 (s1 : Int) : zLoc zSc (fX12_value_J39 s1) :=
  (lc_pf (by decide) (lc_ret _))
theorem lc_fX12_value : zLoc zSc (fX12_value) :=
  (lc_gf (by decide) fun v1 => (lc_ite (lc_gf (by decide) fun v2 => (lc_gf (by decide) fun v3 => (lc_gf (by decide) fun v4 => (lc_cl (lc_fX12_may v2 v3 v4 1) fun v5 => (lc_ite (lc_gf (by decide) fun v6 => (lc_gf (by decide) fun v7 => (lc_cl (lc_fX12_load v6 v7) fun v8 => (lc_pf (by decide) (lc_ret _))))) (lc_ret _)))))) (lc_gf (by decide) fun v9 => (lc_ite (lc_gf (by decide) fun v10 => (lc_fX12_value_J39 ((zl (v10 - 262144)) % 68719476736))) (lc_gf (by decide) fun v11 => (lc_fX12_value_J39 v11))))))
theorem lc_fX9_tell_J30 (s0 : Int) (s1 : Int) : zLoc zSc (fX9_tell_J30 s0 s1) :=
  (lc_nn (lc_pb (by decide) (lc_ret _)))
theorem lc_fX9_tell_J12 (x0 : Int) (x1 : Int) (s0 : Int) (s1 : Int) : zLoc zSc (fX9_tell_J12 x0 x1 s0 s1) :=
  (lc_nn (lc_pb (by decide) (lc_ite (lc_fX9_tell_J30 x0 0) (lc_fX9_tell_J30 x0 1))))
theorem lc_fX9_tell (x0 : Int) (x1 : Int) : zLoc zSc (fX9_tell x0 x1) :=
  (lc_ite (lc_fX9_tell_J12 x0 x1 x0 0) (lc_fX9_tell_J12 x0 x1 x0 1))
theorem lc_fX16_run_2_J35 (x3 : Int) : zLoc zSc (fX16_run_2_J35 x3) :=
  (lc_gf (by decide) fun v4 => (lc_nn (lc_cl (lc_fX9_tell x3 v4) fun _ => (lc_ret _))))
theorem lc_fX16_run_2 (x2 : Int) (x3 : Int) : zLoc zSc (fX16_run_2 x2 x3) :=
  (lc_cl lc_fX12_value fun v1 => (lc_ite (lc_gf (by decide) fun v2 => (lc_nn (lc_pf (by decide) (lc_fX16_run_2_J35 x3)))) (lc_ret _)))
theorem lc_fX16_run_3_J35 (x3 : Int) : zLoc zSc (fX16_run_3_J35 x3) :=
  (lc_gf (by decide) fun v4 => (lc_nn (lc_cl (lc_fX9_tell x3 v4) fun _ => (lc_ret _))))
theorem lc_fX16_run_3 (x2 : Int) (x3 : Int) : zLoc zSc (fX16_run_3 x2 x3) :=
  (lc_cl lc_fX12_value fun v1 => (lc_ite (lc_gf (by decide) fun v2 => (lc_nn (lc_pf (by decide) (lc_fX16_run_3_J35 x3)))) (lc_ret _)))
theorem lc_fX18_reckon_4 (x1 : Int) (x3 : Int) : zLoc zSc (fX18_reckon_4 x1 x3) :=
  (lc_ret _)
theorem lc_fX17_run_4 (x2 : Int) (x3 : Int) : zLoc zSc (fX17_run_4 x2 x3) :=
  (lc_cl lc_fX12_value fun v1 => (lc_ite (lc_nn (lc_gf (by decide) fun v3 => (lc_gf (by decide) fun v4 => (lc_cl (lc_fX18_reckon_4 v3 v4) fun v5 => (lc_pf (by decide) (lc_gf (by decide) fun v6 => (lc_cl (lc_fX9_tell x3 v6) fun _ => (lc_ret _)))))))) (lc_ret _)))
theorem lc_fX18_reckon_5 (x1 : Int) (x3 : Int) : zLoc zSc (fX18_reckon_5 x1 x3) :=
  (lc_ret _)
theorem lc_fX17_run_5 (x2 : Int) (x3 : Int) : zLoc zSc (fX17_run_5 x2 x3) :=
  (lc_cl lc_fX12_value fun v1 => (lc_ite (lc_nn (lc_gf (by decide) fun v3 => (lc_gf (by decide) fun v4 => (lc_cl (lc_fX18_reckon_5 v3 v4) fun v5 => (lc_pf (by decide) (lc_gf (by decide) fun v6 => (lc_cl (lc_fX9_tell x3 v6) fun _ => (lc_ret _)))))))) (lc_ret _)))
theorem lc_fX19_reckon_6 (x1 : Int) (x3 : Int) : zLoc zSc (fX19_reckon_6 x1 x3) :=
  (lc_ret _)
theorem lc_fX17_run_6 (x2 : Int) (x3 : Int) : zLoc zSc (fX17_run_6 x2 x3) :=
  (lc_cl lc_fX12_value fun v1 => (lc_ite (lc_nn (lc_gf (by decide) fun v3 => (lc_gf (by decide) fun v4 => (lc_cl (lc_fX19_reckon_6 v3 v4) fun v5 => (lc_pf (by decide) (lc_gf (by decide) fun v6 => (lc_cl (lc_fX9_tell x3 v6) fun _ => (lc_ret _)))))))) (lc_ret _)))
theorem lc_fX0_signed (x0 : Int) : zLoc zSc (fX0_signed x0) :=
  (lc_ite (lc_ret _) (lc_ret _))
theorem lc_fX20_run_7 (x2 : Int) (x3 : Int) : zLoc zSc (fX20_run_7 x2 x3) :=
  (lc_cl lc_fX12_value fun v1 => (lc_ite (lc_gf (by decide) fun v2 => (lc_ite (lc_nn (lc_gf (by decide) fun v4 => (lc_cl (lc_fX0_signed v4) fun v5 => (lc_gf (by decide) fun v6 => (lc_cl (lc_fX0_signed v6) fun v7 => (lc_ne (lc_pf (by decide) (lc_ne (lc_pf (by decide) (lc_gf (by decide) fun v10 => (lc_cl (lc_fX9_tell x3 v10) fun _ => (lc_ret _)))))))))))) (lc_cl (lc_fX12_refuseHere 12) fun v12 => (lc_rb _)))) (lc_ret _)))
theorem lc_fX21_reckon_8 (x1 : Int) (x3 : Int) : zLoc zSc (fX21_reckon_8 x1 x3) :=
  (lc_ret _)
theorem lc_fX17_run_8 (x2 : Int) (x3 : Int) : zLoc zSc (fX17_run_8 x2 x3) :=
  (lc_cl lc_fX12_value fun v1 => (lc_ite (lc_nn (lc_gf (by decide) fun v3 => (lc_gf (by decide) fun v4 => (lc_cl (lc_fX21_reckon_8 v3 v4) fun v5 => (lc_pf (by decide) (lc_gf (by decide) fun v6 => (lc_cl (lc_fX9_tell x3 v6) fun _ => (lc_ret _)))))))) (lc_ret _)))
theorem lc_fX21_reckon_9 (x1 : Int) (x3 : Int) : zLoc zSc (fX21_reckon_9 x1 x3) :=
  (lc_ret _)
theorem lc_fX17_run_9 (x2 : Int) (x3 : Int) : zLoc zSc (fX17_run_9 x2 x3) :=
  (lc_cl lc_fX12_value fun v1 => (lc_ite (lc_nn (lc_gf (by decide) fun v3 => (lc_gf (by decide) fun v4 => (lc_cl (lc_fX21_reckon_9 v3 v4) fun v5 => (lc_pf (by decide) (lc_gf (by decide) fun v6 => (lc_cl (lc_fX9_tell x3 v6) fun _ => (lc_ret _)))))))) (lc_ret _)))
theorem lc_fX21_reckon_10 (x1 : Int) (x3 : Int) : zLoc zSc (fX21_reckon_10 x1 x3) :=
  (lc_ret _)
theorem lc_fX17_run_10 (x2 : Int) (x3 : Int) : zLoc zSc (fX17_run_10 x2 x3) :=
  (lc_cl lc_fX12_value fun v1 => (lc_ite (lc_nn (lc_gf (by decide) fun v3 => (lc_gf (by decide) fun v4 => (lc_cl (lc_fX21_reckon_10 v3 v4) fun v5 => (lc_pf (by decide) (lc_gf (by decide) fun v6 => (lc_cl (lc_fX9_tell x3 v6) fun _ => (lc_ret _)))))))) (lc_ret _)))
theorem lc_fX22_run_11_J58 (s0 : Int) (s1 : Int) : zLoc zSc (fX22_run_11_J58 s0 s1) :=
  (lc_nn (lc_pb (by decide) (lc_ret _)))
theorem lc_fX22_run_11_J41 (x3 : Int) (x4 : Int) (x6 : Int) (s0 : Int) (s1 : Int) : zLoc zSc (fX22_run_11_J41 x3 x4 x6 s0 s1) :=
  (lc_nn (lc_pb (by decide) (lc_ite (lc_fX22_run_11_J58 x3 0) (lc_fX22_run_11_J58 x3 1))))
theorem lc_fX22_run_11 (x2 : Int) (x3 : Int) : zLoc zSc (fX22_run_11 x2 x3) :=
  (lc_cl lc_fX12_value fun v1 => (lc_ite (lc_nn (lc_gf (by decide) fun v3 => (lc_cl (lc_fX0_signed v3) fun v4 => (lc_gf (by decide) fun v5 => (lc_cl (lc_fX0_signed v5) fun v6 => (lc_ite (lc_fX22_run_11_J41 x3 v4 v6 x3 0) (lc_fX22_run_11_J41 x3 v4 v6 x3 1))))))) (lc_ret _)))
theorem lc_fX9_tellHalf_J27 (s0 : Int) (s1 : Int) : zLoc zSc (fX9_tellHalf_J27 s0 s1) :=
  (lc_nn (lc_pb (by decide) (lc_ret _)))
theorem lc_fX9_tellHalf_J10 (x0 : Int) (x1 : Int) (s0 : Int) (s1 : Int) : zLoc zSc (fX9_tellHalf_J10 x0 x1 s0 s1) :=
  (lc_nn (lc_pb (by decide) (lc_ite (lc_fX9_tellHalf_J27 x0 0) (lc_fX9_tellHalf_J27 x0 1))))
theorem lc_fX9_tellHalf (x0 : Int) (x1 : Int) : zLoc zSc (fX9_tellHalf x0 x1) :=
  (lc_ite (lc_fX9_tellHalf_J10 x0 x1 x0 0) (lc_fX9_tellHalf_J10 x0 x1 x0 1))
theorem lc_fX23_run_12_J55 (x2 : Int) (x3 : Int) (s0 : Int) (s1 : Int) (s2 : Int) : zLoc zSc (fX23_run_12_J55 x2 x3 s0 s1 s2) :=
  (lc_as (by decide) (lc_nn (lc_nn (lc_gf (by decide) fun v9 => (lc_al (by decide) fun v10 => (lc_cl (lc_fX9_tellHalf x3 v10) fun _ => (lc_ret _)))))))
theorem lc_fX23_run_12 (x2 : Int) (x3 : Int) : zLoc zSc (fX23_run_12 x2 x3) :=
  (lc_cl lc_fX12_value fun v1 => (lc_ite (lc_gf (by decide) fun v2 => (lc_lt fun v3 => (lc_nn (lc_nn (lc_gf (by decide) fun v6 => (lc_fX23_run_12_J55 x2 x3 x3 v6 v3)))))) (lc_ret _)))
theorem lc_fX23_run_13_J55 (x2 : Int) (x3 : Int) (s0 : Int) (s1 : Int) (s2 : Int) : zLoc zSc (fX23_run_13_J55 x2 x3 s0 s1 s2) :=
  (lc_as (by decide) (lc_nn (lc_nn (lc_gf (by decide) fun v11 => (lc_al (by decide) fun v12 => (lc_cl (lc_fX9_tellHalf x3 v12) fun _ => (lc_ret _)))))))
theorem lc_fX23_run_13 (x2 : Int) (x3 : Int) : zLoc zSc (fX23_run_13 x2 x3) :=
  (lc_cl lc_fX12_value fun v1 => (lc_ite (lc_gf (by decide) fun v2 => (lc_lt fun v3 => (lc_nn (lc_nn (lc_gf (by decide) fun v6 => (lc_gf (by decide) fun v7 => (lc_al (by decide) fun v8 => (lc_fX23_run_13_J55 x2 x3 x3 v6 ((zi (v8 + v3)) % 262144))))))))) (lc_ret _)))
theorem lc_fX12_store (x1 : Int) (x2 : Int) (x3 : Int) : zLoc zSc (fX12_store x1 x2 x3) :=
  (lc_ite (lc_gf (by decide) fun v1 => (lc_nn (lc_al (by decide) fun v3 => (lc_cl (lc_fX1_put v3 x2 x3) fun _ => (lc_ret _))))) (lc_gf (by decide) fun v5 => (lc_nn (lc_as (by decide) (lc_ret _)))))
theorem lc_fX24_run_14_J89 (s1 : Int) (s2 : Int) (s3 : Int) : zLoc zSc (fX24_run_14_J89 s1 s2 s3) :=
  (lc_cl (lc_fX12_store s1 s2 s3) fun _ => (lc_ret _))
theorem lc_fX24_run_14 (x2 : Int) (x3 : Int) : zLoc zSc (fX24_run_14 x2 x3) :=
  (lc_gf (by decide) fun v1 => (lc_gf (by decide) fun v2 => (lc_gf (by decide) fun v3 => (lc_cl (lc_fX12_may v1 v2 v3 4) fun v4 => (lc_ite (lc_gf (by decide) fun v5 => (lc_gf (by decide) fun v6 => (lc_nn (lc_gf (by decide) fun v8 => (lc_fX24_run_14_J89 v5 v6 v8))))) (lc_ret _))))))
theorem lc_fX24_run_15_J89 (s1 : Int) (s2 : Int) (s3 : Int) : zLoc zSc (fX24_run_15_J89 s1 s2 s3) :=
  (lc_cl (lc_fX12_store s1 s2 s3) fun _ => (lc_ret _))
theorem lc_fX24_run_15 (x2 : Int) (x3 : Int) : zLoc zSc (fX24_run_15 x2 x3) :=
  (lc_gf (by decide) fun v1 => (lc_gf (by decide) fun v2 => (lc_gf (by decide) fun v3 => (lc_cl (lc_fX12_may v1 v2 v3 4) fun v4 => (lc_ite (lc_gf (by decide) fun v5 => (lc_gf (by decide) fun v6 => (lc_nn (lc_gf (by decide) fun v8 => (lc_fX24_run_15_J89 v5 v6 v8))))) (lc_ret _))))))
theorem lc_fX24_run_16_J89 (s1 : Int) (s2 : Int) (s3 : Int) : zLoc zSc (fX24_run_16_J89 s1 s2 s3) :=
  (lc_cl (lc_fX12_store s1 s2 s3) fun _ => (lc_ret _))
theorem lc_fX24_run_16 (x2 : Int) (x3 : Int) : zLoc zSc (fX24_run_16 x2 x3) :=
  (lc_gf (by decide) fun v1 => (lc_gf (by decide) fun v2 => (lc_gf (by decide) fun v3 => (lc_cl (lc_fX12_may v1 v2 v3 4) fun v4 => (lc_ite (lc_gf (by decide) fun v5 => (lc_gf (by decide) fun v6 => (lc_nn (lc_nn (lc_gf (by decide) fun v9 => (lc_al (by decide) fun v10 => (lc_fX24_run_16_J89 v5 v6 v10))))))) (lc_ret _))))))
theorem lc_fX9_pointer (x0 : Int) (x1 : Int) : zLoc zSc (fX9_pointer x0 x1) :=
  (lc_al (by decide) fun v1 => (lc_al (by decide) fun v2 => (lc_al (by decide) fun v3 => (lc_cl (lc_fX0_pointerWord v1 v2 v3) fun v4 => (lc_ret _)))))
theorem lc_fX24_run_17_J89 (s1 : Int) (s2 : Int) (s3 : Int) : zLoc zSc (fX24_run_17_J89 s1 s2 s3) :=
  (lc_cl (lc_fX12_store s1 s2 s3) fun _ => (lc_ret _))
theorem lc_fX24_run_17 (x2 : Int) (x3 : Int) : zLoc zSc (fX24_run_17 x2 x3) :=
  (lc_gf (by decide) fun v1 => (lc_gf (by decide) fun v2 => (lc_gf (by decide) fun v3 => (lc_cl (lc_fX12_may v1 v2 v3 4) fun v4 => (lc_ite (lc_gf (by decide) fun v5 => (lc_gf (by decide) fun v6 => (lc_nn (lc_gf (by decide) fun v8 => (lc_nn (lc_cl (lc_fX9_pointer x3 v8) fun v10 => (lc_fX24_run_17_J89 v5 v6 v10))))))) (lc_ret _))))))
theorem lc_fX25_run_18 (x2 : Int) (x3 : Int) : zLoc zSc (fX25_run_18 x2 x3) :=
  (lc_gf (by decide) fun v1 => (lc_gf (by decide) fun v2 => (lc_gf (by decide) fun v3 => (lc_cl (lc_fX12_may v1 v2 v3 1) fun v4 => (lc_ite (lc_ret _) (lc_gf (by decide) fun v5 => (lc_gf (by decide) fun v6 => (lc_gf (by decide) fun v7 => (lc_cl (lc_fX12_may v5 v6 v7 4) fun v8 => (lc_ite (lc_gf (by decide) fun v9 => (lc_gf (by decide) fun v10 => (lc_cl (lc_fX12_load v9 v10) fun v11 => (lc_lt fun v12 => (lc_gf (by decide) fun v13 => (lc_gf (by decide) fun v14 => (lc_cl (lc_fX12_store v13 v14 v12) fun _ => (lc_nn (lc_cl (lc_fX9_tell x3 v12) fun _ => (lc_ret _)))))))))) (lc_ret _)))))))))))
theorem lc_fX26_run_19 (x2 : Int) (x3 : Int) : zLoc zSc (fX26_run_19 x2 x3) :=
  (lc_gf (by decide) fun v1 => (lc_gf (by decide) fun v2 => (lc_gf (by decide) fun v3 => (lc_cl (lc_fX12_may v1 v2 v3 1) fun v4 => (lc_ite (lc_ret _) (lc_gf (by decide) fun v5 => (lc_gf (by decide) fun v6 => (lc_gf (by decide) fun v7 => (lc_cl (lc_fX12_may v5 v6 v7 4) fun v8 => (lc_ite (lc_gf (by decide) fun v9 => (lc_gf (by decide) fun v10 => (lc_cl (lc_fX12_load v9 v10) fun v11 => (lc_gf (by decide) fun v12 => (lc_gf (by decide) fun v13 => (lc_nn (lc_gf (by decide) fun v15 => (lc_cl (lc_fX12_store v12 v13 v15) fun _ => (lc_pf (by decide) (lc_cl (lc_fX9_tell x3 v11) fun _ => (lc_ret _))))))))))) (lc_ret _)))))))))))
theorem lc_fX27_run_20 (x2 : Int) (x3 : Int) : zLoc zSc (fX27_run_20 x2 x3) :=
  (lc_nn (lc_nn (lc_gf (by decide) fun v3 => (lc_gf (by decide) fun v4 => (lc_as (by decide) (lc_gf (by decide) fun v5 => (lc_cl (lc_fX9_tellHalf x3 v5) fun _ => (lc_ret _))))))))
theorem lc_fX27_run_21 (x2 : Int) (x3 : Int) : zLoc zSc (fX27_run_21 x2 x3) :=
  (lc_gf (by decide) fun v1 => (lc_nn (lc_pf (by decide) (lc_gf (by decide) fun v3 => (lc_cl (lc_fX9_tell x3 v3) fun _ => (lc_ret _))))))
theorem lc_fX28_run_22_J66 (x3 : Int) (s0 : Int) (s1 : Int) : zLoc zSc (fX28_run_22_J66 x3 s0 s1) :=
  (lc_nn (lc_pf (by decide) (lc_nn (lc_gf (by decide) fun v7 => (lc_cl (lc_fX9_tell x3 v7) fun _ => (lc_ret _))))))
theorem lc_fX28_run_22_J18 (x3 : Int) (s0 : Int) : zLoc zSc (fX28_run_22_J18 x3 s0) :=
  (lc_nn (lc_gf (by decide) fun v4 => (lc_fX28_run_22_J66 x3 x3 (zl (v4 * 2 ^ (s0 % 64).toNat)))))
theorem lc_fX28_run_22 (x2 : Int) (x3 : Int) : zLoc zSc (fX28_run_22 x2 x3) :=
  (lc_gf (by decide) fun v1 => (lc_ite (lc_gf (by decide) fun v2 => (lc_fX28_run_22_J18 x3 v2)) (lc_fX28_run_22_J18 x3 36)))
theorem lc_fX28_run_23_J66 (x3 : Int) (s0 : Int) (s1 : Int) : zLoc zSc (fX28_run_23_J66 x3 s0 s1) :=
  (lc_nn (lc_pf (by decide) (lc_nn (lc_gf (by decide) fun v8 => (lc_cl (lc_fX9_tell x3 v8) fun _ => (lc_ret _))))))
theorem lc_fX28_run_23_J18 (x3 : Int) (s0 : Int) : zLoc zSc (fX28_run_23_J18 x3 s0) :=
  (lc_nn (lc_gf (by decide) fun v4 => (lc_cl (lc_fX0_signed v4) fun v5 => (lc_fX28_run_23_J66 x3 x3 (v5 / 2 ^ (s0 % 64).toNat)))))
theorem lc_fX28_run_23 (x2 : Int) (x3 : Int) : zLoc zSc (fX28_run_23 x2 x3) :=
  (lc_gf (by decide) fun v1 => (lc_ite (lc_gf (by decide) fun v2 => (lc_fX28_run_23_J18 x3 v2)) (lc_fX28_run_23_J18 x3 36)))
theorem lc_fX28_run_24_J66 (x3 : Int) (s0 : Int) (s1 : Int) : zLoc zSc (fX28_run_24_J66 x3 s0 s1) :=
  (lc_nn (lc_pf (by decide) (lc_nn (lc_gf (by decide) fun v7 => (lc_cl (lc_fX9_tell x3 v7) fun _ => (lc_ret _))))))
theorem lc_fX28_run_24_J18 (x3 : Int) (s0 : Int) : zLoc zSc (fX28_run_24_J18 x3 s0) :=
  (lc_nn (lc_gf (by decide) fun v4 => (lc_fX28_run_24_J66 x3 x3 (v4 / 2 ^ (s0 % 64).toNat))))
theorem lc_fX28_run_24 (x2 : Int) (x3 : Int) : zLoc zSc (fX28_run_24 x2 x3) :=
  (lc_gf (by decide) fun v1 => (lc_ite (lc_gf (by decide) fun v2 => (lc_fX28_run_24_J18 x3 v2)) (lc_fX28_run_24_J18 x3 36)))
theorem lc_fX29_run_25 (x2 : Int) (x3 : Int) : zLoc zSc (fX29_run_25 x2 x3) :=
  (lc_nn (lc_gf (by decide) fun v2 => (lc_gf (by decide) fun v3 => (lc_gf (by decide) fun v4 => (lc_gf (by decide) fun v5 => (lc_nn (lc_cl (lc_fX9_point x3 v2 v3 v4 v5) fun _ => (lc_ret _))))))))
theorem lc_fX29_run_26 (x2 : Int) (x3 : Int) : zLoc zSc (fX29_run_26 x2 x3) :=
  (lc_gf (by decide) fun v1 => (lc_gf (by decide) fun v2 => (lc_gf (by decide) fun v3 => (lc_cl (lc_fX0_pointerWord v1 v2 v3) fun v4 => (lc_nn (lc_pf (by decide) (lc_ret _)))))))
theorem lc_fX30_goesBy (x0 : Int) (x1 : Int) (x2 : Int) : zLoc zSc (fX30_goesBy x0 x1 x2) :=
  (lc_ite (lc_ret _) (lc_ite (lc_nn (lc_gf (by decide) fun v4 => (lc_rb _))) (lc_ite (lc_nn (lc_gf (by decide) fun v7 => (lc_ite (lc_ret _) (lc_ret _)))) (lc_ite (lc_nn (lc_gf (by decide) fun v10 => (lc_rb _))) (lc_ite (lc_nn (lc_gf (by decide) fun v13 => (lc_ite (lc_ret _) (lc_ret _)))) (lc_nn (lc_nn (lc_gf (by decide) fun v16 => (lc_gf (by decide) fun v17 => (lc_al (by decide) fun v18 => (lc_as (by decide) (lc_gf (by decide) fun v19 => (lc_al (by decide) fun v20 => (lc_cl (lc_fX9_tellHalf x2 v20) fun _ => (lc_gf (by decide) fun v22 => (lc_al (by decide) fun v23 => (lc_ite (lc_ret _) (lc_ret _))))))))))))))))))
theorem lc_fX30_run_27 (x2 : Int) (x3 : Int) : zLoc zSc (fX30_run_27 x2 x3) :=
  (lc_cl (lc_fX30_goesBy 0 x2 x3) fun v1 => (lc_ite (lc_ret _) (lc_gf (by decide) fun v2 => (lc_pf (by decide) (lc_gf (by decide) fun v3 => (lc_pf (by decide) (lc_ret _)))))))
theorem lc_fX30_run_28 (x2 : Int) (x3 : Int) : zLoc zSc (fX30_run_28 x2 x3) :=
  (lc_cl (lc_fX30_goesBy 1 x2 x3) fun v1 => (lc_ite (lc_ret _) (lc_gf (by decide) fun v2 => (lc_pf (by decide) (lc_gf (by decide) fun v3 => (lc_pf (by decide) (lc_ret _)))))))
theorem lc_fX30_run_29 (x2 : Int) (x3 : Int) : zLoc zSc (fX30_run_29 x2 x3) :=
  (lc_cl (lc_fX30_goesBy 2 x2 x3) fun v1 => (lc_ite (lc_ret _) (lc_gf (by decide) fun v2 => (lc_pf (by decide) (lc_gf (by decide) fun v3 => (lc_pf (by decide) (lc_ret _)))))))
theorem lc_fX30_run_30 (x2 : Int) (x3 : Int) : zLoc zSc (fX30_run_30 x2 x3) :=
  (lc_cl (lc_fX30_goesBy 3 x2 x3) fun v1 => (lc_ite (lc_ret _) (lc_gf (by decide) fun v2 => (lc_pf (by decide) (lc_gf (by decide) fun v3 => (lc_pf (by decide) (lc_ret _)))))))
theorem lc_fX30_run_31 (x2 : Int) (x3 : Int) : zLoc zSc (fX30_run_31 x2 x3) :=
  (lc_cl (lc_fX30_goesBy 4 x2 x3) fun v1 => (lc_ite (lc_ret _) (lc_gf (by decide) fun v2 => (lc_pf (by decide) (lc_gf (by decide) fun v3 => (lc_pf (by decide) (lc_ret _)))))))
theorem lc_fX30_run_32 (x2 : Int) (x3 : Int) : zLoc zSc (fX30_run_32 x2 x3) :=
  (lc_cl (lc_fX30_goesBy 5 x2 x3) fun v1 => (lc_ite (lc_ret _) (lc_gf (by decide) fun v2 => (lc_pf (by decide) (lc_gf (by decide) fun v3 => (lc_pf (by decide) (lc_ret _)))))))
theorem lc_fX31_deny_33 (x2 : Int) (x3 : Int) : zLoc zSc (fX31_deny_33 x2 x3) :=
  (lc_cl (lc_fX12_deny x2 x3) fun _ => (lc_gf (by decide) fun v2 => (lc_gf (by decide) fun v3 => (lc_gf (by decide) fun v4 => (lc_cl (lc_fX12_refuse x3 v2 v3 v4) fun v5 => (lc_ret _))))))
theorem lc_fX31_newRing_33_J90 (x2 : Int) (x3 : Int) : zLoc zSc (fX31_newRing_33_J90 x2 x3) :=
  (lc_cl (lc_fX31_deny_33 x2 x3) fun _ => (lc_ret _))
theorem lc_fX31_newRing_33 : zLoc zSc (fX31_newRing_33) :=
  (lc_gf (by decide) fun v1 => (lc_gf (by decide) fun v2 => (lc_gf (by decide) fun v3 => (lc_cl (lc_fX12_isThere v1 v2 v3) fun v4 => (lc_ite (lc_gf (by decide) fun v5 => (lc_ite (lc_gf (by decide) fun v6 => (lc_nn (lc_gf (by decide) fun v8 => (lc_al (by decide) fun v9 => (lc_gf (by decide) fun v10 => (lc_gf (by decide) fun v11 => (lc_gf (by decide) fun v12 => (lc_nn (lc_cl (lc_fX8_refusal v10 v11 v12 2) fun v14 => (lc_ite (lc_fX31_newRing_33_J90 v9 v14) (lc_ite (lc_gf (by decide) fun v16 => (lc_nn (lc_gf (by decide) fun v18 => (lc_ite (lc_gf (by decide) fun v19 => (lc_gf (by decide) fun v20 => (lc_ite (lc_gf (by decide) fun v21 => (lc_gf (by decide) fun v22 => (lc_ite (lc_gf (by decide) fun v23 => (lc_gf (by decide) fun v24 => (lc_ite (lc_gf (by decide) fun v25 => (lc_ret _)) (lc_gf (by decide) fun v26 => (lc_nn (lc_cl (lc_fX13_add v26 1 v9 6) fun _ => (lc_gf (by decide) fun v29 => (lc_gf (by decide) fun v30 => (lc_gf (by decide) fun v31 => (lc_cl (lc_fX12_refuse 6 v29 v30 v31) fun v32 => (lc_ret _))))))))))) (lc_cl (lc_fX31_deny_33 v9 5) fun _ => (lc_ret _))))) (lc_gf (by decide) fun v34 => (lc_ret _))))) (lc_gf (by decide) fun v35 => (lc_nn (lc_cl (lc_fX13_add v35 1 v9 7) fun _ => (lc_gf (by decide) fun v38 => (lc_gf (by decide) fun v39 => (lc_gf (by decide) fun v40 => (lc_cl (lc_fX12_refuse 7 v38 v39 v40) fun v41 => (lc_ret _)))))))))))) (lc_fX31_newRing_33_J90 v9 v14)))))))))))) (lc_gf (by decide) fun v42 => (lc_gf (by decide) fun v43 => (lc_gf (by decide) fun v44 => (lc_cl (lc_fX12_refuse 3 v42 v43 v44) fun v45 => (lc_ret _))))))) (lc_ret _))))))
theorem lc_fX12_cross_J64 (x1 : Int) (x2 : Int) : zLoc zSc (fX12_cross_J64 x1 x2) :=
  (lc_nn (lc_pf (by decide) (lc_ret _)))
theorem lc_fX12_cross_J49 (x1 : Int) (x2 : Int) (s0 : Int) (s1 : Int) : zLoc zSc (fX12_cross_J49 x1 x2 s0 s1) :=
  (lc_gf (by decide) fun v9 => (lc_gf (by decide) fun v10 => (lc_nn (lc_cl (lc_fX8_event s0 s1 x1 v9 v10) fun _ => (lc_fX12_cross_J64 x1 x2)))))
theorem lc_fX12_cross (x1 : Int) : zLoc zSc (fX12_cross x1) :=
  (lc_gf (by decide) fun v1 => (lc_nn (lc_gf (by decide) fun v3 => (lc_pf (by decide) (lc_gf (by decide) fun v4 => (lc_pf (by decide) (lc_gf (by decide) fun v5 => (lc_ite (lc_fX12_cross_J64 x1 v1) (lc_gf (by decide) fun v7 => (lc_gf (by decide) fun v8 => (lc_ite (lc_fX12_cross_J49 x1 v1 v7 4) (lc_fX12_cross_J49 x1 v1 v7 3))))))))))))
theorem lc_fX31_run_33 (x2 : Int) (x3 : Int) : zLoc zSc (fX31_run_33 x2 x3) :=
  (lc_cl lc_fX31_newRing_33 fun v1 => (lc_ite (lc_nn (lc_gf (by decide) fun v3 => (lc_gf (by decide) fun v4 => (lc_gf (by decide) fun v5 => (lc_cl (lc_fX9_point x3 7 v3 ((zi (v4 + 1)) % 262144) v5) fun _ => (lc_cl (lc_fX9_point x3 6 v1 0 v1) fun _ => (lc_cl (lc_fX12_cross v1) fun _ => (lc_ret _)))))))) (lc_ret _)))
theorem lc_fX32_run_34 (x2 : Int) (x3 : Int) : zLoc zSc (fX32_run_34 x2 x3) :=
  (lc_gf (by decide) fun v1 => (lc_cl (lc_fX12_cross v1) fun _ => (lc_ret _)))
theorem lc_fX37_run_0 (x2 : Int) (x3 : Int) : zLoc zSc (fX37_run_0 x2 x3) :=
  (lc_nn (lc_gf (by decide) fun v2 => (lc_nn (lc_cl (lc_fX8_event x2 1 v2 0 0) fun _ => (lc_ret _)))))
theorem lc_fX8_refusal_2_J82 (s0 : Int) (s1 : Int) : zLoc zSc (fX8_refusal_2_J82 s0 s1) :=
  (lc_ite (lc_ret _) (lc_ret _))
theorem lc_fX8_refusal_2_J59 (x0 : Int) (x1 : Int) (x2 : Int) : zLoc zSc (fX8_refusal_2_J59 x0 x1 x2) :=
  (lc_gf (by decide) fun v7 => (lc_ite (lc_nn (lc_gf (by decide) fun v9 => (lc_fX8_refusal_2_J82 v7 v9))) (lc_nn (lc_gf (by decide) fun v11 => (lc_fX8_refusal_2_J82 v7 v11)))))
theorem lc_fX8_refusal_2 (x0 : Int) (x1 : Int) (x2 : Int) : zLoc zSc (fX8_refusal_2 x0 x1 x2) :=
  (lc_nn (lc_gf (by decide) fun v2 => (lc_gf (by decide) fun v3 => (lc_cl (lc_fX5_of (3 * x1) v2 v3) fun v4 => (lc_ite (lc_ite (lc_gf (by decide) fun v5 => (lc_gf (by decide) fun v6 => (lc_ite (lc_fX8_refusal_2_J59 x0 x1 x2) (lc_ret _)))) (lc_gf (by decide) fun v12 => (lc_gf (by decide) fun v13 => (lc_cl (lc_fX0_dominates v12 v13) fun v14 => (lc_ite (lc_fX8_refusal_2_J59 x0 x1 x2) (lc_ret _)))))) (lc_ret _))))))
theorem lc_fX39_on_1 (x2 : Int) (x3 : Int) (x4 : Int) : zLoc zSc (fX39_on_1 x2 x3 x4) :=
  (lc_nn (lc_cl (lc_fX4_isDirectory x2) fun v2 => (lc_ite (lc_nn (lc_gf (by decide) fun v4 => (lc_gf (by decide) fun v5 => (lc_cl (lc_fX0_dominates v4 v5) fun v6 => (lc_ite (lc_pf (by decide) (lc_ret _)) (lc_ret _)))))) (lc_ret _))))
theorem lc_fX38_run_1 (x2 : Int) (x3 : Int) : zLoc zSc (fX38_run_1 x2 x3) :=
  (lc_nn (lc_gf (by decide) fun v2 => (lc_pf (by decide) (lc_gf (by decide) fun v3 => (lc_cl (lc_fX8_refusal_2 x2 v3 1) fun v4 => (lc_ite (lc_nn (lc_gf (by decide) fun v6 => (lc_cl (lc_fX0_isName v6) fun v7 => (lc_ite (lc_gf (by decide) fun v8 => (lc_gf (by decide) fun v9 => (lc_cl (lc_fX2_find v8 v9) fun v10 => (lc_pf (by decide) (lc_ite (lc_ret _) (lc_cl (lc_fX39_on_1 v10 x2 x3) fun v12 => (lc_ret _))))))) (lc_ret _))))) (lc_ret _)))))))
theorem lc_fX40_run_2_J48 (s0 : Int) (s1 : Int) : zLoc zSc (fX40_run_2_J48 s0 s1) :=
  (lc_nn (lc_pf (by decide) (lc_ret _)))
theorem lc_fX40_run_2_J23 (x2 : Int) : zLoc zSc (fX40_run_2_J23 x2) :=
  (lc_nn (lc_gf (by decide) fun v4 => (lc_nn (lc_gf (by decide) fun v6 => (lc_fX40_run_2_J48 x2 v6)))))
theorem lc_fX40_run_2 (x2 : Int) (x3 : Int) : zLoc zSc (fX40_run_2 x2 x3) :=
  (lc_nn (lc_gf (by decide) fun v2 => (lc_ite (lc_fX40_run_2_J23 x2) (lc_ret _))))
theorem lc_fX40_run_3_J48 (s0 : Int) (s1 : Int) : zLoc zSc (fX40_run_3_J48 s0 s1) :=
  (lc_nn (lc_pf (by decide) (lc_ret _)))
theorem lc_fX40_run_3_J23 (x2 : Int) : zLoc zSc (fX40_run_3_J23 x2) :=
  (lc_fX40_run_3_J48 x2 0)
theorem lc_fX40_run_3 (x2 : Int) (x3 : Int) : zLoc zSc (fX40_run_3 x2 x3) :=
  (lc_fX40_run_3_J23 x2)
theorem lc_fX8_numberFor_J44 (x0 : Int) (x1 : Int) (x2 : Int) : zLoc zSc (fX8_numberFor_J44 x0 x1 x2) :=
  (lc_ite (lc_ret _) (lc_cl (lc_fX8_know x0 x2 x1) fun _ => (lc_ret _)))
theorem lc_fX8_numberFor_J37 {r5 : Int × Int → zX} (hr5 : ∀ s, zLoc zSc (r5 s)) (x0 : Int) (x1 : Int) (x3 : Int) (s0 : Int) : zLoc zSc (fX8_numberFor_J37 r5 x0 x1 x3 s0) :=
  (lc_lt fun v5 => (hr5 (s0, v5)))
theorem lc_fX8_numberFor_B5 (x0 : Int) (x1 : Int) : ∀ r5 : Int × Int → zX, (∀ s, zLoc zSc (r5 s)) → ∀ s, zLoc zSc (fX8_numberFor_B5 x0 x1 r5 s) := by
  intro r5 hr5 s
  obtain ⟨x2, x3⟩ := s
  unfold fX8_numberFor_B5
  exact (lc_ite (lc_fX8_numberFor_J44 x0 x1 x2) (lc_al (by decide) fun v2 => (lc_ite (lc_al (by decide) fun v3 => (lc_ite (lc_fX8_numberFor_J37 hr5 x0 x1 x3 x3) (lc_fX8_numberFor_J37 hr5 x0 x1 x3 x2))) (lc_ret _))))
theorem lc_fX8_numberFor (x0 : Int) (x1 : Int) : zLoc zSc (fX8_numberFor x0 x1) :=
  (lc_lp (lc_fX8_numberFor_B5 x0 x1) zBIG ((-1), 31))
theorem lc_fX41_on_4 (x2 : Int) (x3 : Int) (x4 : Int) : zLoc zSc (fX41_on_4 x2 x3 x4) :=
  (lc_nn (lc_cl (lc_fX4_isSegment x2) fun v2 => (lc_ite (lc_nn (lc_gf (by decide) fun v4 => (lc_gf (by decide) fun v5 => (lc_cl (lc_fX5_of (3 * x2) v4 v5) fun v6 => (lc_ite (lc_cl (lc_fX8_numberFor x3 x2) fun v7 => (lc_ite (lc_nn (lc_pf (by decide) (lc_ret _))) (lc_ret _))) (lc_ret _)))))) (lc_ret _))))
theorem lc_fX38_run_4 (x2 : Int) (x3 : Int) : zLoc zSc (fX38_run_4 x2 x3) :=
  (lc_nn (lc_gf (by decide) fun v2 => (lc_pf (by decide) (lc_gf (by decide) fun v3 => (lc_cl (lc_fX8_refusal_2 x2 v3 1) fun v4 => (lc_ite (lc_nn (lc_gf (by decide) fun v6 => (lc_cl (lc_fX0_isName v6) fun v7 => (lc_ite (lc_gf (by decide) fun v8 => (lc_gf (by decide) fun v9 => (lc_cl (lc_fX2_find v8 v9) fun v10 => (lc_pf (by decide) (lc_ite (lc_ret _) (lc_cl (lc_fX41_on_4 v10 x2 x3) fun v12 => (lc_ret _))))))) (lc_ret _))))) (lc_ret _)))))))
theorem lc_fX12_isKnown (x0 : Int) (x1 : Int) : zLoc zSc (fX12_isKnown x0 x1) :=
  (lc_cl (lc_fX0_isIn x1 8 31) fun v1 => (lc_ite (lc_ret _) (lc_nn (lc_al (by decide) fun v3 => (lc_ite (lc_ret _) (lc_ret _))))))
theorem lc_fX42_run_5 (x2 : Int) (x3 : Int) : zLoc zSc (fX42_run_5 x2 x3) :=
  (lc_nn (lc_gf (by decide) fun v2 => (lc_cl (lc_fX12_isKnown x2 v2) fun v3 => (lc_ite (lc_gf (by decide) fun v4 => (lc_nn (lc_cl (lc_fX8_forget x2 (zi v4)) fun _ => (lc_ret _)))) (lc_ret _)))))
theorem lc_fX43_run_6_J70 (x3 : Int) (x5 : Int) : zLoc zSc (fX43_run_6_J70 x3 x5) :=
  (lc_ite (lc_ret _) (lc_gf (by decide) fun v11 => (lc_nn (lc_pf (by decide) (lc_ret _)))))
theorem lc_fX43_run_6_B42 (x3 : Int) : ∀ r42 : Int × Int → zX, (∀ s, zLoc zSc (r42 s)) → ∀ s, zLoc zSc (fX43_run_6_B42 x3 r42 s) := by
  intro r42 hr42 s
  obtain ⟨x5, x6⟩ := s
  unfold fX43_run_6_B42
  exact (lc_ite (lc_fX43_run_6_J70 x3 x5) (lc_ite (lc_fX43_run_6_J70 x3 x5) (lc_gf (by decide) fun v14 => (lc_lt fun v15 => (hr42 (v14, v15))))))
theorem lc_fX43_run_6 (x2 : Int) (x3 : Int) : zLoc zSc (fX43_run_6 x2 x3) :=
  (lc_nn (lc_gf (by decide) fun v2 => (lc_pf (by decide) (lc_gf (by decide) fun v3 => (lc_cl (lc_fX8_refusal_2 x2 v3 1) fun v4 => (lc_ite (lc_gf (by decide) fun v5 => (lc_nn (lc_gf (by decide) fun v7 => (lc_nn (lc_gf (by decide) fun v9 => (lc_lp (lc_fX43_run_6_B42 x3) zBIG (v7, v9))))))) (lc_ret _)))))))
theorem lc_fX44_on_7 (x2 : Int) (x3 : Int) (x4 : Int) : zLoc zSc (fX44_on_7 x2 x3 x4) :=
  (lc_nn (lc_gf (by decide) fun v2 => (lc_gf (by decide) fun v3 => (lc_gf (by decide) fun v4 => (lc_gf (by decide) fun v5 => (lc_gf (by decide) fun v6 => (lc_gf (by decide) fun v7 => (lc_nn (lc_pf (by decide) (lc_ret _))))))))))
theorem lc_fX38_run_7 (x2 : Int) (x3 : Int) : zLoc zSc (fX38_run_7 x2 x3) :=
  (lc_nn (lc_gf (by decide) fun v2 => (lc_pf (by decide) (lc_gf (by decide) fun v3 => (lc_cl (lc_fX8_refusal_2 x2 v3 1) fun v4 => (lc_ite (lc_nn (lc_gf (by decide) fun v6 => (lc_cl (lc_fX0_isName v6) fun v7 => (lc_ite (lc_gf (by decide) fun v8 => (lc_gf (by decide) fun v9 => (lc_cl (lc_fX2_find v8 v9) fun v10 => (lc_pf (by decide) (lc_ite (lc_ret _) (lc_cl (lc_fX44_on_7 v10 x2 x3) fun v12 => (lc_ret _))))))) (lc_ret _))))) (lc_ret _)))))))
theorem lc_fX45_isRight_8 (x1 : Int) (x2 : Int) : zLoc zSc (fX45_isRight_8 x1 x2) :=
  (lc_nn (lc_gf (by decide) fun v2 => (lc_cl (lc_fX0_isName v2) fun v3 => (lc_ite (lc_gf (by decide) fun v4 => (lc_ite (lc_ret _) (lc_ret _))) (lc_ret _)))))
theorem lc_fX45_run_8_J113 (x2 : Int) (x3 : Int) (s0 : Int) : zLoc zSc (fX45_run_8_J113 x2 x3 s0) :=
  (lc_ite (lc_ib (lc_nn (lc_gf (by decide) fun v14 => (lc_gf (by decide) fun v15 => (lc_gf (by decide) fun v16 => (lc_cl (lc_fX4_setBrackets s0 v14 v15 v16) fun _ => (lc_cl (lc_fX5_clear (3 * s0)) fun _ => (lc_nn (lc_gf (by decide) fun v20 => (lc_gf (by decide) fun v21 => (lc_cl (lc_fX5_set (3 * s0) v20 v21 7) fun v22 => (lc_gf (by decide) fun v23 => (lc_nn (lc_cl (lc_fX4_initial v23 2) fun v25 => (lc_cl (lc_fX5_take (3 * s0) v25) fun _ => (lc_gf (by decide) fun v27 => (lc_pf (by decide) (lc_ret _)))))))))))))))))) (lc_ret _))
theorem lc_fX45_run_8 (x2 : Int) (x3 : Int) : zLoc zSc (fX45_run_8 x2 x3) :=
  (lc_nn (lc_gf (by decide) fun v2 => (lc_pf (by decide) (lc_gf (by decide) fun v3 => (lc_cl (lc_fX8_refusal_2 x2 v3 4) fun v4 => (lc_ite (lc_cl (lc_fX45_isRight_8 x2 x3) fun v5 => (lc_ite (lc_gf (by decide) fun v6 => (lc_nn (lc_gf (by decide) fun v8 => (lc_gf (by decide) fun v9 => (lc_cl (lc_fX12_newSegment v6 v8 (zi v9)) fun v10 => (lc_fX45_run_8_J113 x2 x3 v10)))))) (lc_ret _))) (lc_ret _)))))))
theorem lc_fX45_isRight_9 (x1 : Int) (x2 : Int) : zLoc zSc (fX45_isRight_9 x1 x2) :=
  (lc_nn (lc_gf (by decide) fun v2 => (lc_cl (lc_fX0_isName v2) fun v3 => (lc_ite (lc_gf (by decide) fun v4 => (lc_cl (lc_fX0_isLabel v4) fun v5 => (lc_ite (lc_ret _) (lc_gf (by decide) fun v6 => (lc_nn (lc_gf (by decide) fun v8 => (lc_nn (lc_gf (by decide) fun v10 => (lc_al (by decide) fun v11 => (lc_cl (lc_fX0_isRightLimit (zi v6) v10 v11) fun v12 => (lc_ite (lc_ret _) (lc_ret _)))))))))))) (lc_ret _)))))
theorem lc_fX45_run_9_J113 (x2 : Int) (x3 : Int) (s0 : Int) : zLoc zSc (fX45_run_9_J113 x2 x3 s0) :=
  (lc_ite (lc_ib (lc_nn (lc_gf (by decide) fun v15 => (lc_gf (by decide) fun v16 => (lc_gf (by decide) fun v17 => (lc_cl (lc_fX4_setBrackets s0 v15 v16 v17) fun _ => (lc_cl (lc_fX5_clear (3 * s0)) fun _ => (lc_nn (lc_gf (by decide) fun v21 => (lc_gf (by decide) fun v22 => (lc_cl (lc_fX5_set (3 * s0) v21 v22 7) fun v23 => (lc_gf (by decide) fun v24 => (lc_nn (lc_cl (lc_fX4_initial v24 1) fun v26 => (lc_cl (lc_fX5_take (3 * s0) v26) fun _ => (lc_gf (by decide) fun v28 => (lc_pf (by decide) (lc_ret _)))))))))))))))))) (lc_ret _))
theorem lc_fX45_run_9 (x2 : Int) (x3 : Int) : zLoc zSc (fX45_run_9 x2 x3) :=
  (lc_nn (lc_gf (by decide) fun v2 => (lc_pf (by decide) (lc_gf (by decide) fun v3 => (lc_cl (lc_fX8_refusal_2 x2 v3 4) fun v4 => (lc_ite (lc_cl (lc_fX45_isRight_9 x2 x3) fun v5 => (lc_ite (lc_gf (by decide) fun v6 => (lc_nn (lc_gf (by decide) fun v8 => (lc_gf (by decide) fun v9 => (lc_al (by decide) fun v10 => (lc_cl (lc_fX12_newDirectory v6 v8 (zi v9) v10) fun v11 => (lc_fX45_run_9_J113 x2 x3 v11))))))) (lc_ret _))) (lc_ret _)))))))
theorem lc_fX4_isUpgraded (x0 : Int) : zLoc zSc (fX4_isUpgraded x0) :=
  (lc_gf (by decide) fun v1 => (lc_ite (lc_ret _) (lc_gf (by decide) fun v3 => (lc_gf (by decide) fun v4 => (lc_nn (lc_gf (by decide) fun v6 => (lc_ite (lc_ret _) (lc_ret _))))))))
theorem lc_fX46_on_10 (x2 : Int) (x3 : Int) (x4 : Int) : zLoc zSc (fX46_on_10 x2 x3 x4) :=
  (lc_nn (lc_cl (lc_fX4_isUpgraded x2) fun v2 => (lc_ite (lc_nn (lc_gf (by decide) fun v4 => (lc_gf (by decide) fun v5 => (lc_ite (lc_gf (by decide) fun v6 => (lc_ite (lc_cl (lc_fX1_remove 300 x2) fun v7 => (lc_ret _)) (lc_ret _))) (lc_ret _))))) (lc_ret _))))
theorem lc_fX38_run_10 (x2 : Int) (x3 : Int) : zLoc zSc (fX38_run_10 x2 x3) :=
  (lc_nn (lc_gf (by decide) fun v2 => (lc_pf (by decide) (lc_gf (by decide) fun v3 => (lc_cl (lc_fX8_refusal_2 x2 v3 2) fun v4 => (lc_ite (lc_nn (lc_gf (by decide) fun v6 => (lc_cl (lc_fX0_isName v6) fun v7 => (lc_ite (lc_gf (by decide) fun v8 => (lc_gf (by decide) fun v9 => (lc_cl (lc_fX2_find v8 v9) fun v10 => (lc_pf (by decide) (lc_ite (lc_ret _) (lc_cl (lc_fX46_on_10 v10 x2 x3) fun v12 => (lc_ret _))))))) (lc_ret _))))) (lc_ret _)))))))
theorem lc_fX47_on_11_J64 (x2 : Int) (x4 : Int) : zLoc zSc (fX47_on_11_J64 x2 x4) :=
  (lc_nn (lc_gf (by decide) fun v13 => (lc_cl (lc_fX1_rename x2 v13) fun _ => (lc_ret _))))
theorem lc_fX47_on_11 (x2 : Int) (x3 : Int) (x4 : Int) : zLoc zSc (fX47_on_11 x2 x3 x4) :=
  (lc_nn (lc_gf (by decide) fun v2 => (lc_cl (lc_fX0_isName v2) fun v3 => (lc_ite (lc_gf (by decide) fun v4 => (lc_nn (lc_gf (by decide) fun v6 => (lc_ite (lc_nn (lc_gf (by decide) fun v8 => (lc_gf (by decide) fun v9 => (lc_cl (lc_fX2_find v8 v9) fun v10 => (lc_ite (lc_fX47_on_11_J64 x2 x4) (lc_ite (lc_fX47_on_11_J64 x2 x4) (lc_ret _))))))) (lc_ret _))))) (lc_ret _)))))
theorem lc_fX38_run_11 (x2 : Int) (x3 : Int) : zLoc zSc (fX38_run_11 x2 x3) :=
  (lc_nn (lc_gf (by decide) fun v2 => (lc_pf (by decide) (lc_gf (by decide) fun v3 => (lc_cl (lc_fX8_refusal_2 x2 v3 2) fun v4 => (lc_ite (lc_nn (lc_gf (by decide) fun v6 => (lc_cl (lc_fX0_isName v6) fun v7 => (lc_ite (lc_gf (by decide) fun v8 => (lc_gf (by decide) fun v9 => (lc_cl (lc_fX2_find v8 v9) fun v10 => (lc_pf (by decide) (lc_ite (lc_ret _) (lc_cl (lc_fX47_on_11 v10 x2 x3) fun v12 => (lc_ret _))))))) (lc_ret _))))) (lc_ret _)))))))
theorem lc_fX48_on_12 (x2 : Int) (x3 : Int) (x4 : Int) : zLoc zSc (fX48_on_12 x2 x3 x4) :=
  (lc_nn (lc_al (by decide) fun v2 => (lc_ite (lc_ret _) (lc_al (by decide) fun v3 => (lc_ite (lc_ret _) (lc_al (by decide) fun v4 => (lc_ite (lc_gf (by decide) fun v5 => (lc_nn (lc_gf (by decide) fun v7 => (lc_ite (lc_gf (by decide) fun v8 => (lc_pf (by decide) (lc_al (by decide) fun v9 => (lc_al (by decide) fun v10 => (lc_al (by decide) fun v11 => (lc_cl (lc_fX5_set (3 * x2) v9 v10 v11) fun v12 => (lc_ret _))))))) (lc_ret _))))) (lc_ret _))))))))
theorem lc_fX38_run_12 (x2 : Int) (x3 : Int) : zLoc zSc (fX38_run_12 x2 x3) :=
  (lc_nn (lc_gf (by decide) fun v2 => (lc_pf (by decide) (lc_gf (by decide) fun v3 => (lc_cl (lc_fX8_refusal_2 x2 v3 2) fun v4 => (lc_ite (lc_nn (lc_gf (by decide) fun v6 => (lc_cl (lc_fX0_isName v6) fun v7 => (lc_ite (lc_gf (by decide) fun v8 => (lc_gf (by decide) fun v9 => (lc_cl (lc_fX2_find v8 v9) fun v10 => (lc_pf (by decide) (lc_ite (lc_ret _) (lc_cl (lc_fX48_on_12 v10 x2 x3) fun v12 => (lc_ret _))))))) (lc_ret _))))) (lc_ret _)))))))
theorem lc_fX49_on_13_J79 (x2 : Int) (x4 : Int) (x5 : Int) (x6 : Int) (x7 : Int) (x8 : Int) (s0 : Int) (s1 : Int) : zLoc zSc (fX49_on_13_J79 x2 x4 x5 x6 x7 x8 s0 s1) :=
  (lc_ite (lc_nn (lc_gf (by decide) fun v14 => (lc_nn (lc_gf (by decide) fun v16 => (lc_ite (lc_ret _) (lc_gf (by decide) fun v17 => (lc_ite (lc_cl (lc_fX4_setBrackets x2 x5 x6 x7) fun _ => (lc_pf (by decide) (lc_ret _))) (lc_ret _)))))))) (lc_ret _))
theorem lc_fX49_on_13 (x2 : Int) (x3 : Int) (x4 : Int) : zLoc zSc (fX49_on_13 x2 x3 x4) :=
  (lc_nn (lc_gf (by decide) fun v2 => (lc_lt fun v3 => (lc_gf (by decide) fun v4 => (lc_lt fun v5 => (lc_gf (by decide) fun v6 => (lc_lt fun v7 => (lc_gf (by decide) fun v8 => (lc_lt fun v9 => (lc_cl (lc_fX0_areBrackets v3 v5 v7) fun v10 => (lc_ite (lc_ret _) (lc_nn (lc_cl (lc_fX4_isSegment x2) fun v12 => (lc_ite (lc_fX49_on_13_J79 x2 x4 v3 v5 v7 v9 v9 0) (lc_fX49_on_13_J79 x2 x4 v3 v5 v7 v9 v9 63)))))))))))))))
theorem lc_fX38_run_13 (x2 : Int) (x3 : Int) : zLoc zSc (fX38_run_13 x2 x3) :=
  (lc_nn (lc_gf (by decide) fun v2 => (lc_pf (by decide) (lc_gf (by decide) fun v3 => (lc_cl (lc_fX8_refusal_2 x2 v3 2) fun v4 => (lc_ite (lc_nn (lc_gf (by decide) fun v6 => (lc_cl (lc_fX0_isName v6) fun v7 => (lc_ite (lc_gf (by decide) fun v8 => (lc_gf (by decide) fun v9 => (lc_cl (lc_fX2_find v8 v9) fun v10 => (lc_pf (by decide) (lc_ite (lc_ret _) (lc_cl (lc_fX49_on_13 v10 x2 x3) fun v12 => (lc_ret _))))))) (lc_ret _))))) (lc_ret _)))))))
theorem lc_fX50_run_14 (x2 : Int) (x3 : Int) : zLoc zSc (fX50_run_14 x2 x3) :=
  (lc_nn (lc_gf (by decide) fun v2 => (lc_cl (lc_fX12_isKnown x2 v2) fun v3 => (lc_ite (lc_gf (by decide) fun v4 => (lc_lt fun v5 => (lc_nn (lc_al (by decide) fun v7 => (lc_pf (by decide) (lc_gf (by decide) fun v8 => (lc_cl (lc_fX8_refusal x2 v5 v8 4) fun v9 => (lc_ite (lc_gf (by decide) fun v10 => (lc_ite (lc_al (by decide) fun v11 => (lc_gf (by decide) fun v12 => (lc_cl (lc_fX12_newLength v11 (zi v12)) fun v13 => (lc_ite (lc_ret _) (lc_ret _))))) (lc_ret _))) (lc_ite (lc_ite (lc_ret _) (lc_ret _)) (lc_ret _)))))))))) (lc_ret _)))))
theorem lc_fX51_on_15 (x2 : Int) (x3 : Int) (x4 : Int) : zLoc zSc (fX51_on_15 x2 x3 x4) :=
  (lc_nn (lc_gf (by decide) fun v2 => (lc_ite (lc_cl (lc_fX4_isUpgraded x2) fun v3 => (lc_ite (lc_nn (lc_gf (by decide) fun v5 => (lc_gf (by decide) fun v6 => (lc_ite (lc_gf (by decide) fun v7 => (lc_cl (lc_fX0_isIn v7 1 255) fun v8 => (lc_ite (lc_gf (by decide) fun v9 => (lc_cl (lc_fX1_limit x2 (zi v9)) fun v10 => (lc_ite (lc_ret _) (lc_ret _)))) (lc_ret _)))) (lc_ret _))))) (lc_ret _))) (lc_ret _))))
theorem lc_fX38_run_15 (x2 : Int) (x3 : Int) : zLoc zSc (fX38_run_15 x2 x3) :=
  (lc_nn (lc_gf (by decide) fun v2 => (lc_pf (by decide) (lc_gf (by decide) fun v3 => (lc_cl (lc_fX8_refusal_2 x2 v3 2) fun v4 => (lc_ite (lc_nn (lc_gf (by decide) fun v6 => (lc_cl (lc_fX0_isName v6) fun v7 => (lc_ite (lc_gf (by decide) fun v8 => (lc_gf (by decide) fun v9 => (lc_cl (lc_fX2_find v8 v9) fun v10 => (lc_pf (by decide) (lc_ite (lc_ret _) (lc_cl (lc_fX51_on_15 v10 x2 x3) fun v12 => (lc_ret _))))))) (lc_ret _))))) (lc_ret _)))))))
theorem lc_fX52_run_16_J40 (s0 : Int) (s1 : Int) (s2 : Int) : zLoc zSc (fX52_run_16_J40 s0 s1 s2) :=
  (lc_as (by decide) (lc_ret _))
theorem lc_fX52_run_16 (x2 : Int) (x3 : Int) : zLoc zSc (fX52_run_16 x2 x3) :=
  (lc_nn (lc_al (by decide) fun v2 => (lc_ite (lc_nn (lc_al (by decide) fun v4 => (lc_gf (by decide) fun v5 => (lc_ite (lc_gf (by decide) fun v6 => (lc_fX52_run_16_J40 x2 v4 v6)) (lc_fX52_run_16_J40 x2 v4 (-1)))))) (lc_ret _))))
theorem lc_fX53_run_17_J15 (x2 : Int) (x3 : Int) (s0 : Int) (s1 : Int) : zLoc zSc (fX53_run_17_J15 x2 x3 s0 s1) :=
  (lc_nn (lc_pb (by decide) (lc_nn (lc_al (by decide) fun v6 => (lc_nn (lc_pf (by decide) (lc_al (by decide) fun v8 => (lc_pf (by decide) (lc_gf (by decide) fun v9 => (lc_pf (by decide) (lc_ret _)))))))))))
theorem lc_fX53_run_17 (x2 : Int) (x3 : Int) : zLoc zSc (fX53_run_17 x2 x3) :=
  (lc_nn (lc_gf (by decide) fun v2 => (lc_ite (lc_fX53_run_17_J15 x2 x3 x2 0) (lc_fX53_run_17_J15 x2 x3 x2 1))))
theorem lc_fX54_run_18_J81 (x2 : Int) (s0 : Int) (s1 : Int) : zLoc zSc (fX54_run_18_J81 x2 s0 s1) :=
  (lc_nn (lc_pf (by decide) (lc_nn (lc_gf (by decide) fun v16 => (lc_pf (by decide) (lc_pf (by decide) (lc_ret _)))))))
theorem lc_fX54_run_18_J51 (x2 : Int) (x3 : Int) (x4 : Int) (s0 : Int) : zLoc zSc (fX54_run_18_J51 x2 x3 x4 s0) :=
  (lc_nn (lc_cl (lc_fX9_copy x3 x4) fun _ => (lc_ite (lc_gf (by decide) fun v13 => (lc_fX54_run_18_J81 x2 x3 ((zi (v13 + 1)) % 262144))) (lc_gf (by decide) fun v17 => (lc_fX54_run_18_J81 x2 x3 v17)))))
theorem lc_fX54_run_18 (x2 : Int) (x3 : Int) : zLoc zSc (fX54_run_18 x2 x3) :=
  (lc_nn (lc_gf (by decide) fun v2 => (lc_ite (lc_gf (by decide) fun v3 => (lc_ib (lc_lt fun v6 => (lc_nn (lc_gf (by decide) fun v8 => (lc_gf (by decide) fun v9 => (lc_ite (lc_al (by decide) fun v10 => (lc_ite (lc_fX54_run_18_J51 x2 x3 v6 0) (lc_fX54_run_18_J51 x2 x3 v6 1))) (lc_ret _)))))))) (lc_ret _))))
theorem lc_fX55_run_19 (x2 : Int) (x3 : Int) : zLoc zSc (fX55_run_19 x2 x3) :=
  (lc_nn (lc_al (by decide) fun v2 => (lc_ite (lc_ret _) (lc_al (by decide) fun v3 => (lc_ib (lc_gf (by decide) fun v6 => (lc_ite (lc_ret _) (lc_gf (by decide) fun v7 => (lc_nn (lc_gf (by decide) fun v9 => (lc_cl (lc_fX0_dominates v7 v9) fun v10 => (lc_ite (lc_ret _) (lc_cl (lc_fX8_isFull v3) fun v11 => (lc_ite (lc_ret _) (lc_gf (by decide) fun v12 => (lc_cl (lc_fX8_receive v3 v12) fun _ => (lc_ret _)))))))))))))))))
theorem lc_fX8_take (x0 : Int) : zLoc zSc (fX8_take x0) :=
  (lc_gf (by decide) fun v1 => (lc_al (by decide) fun v2 => (lc_gf (by decide) fun v3 => (lc_pf (by decide) (lc_gf (by decide) fun v4 => (lc_pf (by decide) (lc_ret _)))))))
theorem lc_fX56_run_20 (x2 : Int) (x3 : Int) : zLoc zSc (fX56_run_20 x2 x3) :=
  (lc_nn (lc_gf (by decide) fun v2 => (lc_ite (lc_cl (lc_fX8_take x2) fun v3 => (lc_nn (lc_pf (by decide) (lc_ret _)))) (lc_pf (by decide) (lc_cl (lc_fX8_event x2 7 0 0 0) fun _ => (lc_pf (by decide) (lc_ret _)))))))
theorem lc_fX57_run_21_J51 (s0 : Int) (s1 : Int) : zLoc zSc (fX57_run_21_J51 s0 s1) :=
  (lc_nn (lc_pf (by decide) (lc_ret _)))
theorem lc_fX57_run_21 (x2 : Int) (x3 : Int) : zLoc zSc (fX57_run_21 x2 x3) :=
  (lc_nn (lc_gf (by decide) fun v2 => (lc_fX57_run_21_J51 x3 v2)))
theorem lc_fX57_run_22_J51 (s0 : Int) (s1 : Int) : zLoc zSc (fX57_run_22_J51 s0 s1) :=
  (lc_nn (lc_pf (by decide) (lc_ret _)))
theorem lc_fX57_run_22 (x2 : Int) (x3 : Int) : zLoc zSc (fX57_run_22 x2 x3) :=
  (lc_nn (lc_gf (by decide) fun v2 => (lc_gf (by decide) fun v3 => (lc_gf (by decide) fun v4 => (lc_nn (lc_gf (by decide) fun v6 => (lc_fX57_run_22_J51 x3 (zl ((zl ((zl (v2 + (zl (16 * v3)))) + (zl (128 * v4)))) + (zl (4096 * v6)))))))))))
theorem lc_fX58_run_23_J130 (x3 : Int) (s0 : Int) : zLoc zSc (fX58_run_23_J130 x3 s0) :=
  (lc_nn (lc_pf (by decide) (lc_ret _)))
theorem lc_fX58_run_23_J103 (x2 : Int) (x3 : Int) (x4 : Int) (s0 : Int) : zLoc zSc (fX58_run_23_J103 x2 x3 x4 s0) :=
  (lc_nn (lc_gf (by decide) fun v15 => (lc_nn (lc_cl (lc_fX8_refusal x2 x4 v15 4) fun v17 => (lc_ite (lc_fX58_run_23_J130 x3 s0) (lc_fX58_run_23_J130 x3 (zoR s0 4)))))))
theorem lc_fX58_run_23_J76 (x2 : Int) (x3 : Int) (x4 : Int) (s0 : Int) : zLoc zSc (fX58_run_23_J76 x2 x3 x4 s0) :=
  (lc_nn (lc_gf (by decide) fun v11 => (lc_nn (lc_cl (lc_fX8_refusal x2 x4 v11 2) fun v13 => (lc_ite (lc_fX58_run_23_J103 x2 x3 x4 s0) (lc_fX58_run_23_J103 x2 x3 x4 (zoR s0 2)))))))
theorem lc_fX58_run_23_J32 (s0 : Int) (s1 : Int) : zLoc zSc (fX58_run_23_J32 s0 s1) :=
  (lc_nn (lc_pf (by decide) (lc_ret _)))
theorem lc_fX58_run_23 (x2 : Int) (x3 : Int) : zLoc zSc (fX58_run_23 x2 x3) :=
  (lc_nn (lc_gf (by decide) fun v2 => (lc_ite (lc_gf (by decide) fun v3 => (lc_cl (lc_fX12_isKnown x2 v3) fun v4 => (lc_ite (lc_gf (by decide) fun v5 => (lc_lt fun v6 => (lc_gf (by decide) fun v7 => (lc_nn (lc_cl (lc_fX8_refusal x2 v6 v7 1) fun v9 => (lc_ite (lc_fX58_run_23_J76 x2 x3 v6 0) (lc_fX58_run_23_J76 x2 x3 v6 1))))))) (lc_ret _)))) (lc_gf (by decide) fun v19 => (lc_gf (by decide) fun v20 => (lc_ite (lc_fX58_run_23_J32 x3 0) (lc_fX58_run_23_J32 x3 5)))))))
theorem lc_fX59_run_24 (x2 : Int) (x3 : Int) : zLoc zSc (fX59_run_24 x2 x3) :=
  (lc_nn (lc_gf (by decide) fun v2 => (lc_pf (by decide) (lc_gf (by decide) fun v3 => (lc_cl (lc_fX8_refusal_2 x2 v3 2) fun v4 => (lc_ite (lc_nn (lc_gf (by decide) fun v6 => (lc_cl (lc_fX0_isIn v6 1 2) fun v7 => (lc_ite (lc_ret _) (lc_al (by decide) fun v8 => (lc_ite (lc_ret _) (lc_al (by decide) fun v9 => (lc_ite (lc_ret _) (lc_al (by decide) fun v10 => (lc_ite (lc_gf (by decide) fun v11 => (lc_gf (by decide) fun v12 => (lc_nn (lc_cl (lc_fX4_initial v11 (zi v12)) fun v14 => (lc_al (by decide) fun v15 => (lc_al (by decide) fun v16 => (lc_al (by decide) fun v17 => (lc_nn (lc_cl (lc_fX5_set v14 v15 v16 v17) fun v19 => (lc_ret _)))))))))) (lc_ret _))))))))))) (lc_ret _)))))))
theorem lc_fX8_refusalOfBox (x0 : Int) (x1 : Int) (x2 : Int) : zLoc zSc (fX8_refusalOfBox x0 x1 x2) :=
  (lc_nn (lc_gf (by decide) fun v2 => (lc_gf (by decide) fun v3 => (lc_cl (lc_fX5_of (3 * x1) v2 v3) fun v4 => (lc_ite (lc_gf (by decide) fun v5 => (lc_gf (by decide) fun v6 => (lc_cl (lc_fX0_dominates v5 v6) fun v7 => (lc_ite (lc_gf (by decide) fun v8 => (lc_gf (by decide) fun v9 => (lc_ite (lc_ret _) (lc_ret _)))) (lc_ret _))))) (lc_ret _))))))
theorem lc_fX6_many_J28 {r4 : Int × Int → zX} (hr4 : ∀ s, zLoc zSc (r4 s)) (x0 : Int) (x1 : Int) (x3 : Int) (s0 : Int) (s1 : Int) : zLoc zSc (fX6_many_J28 r4 x0 x1 x3 s0 s1) :=
  (lc_lt fun v3 => (lc_lt fun v4 => (hr4 (v3, v4))))
theorem lc_fX6_many_B4 (x0 : Int) (x1 : Int) : ∀ r4 : Int × Int → zX, (∀ s, zLoc zSc (r4 s)) → ∀ s, zLoc zSc (fX6_many_B4 x0 x1 r4 s) := by
  intro r4 hr4 s
  obtain ⟨x2, x3⟩ := s
  unfold fX6_many_B4
  exact (lc_gf (by decide) fun v1 => (lc_ite (lc_ret _) (lc_al (by decide) fun v2 => (lc_ite (lc_fX6_many_J28 hr4 x0 x1 x3 x2 0) (lc_fX6_many_J28 hr4 x0 x1 x3 x2 1)))))
theorem lc_fX6_many (x0 : Int) (x1 : Int) : zLoc zSc (fX6_many x0 x1) :=
  (lc_lp (lc_fX6_many_B4 x0 x1) zBIG (0, 0))
theorem lc_fX6_post (x0 : Int) (x1 : Int) (x3 : Int) : zLoc zSc (fX6_post x0 x1 x3) :=
  (lc_cl (lc_fX6_many x0 x3) fun v1 => (lc_ite (lc_gf (by decide) fun v2 => (lc_as (by decide) (lc_gf (by decide) fun v3 => (lc_as (by decide) (lc_gf (by decide) fun v4 => (lc_pf (by decide) (lc_ret _))))))) (lc_ret _)))
theorem lc_fX61_with_25 (x1 : Int) (x2 : Int) (x3 : Int) : zLoc zSc (fX61_with_25 x1 x2 x3) :=
  (lc_nn (lc_gf (by decide) fun v2 => (lc_nn (lc_gf (by decide) fun v4 => (lc_nn (lc_cl (lc_fX6_post x1 v2 v4) fun v6 => (lc_ite (lc_ret _) (lc_ret _))))))))
theorem lc_fX60_on_25 (x2 : Int) (x3 : Int) (x4 : Int) : zLoc zSc (fX60_on_25 x2 x3 x4) :=
  (lc_nn (lc_cl (lc_fX4_isMailbox x2) fun v2 => (lc_ite (lc_nn (lc_cl (lc_fX8_refusalOfBox x3 x2 1) fun v4 => (lc_ite (lc_gf (by decide) fun v5 => (lc_cl (lc_fX61_with_25 v5 x3 x4) fun v6 => (lc_ret _))) (lc_ret _)))) (lc_ret _))))
theorem lc_fX38_run_25 (x2 : Int) (x3 : Int) : zLoc zSc (fX38_run_25 x2 x3) :=
  (lc_nn (lc_gf (by decide) fun v2 => (lc_pf (by decide) (lc_gf (by decide) fun v3 => (lc_cl (lc_fX8_refusal_2 x2 v3 1) fun v4 => (lc_ite (lc_nn (lc_gf (by decide) fun v6 => (lc_cl (lc_fX0_isName v6) fun v7 => (lc_ite (lc_gf (by decide) fun v8 => (lc_gf (by decide) fun v9 => (lc_cl (lc_fX2_find v8 v9) fun v10 => (lc_pf (by decide) (lc_ite (lc_ret _) (lc_cl (lc_fX60_on_25 v10 x2 x3) fun v12 => (lc_ret _))))))) (lc_ret _))))) (lc_ret _)))))))
theorem lc_fX6_oldest_B2 (x0 : Int) (x1 : Int) : ∀ r2 : Int → zX, (∀ s, zLoc zSc (r2 s)) → ∀ s, zLoc zSc (fX6_oldest_B2 x0 x1 r2 s) := by
  intro r2 hr2 x2
  unfold fX6_oldest_B2
  exact (lc_gf (by decide) fun v1 => (lc_ite (lc_ret _) (lc_al (by decide) fun v2 => (lc_ite (lc_lt fun v3 => (hr2 v3)) (lc_ret _)))))
theorem lc_fX6_oldest (x0 : Int) (x1 : Int) : zLoc zSc (fX6_oldest x0 x1) :=
  (lc_lp (lc_fX6_oldest_B2 x0 x1) zBIG 0)
theorem lc_fX6_take_B20 (x0 : Int) (x2 : Int) : ∀ r20 : Int → zX, (∀ s, zLoc zSc (r20 s)) → ∀ s, zLoc zSc (fX6_take_B20 x0 x2 r20 s) := by
  intro r20 hr20 x4
  unfold fX6_take_B20
  exact (lc_gf (by decide) fun v3 => (lc_ite (lc_ret _) (lc_al (by decide) fun v4 => (lc_as (by decide) (lc_al (by decide) fun v5 => (lc_as (by decide) (lc_lt fun v6 => (hr20 v6))))))))
theorem lc_fX6_take (x0 : Int) (x1 : Int) : zLoc zSc (fX6_take x0 x1) :=
  (lc_al (by decide) fun v1 => (lc_gf (by decide) fun v2 => (lc_pf (by decide) (lc_lp (lc_fX6_take_B20 x0 v1) zBIG x1))))
theorem lc_fX62_with_26 (x1 : Int) (x2 : Int) (x3 : Int) : zLoc zSc (fX62_with_26 x1 x2 x3) :=
  (lc_nn (lc_gf (by decide) fun v2 => (lc_nn (lc_cl (lc_fX6_oldest x1 v2) fun v4 => (lc_ite (lc_cl (lc_fX6_take x1 v4) fun v5 => (lc_nn (lc_pf (by decide) (lc_ret _)))) (lc_ret _))))))
theorem lc_fX60_on_26 (x2 : Int) (x3 : Int) (x4 : Int) : zLoc zSc (fX60_on_26 x2 x3 x4) :=
  (lc_nn (lc_cl (lc_fX4_isMailbox x2) fun v2 => (lc_ite (lc_nn (lc_cl (lc_fX8_refusalOfBox x3 x2 2) fun v4 => (lc_ite (lc_gf (by decide) fun v5 => (lc_cl (lc_fX62_with_26 v5 x3 x4) fun v6 => (lc_ret _))) (lc_ret _)))) (lc_ret _))))
theorem lc_fX38_run_26 (x2 : Int) (x3 : Int) : zLoc zSc (fX38_run_26 x2 x3) :=
  (lc_nn (lc_gf (by decide) fun v2 => (lc_pf (by decide) (lc_gf (by decide) fun v3 => (lc_cl (lc_fX8_refusal_2 x2 v3 1) fun v4 => (lc_ite (lc_nn (lc_gf (by decide) fun v6 => (lc_cl (lc_fX0_isName v6) fun v7 => (lc_ite (lc_gf (by decide) fun v8 => (lc_gf (by decide) fun v9 => (lc_cl (lc_fX2_find v8 v9) fun v10 => (lc_pf (by decide) (lc_ite (lc_ret _) (lc_cl (lc_fX60_on_26 v10 x2 x3) fun v12 => (lc_ret _))))))) (lc_ret _))))) (lc_ret _)))))))
theorem lc_fX6_seen_J38 {r5 : Int × Int → zX} (hr5 : ∀ s, zLoc zSc (r5 s)) (x0 : Int) (x1 : Int) (x3 : Int) (x4 : Int) : zLoc zSc (fX6_seen_J38 r5 x0 x1 x3 x4) :=
  (lc_lt fun v4 => (hr5 (x3, v4)))
theorem lc_fX6_seen_B5 (x0 : Int) (x1 : Int) : ∀ r5 : Int × Int → zX, (∀ s, zLoc zSc (r5 s)) → ∀ s, zLoc zSc (fX6_seen_B5 x0 x1 r5 s) := by
  intro r5 hr5 s
  obtain ⟨x3, x4⟩ := s
  unfold fX6_seen_B5
  exact (lc_gf (by decide) fun v1 => (lc_ite (lc_ret _) (lc_al (by decide) fun v2 => (lc_cl (lc_fX0_dominates x1 v2) fun v3 => (lc_ite (lc_fX6_seen_J38 hr5 x0 x1 x3 x4) (lc_ite (lc_lt fun v5 => (lc_fX6_seen_J38 hr5 x0 x1 v5 x4)) (lc_ret _)))))))
theorem lc_fX6_seen (x0 : Int) (x1 : Int) (x2 : Int) : zLoc zSc (fX6_seen x0 x1 x2) :=
  (lc_lp (lc_fX6_seen_B5 x0 x1) zBIG (x2, 0))
theorem lc_fX63_with_27 (x1 : Int) (x2 : Int) (x3 : Int) : zLoc zSc (fX63_with_27 x1 x2 x3) :=
  (lc_nn (lc_gf (by decide) fun v2 => (lc_nn (lc_al (by decide) fun v4 => (lc_nn (lc_cl (lc_fX6_seen x1 v2 v4) fun v6 => (lc_ite (lc_al (by decide) fun v7 => (lc_pf (by decide) (lc_al (by decide) fun v8 => (lc_as (by decide) (lc_ret _))))) (lc_ret _))))))))
theorem lc_fX60_on_27 (x2 : Int) (x3 : Int) (x4 : Int) : zLoc zSc (fX60_on_27 x2 x3 x4) :=
  (lc_nn (lc_cl (lc_fX4_isMailbox x2) fun v2 => (lc_ite (lc_nn (lc_cl (lc_fX8_refusalOfBox x3 x2 4) fun v4 => (lc_ite (lc_gf (by decide) fun v5 => (lc_cl (lc_fX63_with_27 v5 x3 x4) fun v6 => (lc_ret _))) (lc_ret _)))) (lc_ret _))))
theorem lc_fX38_run_27 (x2 : Int) (x3 : Int) : zLoc zSc (fX38_run_27 x2 x3) :=
  (lc_nn (lc_gf (by decide) fun v2 => (lc_pf (by decide) (lc_gf (by decide) fun v3 => (lc_cl (lc_fX8_refusal_2 x2 v3 1) fun v4 => (lc_ite (lc_nn (lc_gf (by decide) fun v6 => (lc_cl (lc_fX0_isName v6) fun v7 => (lc_ite (lc_gf (by decide) fun v8 => (lc_gf (by decide) fun v9 => (lc_cl (lc_fX2_find v8 v9) fun v10 => (lc_pf (by decide) (lc_ite (lc_ret _) (lc_cl (lc_fX60_on_27 v10 x2 x3) fun v12 => (lc_ret _))))))) (lc_ret _))))) (lc_ret _)))))))
theorem lc_fX45_isRight_28 (x1 : Int) (x2 : Int) : zLoc zSc (fX45_isRight_28 x1 x2) :=
  (lc_nn (lc_gf (by decide) fun v2 => (lc_cl (lc_fX0_isName v2) fun v3 => (lc_ite (lc_ret _) (lc_ret _)))))
theorem lc_fX45_run_28_J113 (x2 : Int) (x3 : Int) (s0 : Int) : zLoc zSc (fX45_run_28_J113 x2 x3 s0) :=
  (lc_ite (lc_ib (lc_nn (lc_gf (by decide) fun v13 => (lc_gf (by decide) fun v14 => (lc_gf (by decide) fun v15 => (lc_cl (lc_fX4_setBrackets s0 v13 v14 v15) fun _ => (lc_cl (lc_fX5_clear (3 * s0)) fun _ => (lc_nn (lc_gf (by decide) fun v19 => (lc_gf (by decide) fun v20 => (lc_cl (lc_fX5_set (3 * s0) v19 v20 7) fun v21 => (lc_gf (by decide) fun v22 => (lc_nn (lc_cl (lc_fX4_initial v22 3) fun v24 => (lc_cl (lc_fX5_take (3 * s0) v24) fun _ => (lc_gf (by decide) fun v26 => (lc_pf (by decide) (lc_ret _)))))))))))))))))) (lc_ret _))
theorem lc_fX45_run_28 (x2 : Int) (x3 : Int) : zLoc zSc (fX45_run_28 x2 x3) :=
  (lc_nn (lc_gf (by decide) fun v2 => (lc_pf (by decide) (lc_gf (by decide) fun v3 => (lc_cl (lc_fX8_refusal_2 x2 v3 4) fun v4 => (lc_ite (lc_cl (lc_fX45_isRight_28 x2 x3) fun v5 => (lc_ite (lc_gf (by decide) fun v6 => (lc_nn (lc_gf (by decide) fun v8 => (lc_cl (lc_fX12_newMailbox v6 v8) fun v9 => (lc_fX45_run_28_J113 x2 x3 v9))))) (lc_ret _))) (lc_ret _)))))))
theorem lc_fDisp_36_run (x0 : Int) (x2 : Int) (x3 : Int) : zLoc zSc (fDisp_36_run x0 x2 x3) :=
  (lc_ite (lc_fX37_run_0 x2 x3) (lc_ite (lc_fX38_run_1 x2 x3) (lc_ite (lc_fX40_run_2 x2 x3) (lc_ite (lc_fX40_run_3 x2 x3) (lc_ite (lc_fX38_run_4 x2 x3) (lc_ite (lc_fX42_run_5 x2 x3) (lc_ite (lc_fX43_run_6 x2 x3) (lc_ite (lc_fX38_run_7 x2 x3) (lc_ite (lc_fX45_run_8 x2 x3) (lc_ite (lc_fX45_run_9 x2 x3) (lc_ite (lc_fX38_run_10 x2 x3) (lc_ite (lc_fX38_run_11 x2 x3) (lc_ite (lc_fX38_run_12 x2 x3) (lc_ite (lc_fX38_run_13 x2 x3) (lc_ite (lc_fX50_run_14 x2 x3) (lc_ite (lc_fX38_run_15 x2 x3) (lc_ite (lc_fX52_run_16 x2 x3) (lc_ite (lc_fX53_run_17 x2 x3) (lc_ite (lc_fX54_run_18 x2 x3) (lc_ite (lc_fX55_run_19 x2 x3) (lc_ite (lc_fX56_run_20 x2 x3) (lc_ite (lc_fX57_run_21 x2 x3) (lc_ite (lc_fX57_run_22 x2 x3) (lc_ite (lc_fX58_run_23 x2 x3) (lc_ite (lc_fX59_run_24 x2 x3) (lc_ite (lc_fX38_run_25 x2 x3) (lc_ite (lc_fX38_run_26 x2 x3) (lc_ite (lc_fX38_run_27 x2 x3) (lc_ite (lc_fX45_run_28 x2 x3) lc_no)))))))))))))))))))))))))))))
theorem lc_fX12_serve_J72 (x2 : Int) (x3 : Int) : zLoc zSc (fX12_serve_J72 x2 x3) :=
  (lc_ite (lc_ret _) (lc_nn (lc_pf (by decide) (lc_ret _))))
theorem lc_fX12_serve_J66 (x2 : Int) (x3 : Int) (s1 : Int) (s2 : Int) (s3 : Int) : zLoc zSc (fX12_serve_J66 x2 x3 s1 s2 s3) :=
  (lc_cl (lc_fX13_add s1 s2 s3 (zi (1 - x3))) fun _ => (lc_fX12_serve_J72 x2 x3))
theorem lc_fX12_serve_J23 (x2 : Int) (s0 : Int) : zLoc zSc (fX12_serve_J23 x2 s0) :=
  (lc_ite (lc_fX12_serve_J72 x2 s0) (lc_ite (lc_fX12_serve_J72 x2 s0) (lc_gf (by decide) fun v7 => (lc_nn (lc_gf (by decide) fun v9 => (lc_ite (lc_fX12_serve_J66 x2 s0 v7 2 (-1)) (lc_gf (by decide) fun v12 => (lc_nn (lc_fX12_serve_J66 x2 s0 v7 2 v12)))))))))
theorem lc_fX12_serve (x1 : Int) : zLoc zSc (fX12_serve x1) :=
  (lc_gf (by decide) fun v1 => (lc_nn (lc_pf (by decide) (lc_gf (by decide) fun v3 => (lc_nn (lc_cl (lc_fDisp_36_run x1 v3 v1) fun v5 => (lc_fX12_serve_J23 v1 v5)))))))
theorem lc_fX33_run_35_J20 : zLoc zSc (fX33_run_35_J20) :=
  (lc_cl (lc_fX12_refuseHere 13) fun v3 => (lc_rb _))
theorem lc_fX33_run_35 (x2 : Int) (x3 : Int) : zLoc zSc (fX33_run_35 x2 x3) :=
  (lc_nn (lc_gf (by decide) fun v2 => (lc_ite lc_fX33_run_35_J20 (lc_gf (by decide) fun v4 => (lc_ite (lc_gf (by decide) fun v5 => (lc_ib (lc_cl (lc_fX12_serve v5) fun v8 => (lc_rb _)))) lc_fX33_run_35_J20)))))
theorem lc_fX34_run_36 (x2 : Int) (x3 : Int) : zLoc zSc (fX34_run_36 x2 x3) :=
  (lc_nn (lc_gf (by decide) fun v2 => (lc_gf (by decide) fun v3 => (lc_pf (by decide) (lc_pf (by decide) (lc_gf (by decide) fun v4 => (lc_cl (lc_fX9_tell x3 v4) fun _ => (lc_ret _))))))))
theorem lc_fX35_run_37 (x2 : Int) (x3 : Int) : zLoc zSc (fX35_run_37 x2 x3) :=
  (lc_nn (lc_gf (by decide) fun v2 => (lc_pf (by decide) (lc_gf (by decide) fun v3 => (lc_cl (lc_fX9_tell x3 v3) fun _ => (lc_ret _))))))
theorem lc_fDisp_14_run (x0 : Int) (x2 : Int) (x3 : Int) : zLoc zSc (fDisp_14_run x0 x2 x3) :=
  (lc_ite (lc_fX15_run_0 x2 x3) (lc_ite (lc_fX15_run_1 x2 x3) (lc_ite (lc_fX16_run_2 x2 x3) (lc_ite (lc_fX16_run_3 x2 x3) (lc_ite (lc_fX17_run_4 x2 x3) (lc_ite (lc_fX17_run_5 x2 x3) (lc_ite (lc_fX17_run_6 x2 x3) (lc_ite (lc_fX20_run_7 x2 x3) (lc_ite (lc_fX17_run_8 x2 x3) (lc_ite (lc_fX17_run_9 x2 x3) (lc_ite (lc_fX17_run_10 x2 x3) (lc_ite (lc_fX22_run_11 x2 x3) (lc_ite (lc_fX23_run_12 x2 x3) (lc_ite (lc_fX23_run_13 x2 x3) (lc_ite (lc_fX24_run_14 x2 x3) (lc_ite (lc_fX24_run_15 x2 x3) (lc_ite (lc_fX24_run_16 x2 x3) (lc_ite (lc_fX24_run_17 x2 x3) (lc_ite (lc_fX25_run_18 x2 x3) (lc_ite (lc_fX26_run_19 x2 x3) (lc_ite (lc_fX27_run_20 x2 x3) (lc_ite (lc_fX27_run_21 x2 x3) (lc_ite (lc_fX28_run_22 x2 x3) (lc_ite (lc_fX28_run_23 x2 x3) (lc_ite (lc_fX28_run_24 x2 x3) (lc_ite (lc_fX29_run_25 x2 x3) (lc_ite (lc_fX29_run_26 x2 x3) (lc_ite (lc_fX30_run_27 x2 x3) (lc_ite (lc_fX30_run_28 x2 x3) (lc_ite (lc_fX30_run_29 x2 x3) (lc_ite (lc_fX30_run_30 x2 x3) (lc_ite (lc_fX30_run_31 x2 x3) (lc_ite (lc_fX30_run_32 x2 x3) (lc_ite (lc_fX31_run_33 x2 x3) (lc_ite (lc_fX32_run_34 x2 x3) (lc_ite (lc_fX33_run_35 x2 x3) (lc_ite (lc_fX34_run_36 x2 x3) (lc_ite (lc_fX35_run_37 x2 x3) lc_no))))))))))))))))))))))))))))))))))))))
theorem lc_fX12_at (x1 : Int) (x2 : Int) (x3 : Int) : zLoc zSc (fX12_at x1 x2 x3) :=
  (lc_pf (by decide) (lc_pf (by decide) (lc_pf (by decide) (lc_ret _))))
theorem lc_fX0_isPointer (x0 : Int) : zLoc zSc (fX0_isPointer x0) :=
  (lc_ite (lc_ret _) (lc_ite (lc_ret _) (lc_ret _)))
theorem lc_fX0_numberOf (x0 : Int) : zLoc zSc (fX0_numberOf x0) :=
  (lc_ret _)
theorem lc_fX0_placeOf (x0 : Int) : zLoc zSc (fX0_placeOf x0) :=
  (lc_ret _)
theorem lc_fX0_ringOf (x0 : Int) : zLoc zSc (fX0_ringOf x0) :=
  (lc_ret _)
theorem lc_fX0_isChained (x0 : Int) : zLoc zSc (fX0_isChained x0) :=
  (lc_ite (lc_ret _) (lc_ret _))
theorem lc_fX12_indirect_J144 : zLoc zSc (fX12_indirect_J144) :=
  (lc_gf (by decide) fun v1 => (lc_gf (by decide) fun v2 => (lc_gf (by decide) fun v3 => (lc_cl (lc_fX12_refuse 10 v1 v2 v3) fun v4 => (lc_rb _)))))
theorem lc_fX12_indirect_J99 {r2 : Int → zX} (hr2 : ∀ s, zLoc zSc (r2 s)) (x1 : Int) (x2 : Int) (s0 : Int) : zLoc zSc (fX12_indirect_J99 r2 x1 x2 s0) :=
  (lc_cl (lc_fX0_numberOf x2) fun v20 => (lc_cl (lc_fX0_placeOf x2) fun v21 => (lc_gf (by decide) fun v22 => (lc_cl (lc_fX0_ringOf x2) fun v23 => (lc_cl (lc_fX12_at v20 v21 (max v22 (max v23 s0))) fun _ => (lc_cl (lc_fX0_isChained x2) fun v25 => (lc_ite (lc_lt fun v26 => (hr2 v26)) (lc_ret _))))))))
theorem lc_fX12_indirect_J49 : zLoc zSc (fX12_indirect_J49) :=
  (lc_gf (by decide) fun v28 => (lc_gf (by decide) fun v29 => (lc_gf (by decide) fun v30 => (lc_cl (lc_fX12_refuse 9 v28 v29 v30) fun v31 => (lc_rb _)))))
theorem lc_fX12_indirect_B2 : ∀ r2 : Int → zX, (∀ s, zLoc zSc (r2 s)) → ∀ s, zLoc zSc (fX12_indirect_B2 r2 s) := by
  intro r2 hr2 x1
  unfold fX12_indirect_B2
  exact (lc_ite lc_fX12_indirect_J144 (lc_gf (by decide) fun v5 => (lc_gf (by decide) fun v6 => (lc_gf (by decide) fun v7 => (lc_cl (lc_fX12_may v5 v6 v7 1) fun v8 => (lc_ite (lc_gf (by decide) fun v9 => (lc_gf (by decide) fun v10 => (lc_cl (lc_fX12_load v9 v10) fun v11 => (lc_cl (lc_fX0_isPointer v11) fun v12 => (lc_ite (lc_gf (by decide) fun v13 => (lc_ite (lc_gf (by decide) fun v14 => (lc_nn (lc_gf (by decide) fun v16 => (lc_al (by decide) fun v17 => (lc_nn (lc_gf (by decide) fun v19 => (lc_fX12_indirect_J99 hr2 x1 v11 v19))))))) (lc_gf (by decide) fun v27 => (lc_fX12_indirect_J99 hr2 x1 v11 v27)))) lc_fX12_indirect_J49))))) (lc_ret _)))))))
theorem lc_fX12_indirect : zLoc zSc (fX12_indirect) :=
  (lc_lp lc_fX12_indirect_B2 zBIG 0)
theorem lc_fX12_isObject (x1 : Int) : zLoc zSc (fX12_isObject x1) :=
  (lc_nn (lc_gf (by decide) fun v2 => (lc_ite (lc_ret _) (lc_cl (lc_fX1_get x1 0) fun v3 => (lc_ite (lc_ret _) (lc_ret _))))))
theorem lc_fX12_searched_J94 {r2 : Int → zX} (hr2 : ∀ s, zLoc zSc (r2 s)) (x1 : Int) (x3 : Int) : zLoc zSc (fX12_searched_J94 r2 x1 x3) :=
  (lc_lt fun v5 => (hr2 v5))
theorem lc_fX12_searched_B2 (x1 : Int) : ∀ r2 : Int → zX, (∀ s, zLoc zSc (r2 s)) → ∀ s, zLoc zSc (fX12_searched_B2 x1 r2 s) := by
  intro r2 hr2 x3
  unfold fX12_searched_B2
  exact (lc_ite (lc_ret _) (lc_gf (by decide) fun v1 => (lc_nn (lc_al (by decide) fun v3 => (lc_ite (lc_fX12_searched_J94 hr2 x1 x3) (lc_gf (by decide) fun v6 => (lc_nn (lc_cl (lc_fX8_refusal_2 v6 v3 1) fun v8 => (lc_ite (lc_fX12_searched_J94 hr2 x1 x3) (lc_cl (lc_fX2_find v3 x1) fun v9 => (lc_ite (lc_fX12_searched_J94 hr2 x1 x3) (lc_cl (lc_fX4_isSegment v9) fun v11 => (lc_ite (lc_fX12_searched_J94 hr2 x1 x3) (lc_gf (by decide) fun v12 => (lc_nn (lc_gf (by decide) fun v14 => (lc_gf (by decide) fun v15 => (lc_nn (lc_gf (by decide) fun v17 => (lc_cl (lc_fX5_of (3 * v9) v14 v17) fun v18 => (lc_ite (lc_fX12_searched_J94 hr2 x1 x3) (lc_ret _))))))))))))))))))))))
theorem lc_fX12_searched (x1 : Int) : zLoc zSc (fX12_searched x1) :=
  (lc_lp (lc_fX12_searched_B2 x1) zBIG 0)
theorem lc_fX12_definition_J88 (x1 : Int) (x6 : Int) (x7 : Int) : zLoc zSc (fX12_definition_J88 x1 x6 x7) :=
  (lc_cl (lc_fX1_get x1 (zi ((zi (x6 + (zi (2 * x7)))) + 1))) fun v10 => (lc_ret _))
theorem lc_fX12_definition_B43 (x1 : Int) (x2 : Int) (x4 : Int) (x6 : Int) : ∀ r43 : Int → zX, (∀ s, zLoc zSc (r43 s)) → ∀ s, zLoc zSc (fX12_definition_B43 x1 x2 x4 x6 r43 s) := by
  intro r43 hr43 x7
  unfold fX12_definition_B43
  exact (lc_ite (lc_ret _) (lc_nn (lc_gf (by decide) fun v7 => (lc_ite (lc_ret _) (lc_cl (lc_fX1_get x1 (zi (x6 + (zi (2 * x7))))) fun v8 => (lc_ite (lc_lt fun v9 => (hr43 v9)) (lc_fX12_definition_J88 x1 x6 x7)))))))
theorem lc_fX12_definition (x1 : Int) (x2 : Int) : zLoc zSc (fX12_definition x1 x2) :=
  (lc_cl (lc_fX12_isObject x1) fun v1 => (lc_ite (lc_cl (lc_fX1_get x1 1) fun v2 => (lc_lt fun v3 => (lc_cl (lc_fX1_get x1 1) fun v4 => (lc_lt fun v5 => (lc_lp (lc_fX12_definition_B43 x1 x2 v3 v5) zBIG 0))))) (lc_ret _)))
theorem lc_fX12_bind_J138 (x1 : Int) (x2 : Int) (x6 : Int) (s0 : Int) : zLoc zSc (fX12_bind_J138 x1 x2 x6 s0) :=
  (lc_ite (lc_gf (by decide) fun v15 => (lc_nn (lc_as (by decide) (lc_gf (by decide) fun v17 => (lc_nn (lc_as (by decide) (lc_gf (by decide) fun v19 => (lc_nn (lc_cl (lc_fX8_event v19 5 x2 x6 s0) fun _ => (lc_ret _)))))))))) (lc_ret _))
theorem lc_fX12_bind_J109 (x1 : Int) (x2 : Int) (x3 : Int) (x4 : Int) (x5 : Int) (s0 : Int) : zLoc zSc (fX12_bind_J109 x1 x2 x3 x4 x5 s0) :=
  (lc_ite (lc_cl (lc_fX1_get x3 (zi (x4 + 1))) fun v13 => (lc_cl (lc_fX12_definition x5 v13) fun v14 => (lc_fX12_bind_J138 x1 x2 s0 v14))) (lc_fX12_bind_J138 x1 x2 s0 (-1)))
theorem lc_fX12_bind (x1 : Int) (x2 : Int) : zLoc zSc (fX12_bind x1 x2) :=
  (lc_gf (by decide) fun v1 => (lc_nn (lc_al (by decide) fun v3 => (lc_cl (lc_fX12_isObject v3) fun v4 => (lc_ite (lc_ret _) (lc_cl (lc_fX1_get v3 0) fun v5 => (lc_ite (lc_cl (lc_fX1_get v3 0) fun v6 => (lc_lt fun v7 => (lc_nn (lc_gf (by decide) fun v9 => (lc_ite (lc_cl (lc_fX1_get v3 v7) fun v10 => (lc_cl (lc_fX12_searched v10) fun v11 => (lc_ite (lc_fX12_bind_J109 x1 x2 v3 v7 v11 (-1)) (lc_gf (by decide) fun v22 => (lc_nn (lc_cl (lc_fX8_numberFor v22 v11) fun v24 => (lc_fX12_bind_J109 x1 x2 v3 v7 v11 v24))))))) (lc_ret _)))))) (lc_ret _))))))))
theorem lc_fX12_link_J48 : zLoc zSc (fX12_link_J48) :=
  (lc_cl (lc_fX12_refuseHere 11) fun v5 => (lc_rb _))
theorem lc_fX12_link_J55 (x2 : Int) (x3 : Int) : zLoc zSc (fX12_link_J55 x2 x3) :=
  (lc_gf (by decide) fun v9 => (lc_nn (lc_al (by decide) fun v11 => (lc_gf (by decide) fun v12 => (lc_nn (lc_al (by decide) fun v14 => (lc_nn (lc_gf (by decide) fun v16 => (lc_cl (lc_fX12_at v11 v14 v16) fun _ => (lc_ret _))))))))))
theorem lc_fX12_link (x1 : Int) : zLoc zSc (fX12_link x1) :=
  (lc_gf (by decide) fun v1 => (lc_nn (lc_gf (by decide) fun v3 => (lc_lt fun v4 => (lc_ite lc_fX12_link_J48 (lc_gf (by decide) fun v6 => (lc_nn (lc_al (by decide) fun v8 => (lc_ite (lc_fX12_link_J55 v1 v4) (lc_gf (by decide) fun v18 => (lc_cl (lc_fX12_bind v18 x1) fun v19 => (lc_ite (lc_fX12_link_J55 v1 v4) lc_fX12_link_J48))))))))))))
theorem lc_fX12_address_J169 (x1 : Int) : zLoc zSc (fX12_address_J169 x1) :=
  (lc_nn (lc_gf (by decide) fun v16 => (lc_ite (lc_ret _) (lc_cl lc_fX12_indirect fun v17 => (lc_ite (lc_ret _) (lc_ret _))))))
theorem lc_fX12_address_J42 (x1 : Int) (x2 : Int) (s0 : Int) : zLoc zSc (fX12_address_J42 x1 x2 s0) :=
  (lc_nn (lc_gf (by decide) fun v9 => (lc_ite (lc_nn (lc_gf (by decide) fun v12 => (lc_gf (by decide) fun v13 => (lc_cl (lc_fX12_at v12 s0 v13) fun _ => (lc_fX12_address_J169 x1))))) (lc_ite (lc_nn (lc_gf (by decide) fun v20 => (lc_al (by decide) fun v21 => (lc_gf (by decide) fun v22 => (lc_al (by decide) fun v23 => (lc_gf (by decide) fun v24 => (lc_gf (by decide) fun v25 => (lc_al (by decide) fun v26 => (lc_cl (lc_fX12_at v21 ((zi (v23 + s0)) % 262144) (max v24 v26)) fun _ => (lc_fX12_address_J169 x1)))))))))) (lc_ite (lc_nn (lc_gf (by decide) fun v30 => (lc_cl (lc_fX12_at (-1) s0 v30) fun _ => (lc_ret _)))) (lc_ite (lc_nn (lc_gf (by decide) fun v34 => (lc_gf (by decide) fun v35 => (lc_cl (lc_fX12_at v34 s0 v35) fun _ => (lc_fX12_address_J169 x1))))) (lc_ite (lc_nn (lc_gf (by decide) fun v39 => (lc_al (by decide) fun v40 => (lc_gf (by decide) fun v41 => (lc_al (by decide) fun v42 => (lc_gf (by decide) fun v43 => (lc_gf (by decide) fun v44 => (lc_al (by decide) fun v45 => (lc_cl (lc_fX12_at v40 ((zi (v42 + s0)) % 262144) (max v43 v45)) fun _ => (lc_fX12_address_J169 x1)))))))))) (lc_cl (lc_fX12_link s0) fun v47 => (lc_ite (lc_fX12_address_J169 x1) (lc_ret _))))))))))
theorem lc_fX12_address (x1 : Int) : zLoc zSc (fX12_address x1) :=
  (lc_gf (by decide) fun v1 => (lc_nn (lc_nn (lc_gf (by decide) fun v4 => (lc_ite (lc_gf (by decide) fun v5 => (lc_gf (by decide) fun v6 => (lc_al (by decide) fun v7 => (lc_fX12_address_J42 x1 v1 ((zi (v5 + v7)) % 262144))))) (lc_gf (by decide) fun v48 => (lc_fX12_address_J42 x1 v1 v48)))))))
theorem lc_fX12_step_J129 (x2 : Int) (s0 : Int) : zLoc zSc (fX12_step_J129 x2 s0) :=
  (lc_ite (lc_ret _) (lc_gf (by decide) fun v20 => (lc_ite (lc_ret _) (lc_gf (by decide) fun v21 => (lc_nn (lc_pf (by decide) (lc_gf (by decide) fun v23 => (lc_pf (by decide) (lc_ret _)))))))))
theorem lc_fX12_step_J94 (x2 : Int) (x3 : Int) (x4 : Int) : zLoc zSc (fX12_step_J94 x2 x3 x4) :=
  (lc_nn (lc_gf (by decide) fun v16 => (lc_pf (by decide) (lc_gf (by decide) fun v17 => (lc_pf (by decide) (lc_pf (by decide) (lc_nn (lc_cl (lc_fDisp_14_run x4 x3 x2) fun v19 => (lc_fX12_step_J129 x2 v19)))))))))
theorem lc_fX12_step (x1 : Int) : zLoc zSc (fX12_step x1) :=
  (lc_pf (by decide) (lc_nn (lc_gf (by decide) fun v2 => (lc_pf (by decide) (lc_gf (by decide) fun v3 => (lc_gf (by decide) fun v4 => (lc_gf (by decide) fun v5 => (lc_cl (lc_fX12_may v3 v4 v5 2) fun v6 => (lc_ite (lc_gf (by decide) fun v7 => (lc_gf (by decide) fun v8 => (lc_cl (lc_fX12_load v7 v8) fun v9 => (lc_cl (lc_fX12_decode v9) fun v10 => (lc_nn (lc_gf (by decide) fun v12 => (lc_ite (lc_cl (lc_fX12_refuseHere 8) fun v14 => (lc_ret _)) (lc_ite (lc_fX12_step_J94 x1 v10 v12) (lc_cl (lc_fX12_address v10) fun v24 => (lc_ite (lc_fX12_step_J94 x1 v10 v12) (lc_ret _))))))))))) (lc_ret _))))))))))
theorem lc_fX8_oldest (x0 : Int) : zLoc zSc (fX8_oldest x0) :=
  (lc_gf (by decide) fun v1 => (lc_al (by decide) fun v2 => (lc_ret _)))
theorem lc_fX12_tickOf_J41 (x1 : Int) : zLoc zSc (fX12_tickOf_J41 x1) :=
  (lc_nn (lc_gf (by decide) fun v5 => (lc_ite (lc_cl (lc_fX12_step x1) fun _ => (lc_ret _)) (lc_ret _))))
theorem lc_fX12_tickOf (x1 : Int) : zLoc zSc (fX12_tickOf x1) :=
  (lc_nn (lc_gf (by decide) fun v2 => (lc_ite (lc_gf (by decide) fun v3 => (lc_ite (lc_fX12_tickOf_J41 x1) (lc_gf (by decide) fun v7 => (lc_ite (lc_fX12_tickOf_J41 x1) (lc_pf (by decide) (lc_cl (lc_fX8_oldest x1) fun v8 => (lc_cl (lc_fX8_event x1 8 v8 0 0) fun _ => (lc_fX12_tickOf_J41 x1)))))))) (lc_ret _))))
theorem lc_fX0_tick_J55 {r31 : Int × Int → zX} (hr31 : ∀ s, zLoc zSc (r31 s)) (x2 : Int) (x3 : Int) (x5 : Int) (s0 : Int) (s1 : Int) : zLoc zSc (fX0_tick_J55 r31 x2 x3 x5 s0 s1) :=
  (lc_lt fun v5 => (lc_lt fun v6 => (hr31 (v5, v6))))
theorem lc_fX0_tick_B31 (x2 : Int) (x3 : Int) : ∀ r31 : Int × Int → zX, (∀ s, zLoc zSc (r31 s)) → ∀ s, zLoc zSc (fX0_tick_B31 x2 x3 r31 s) := by
  intro r31 hr31 s
  obtain ⟨x4, x5⟩ := s
  unfold fX0_tick_B31
  exact (lc_ite (lc_ret _) (lc_cl (lc_fX12_tickOf x3) fun v4 => (lc_ite (lc_fX0_tick_J55 hr31 x2 x3 x5 x4 0) (lc_fX0_tick_J55 hr31 x2 x3 x5 x4 1))))
theorem lc_fX0_tick (x1 : Int) (x2 : Int) : zLoc zSc (fX0_tick x1 x2) :=
  (lc_cl (lc_fX0_processAt x1) fun v1 => (lc_ite (lc_ret _) (lc_cl (lc_fX0_isIn x2 1 1000) fun v3 => (lc_ite (lc_lp (lc_fX0_tick_B31 x2 v1) zBIG (0, 0)) (lc_ret _)))))
theorem lc_fX0_schedule (x1 : Int) (x2 : Int) : zLoc zSc (fX0_schedule x1 x2) :=
  (lc_cl (lc_fX0_isIn x1 0 15) fun v1 => (lc_ite (lc_ret _) (lc_cl (lc_fX0_isIn x2 (-1) 7) fun v2 => (lc_ite (lc_al (by decide) fun v3 => (lc_as (by decide) (lc_ret _))) (lc_ret _)))))
theorem lc_fX0_run_J76 {r19 : Int × Int → zX} (hr19 : ∀ s, zLoc zSc (r19 s)) (x1 : Int) (x3 : Int) (s0 : Int) (s1 : Int) : zLoc zSc (fX0_run_J76 r19 x1 x3 s0 s1) :=
  (lc_lt fun v5 => (lc_lt fun v6 => (hr19 (v5, v6))))
theorem lc_fX0_run_J75 {r19 : Int × Int → zX} (hr19 : ∀ s, zLoc zSc (r19 s)) (x1 : Int) (x3 : Int) (s0 : Int) : zLoc zSc (fX0_run_J75 r19 x1 x3 s0) :=
  (lc_fX0_run_J76 hr19 x1 x3 s0 0)
theorem lc_fX0_run_B19 (x1 : Int) : ∀ r19 : Int × Int → zX, (∀ s, zLoc zSc (r19 s)) → ∀ s, zLoc zSc (fX0_run_B19 x1 r19 s) := by
  intro r19 hr19 s
  obtain ⟨x2, x3⟩ := s
  unfold fX0_run_B19
  exact (lc_ite (lc_ret _) (lc_gf (by decide) fun v2 => (lc_al (by decide) fun v3 => (lc_gf (by decide) fun v4 => (lc_pf (by decide) (lc_ite (lc_fX0_run_J75 hr19 x1 x3 x2) (lc_ib (lc_cl (lc_fX12_tickOf v3) fun v9 => (lc_ite (lc_fX0_run_J75 hr19 x1 x3 x2) (lc_fX0_run_J76 hr19 x1 x3 x2 1))))))))))
theorem lc_fX0_run (x1 : Int) : zLoc zSc (fX0_run x1) :=
  (lc_cl (lc_fX0_isIn x1 1 2000) fun v1 => (lc_ite (lc_lp (lc_fX0_run_B19 x1) zBIG (0, 0)) (lc_ret _)))
theorem lc_fX0_register (x1 : Int) (x2 : Int) : zLoc zSc (fX0_register x1 x2) :=
  (lc_cl (lc_fX0_processAt x1) fun v1 => (lc_ite (lc_ret _) (lc_cl (lc_fX0_isIn x2 2 5) fun v3 => (lc_ite (lc_cl (lc_fX0_isIn x2 16 23) fun v4 => (lc_ite (lc_ite (lc_gf (by decide) fun v6 => (lc_ret _)) (lc_ite (lc_gf (by decide) fun v8 => (lc_ret _)) (lc_ite (lc_gf (by decide) fun v10 => (lc_ret _)) (lc_ite (lc_gf (by decide) fun v12 => (lc_ret _)) (lc_ite (lc_gf (by decide) fun v14 => (lc_ret _)) (lc_ite (lc_gf (by decide) fun v16 => (lc_ite (lc_ret _) (lc_ret _))) (lc_ite (lc_gf (by decide) fun v18 => (lc_ite (lc_ret _) (lc_ret _))) (lc_ret _)))))))) (lc_cl (lc_fX9_pointer v1 (zi (x2 - 16))) fun v19 => (lc_ret _)))) (lc_al (by decide) fun v20 => (lc_ret _))))))
theorem lc_fX0_process (x1 : Int) (x2 : Int) : zLoc zSc (fX0_process x1 x2) :=
  (lc_cl (lc_fX0_processAt x1) fun v1 => (lc_ite (lc_ret _) (lc_cl (lc_fX0_isIn x2 8 11) fun v3 => (lc_ite (lc_ite (lc_gf (by decide) fun v5 => (lc_ret _)) (lc_ite (lc_gf (by decide) fun v7 => (lc_ret _)) (lc_ite (lc_gf (by decide) fun v9 => (lc_ret _)) (lc_ite (lc_gf (by decide) fun v11 => (lc_ret _)) (lc_ite (lc_gf (by decide) fun v13 => (lc_ret _)) (lc_ite (lc_gf (by decide) fun v15 => (lc_ret _)) (lc_ite (lc_gf (by decide) fun v17 => (lc_ret _)) (lc_ite (lc_gf (by decide) fun v19 => (lc_nn (lc_ret _))) (lc_ite (lc_gf (by decide) fun v22 => (lc_ite (lc_ret _) (lc_ret _))) (lc_ite (lc_gf (by decide) fun v24 => (lc_ret _)) (lc_ret _))))))))))) (lc_al (by decide) fun v25 => (lc_ite (lc_ret _) (lc_ret _)))))))
theorem lc_fX0_stack (x1 : Int) (x2 : Int) (x3 : Int) : zLoc zSc (fX0_stack x1 x2 x3) :=
  (lc_cl (lc_fX0_processAt x1) fun v1 => (lc_ite (lc_ret _) (lc_cl (lc_fX0_isIn x2 0 7) fun v3 => (lc_ite (lc_ret _) (lc_cl (lc_fX0_isIn x3 0 63) fun v4 => (lc_ite (lc_al (by decide) fun v5 => (lc_ret _)) (lc_ret _)))))))
theorem lc_fX0_known (x1 : Int) (x2 : Int) : zLoc zSc (fX0_known x1 x2) :=
  (lc_cl (lc_fX0_processAt x1) fun v1 => (lc_ite (lc_ret _) (lc_cl (lc_fX12_isKnown v1 x2) fun v3 => (lc_ite (lc_al (by decide) fun v4 => (lc_nn (lc_ret _))) (lc_ret _)))))
theorem lc_fX0_link (x1 : Int) (x2 : Int) (x3 : Int) : zLoc zSc (fX0_link x1 x2 x3) :=
  (lc_cl (lc_fX0_processAt x1) fun v1 => (lc_ite (lc_ret _) (lc_cl (lc_fX0_isIn x2 8 31) fun v3 => (lc_ite (lc_ret _) (lc_cl (lc_fX0_isIn x3 0 15) fun v4 => (lc_ite (lc_ret _) (lc_al (by decide) fun v5 => (lc_ite (lc_al (by decide) fun v6 => (lc_al (by decide) fun v7 => (lc_ret _))) (lc_ret _)))))))))
theorem lc_fX10_has (x0 : Int) (x1 : Int) : zLoc zSc (fX10_has x0 x1) :=
  (lc_ite (lc_ret _) (lc_gf (by decide) fun v1 => (lc_ite (lc_ret _) (lc_gf (by decide) fun v2 => (lc_ite (lc_ret _) (lc_ret _))))))
theorem lc_fX0_event (x1 : Int) (x2 : Int) (x3 : Int) : zLoc zSc (fX0_event x1 x2 x3) :=
  (lc_cl (lc_fX0_processAt x1) fun v1 => (lc_ite (lc_ret _) (lc_cl (lc_fX10_has v1 x2) fun v3 => (lc_ite (lc_cl (lc_fX0_isIn x3 0 3) fun v4 => (lc_ite (lc_ret _) (lc_al (by decide) fun v5 => (lc_ret _)))) (lc_ret _)))))
theorem lc_fX0_sum (x1 : Int) : zLoc zSc (fX0_sum x1) :=
  (lc_cl (lc_fX0_processAt x1) fun v1 => (lc_ite (lc_ret _) (lc_gf (by decide) fun v3 => (lc_ret _))))
theorem lc_fX0_type_J88 : zLoc zSc (fX0_type_J88) :=
  (lc_gf (by decide) fun v3 => (lc_ret _))
theorem lc_fX0_type_B36 (x1 : Int) (x3 : Int) : ∀ r36 : Int → zX, (∀ s, zLoc zSc (r36 s)) → ∀ s, zLoc zSc (fX0_type_B36 x1 x3 r36 s) := by
  intro r36 hr36 x4
  unfold fX0_type_B36
  exact (lc_ite lc_fX0_type_J88 (lc_gf (by decide) fun v4 => (lc_as (by decide) (lc_gf (by decide) fun v5 => (lc_pf (by decide) (lc_lt fun v6 => (hr36 v6)))))))
theorem lc_fX0_type (x1 : Int) (x3 : Int) : zLoc zSc (fX0_type x1 x3) :=
  (lc_cl (lc_fX0_isIn x3 1 8) fun v1 => (lc_ite (lc_gf (by decide) fun v2 => (lc_ite (lc_lp (lc_fX0_type_B36 x1 x3) zBIG 0) (lc_ret _))) (lc_ret _)))
theorem lc_fX0_sign_J43 (x0 : Int) : zLoc zSc (fX0_sign_J43 x0) :=
  (lc_ite (lc_ite (lc_ret _) (lc_ret _)) (lc_ret _))
theorem lc_fX0_sign_J21 (x0 : Int) : zLoc zSc (fX0_sign_J21 x0) :=
  (lc_ite (lc_fX0_sign_J43 x0) (lc_ite (lc_fX0_sign_J43 x0) (lc_ret _)))
theorem lc_fX0_sign (x0 : Int) : zLoc zSc (fX0_sign x0) :=
  (lc_ite (lc_fX0_sign_J21 x0) (lc_ite (lc_fX0_sign_J21 x0) (lc_ret _)))
theorem lc_fX64_next_J155 (s1 : Int) : zLoc zSc (fX64_next_J155 s1) :=
  (lc_pf (by decide) (lc_ret _))
theorem lc_fX64_next_J127 (s1 : Int) : zLoc zSc (fX64_next_J127 s1) :=
  (lc_pf (by decide) (lc_gf (by decide) fun v11 => (lc_gf (by decide) fun v12 => (lc_ite (lc_gf (by decide) fun v13 => (lc_fX64_next_J155 (zi (v13 + 1)))) (lc_gf (by decide) fun v14 => (lc_fX64_next_J155 v14))))))
theorem lc_fX64_next_J110 : zLoc zSc (fX64_next_J110) :=
  (lc_gf (by decide) fun v9 => (lc_gf (by decide) fun v10 => (lc_ite (lc_fX64_next_J127 2) (lc_fX64_next_J127 1))))
theorem lc_fX64_next_B71 : ∀ r71 : Int → zX, (∀ s, zLoc zSc (r71 s)) → ∀ s, zLoc zSc (fX64_next_B71 r71 s) := by
  intro r71 hr71 _
  unfold fX64_next_B71
  exact (lc_gf (by decide) fun v7 => (lc_gf (by decide) fun v8 => (lc_ite lc_fX64_next_J110 (lc_gf (by decide) fun v15 => (lc_al (by decide) fun v16 => (lc_cl (lc_fX0_sign v16) fun v17 => (lc_ite lc_fX64_next_J110 (lc_gf (by decide) fun v18 => (lc_pf (by decide) (hr71 0))))))))))
theorem lc_fX64_next_J46 : zLoc zSc (fX64_next_J46) :=
  (lc_gf (by decide) fun v4 => (lc_pf (by decide) (lc_gf (by decide) fun v5 => (lc_gf (by decide) fun v6 => (lc_ite (lc_lp lc_fX64_next_B71 zBIG 0) (lc_pf (by decide) (lc_ret _)))))))
theorem lc_fX64_next_B8 : ∀ r8 : Int → zX, (∀ s, zLoc zSc (r8 s)) → ∀ s, zLoc zSc (fX64_next_B8 r8 s) := by
  intro r8 hr8 _
  unfold fX64_next_B8
  exact (lc_gf (by decide) fun v2 => (lc_gf (by decide) fun v3 => (lc_ite lc_fX64_next_J46 (lc_gf (by decide) fun v19 => (lc_al (by decide) fun v20 => (lc_ite lc_fX64_next_J46 (lc_gf (by decide) fun v21 => (lc_pf (by decide) (hr8 0)))))))))
theorem lc_fX64_next : zLoc zSc (fX64_next) :=
  (lc_gf (by decide) fun v1 => (lc_pf (by decide) (lc_lp lc_fX64_next_B8 zBIG 0)))
theorem lc_fX64_is (x1 : Int) : zLoc zSc (fX64_is x1) :=
  (lc_gf (by decide) fun v1 => (lc_ite (lc_ret _) (lc_gf (by decide) fun v2 => (lc_al (by decide) fun v3 => (lc_ite (lc_ret _) (lc_ret _))))))
theorem lc_fX64_isDirective_J57 {r20 : Int × Int → zX} (hr20 : ∀ s, zLoc zSc (r20 s)) (x1 : Int) (x3 : Int) (x5 : Int) (s0 : Int) : zLoc zSc (fX64_isDirective_J57 r20 x1 x3 x5 s0) :=
  (lc_lt fun v7 => (hr20 (s0, v7)))
theorem lc_fX64_isDirective_B20 (x1 : Int) (x3 : Int) : ∀ r20 : Int × Int → zX, (∀ s, zLoc zSc (r20 s)) → ∀ s, zLoc zSc (fX64_isDirective_B20 x1 x3 r20 s) := by
  intro r20 hr20 s
  obtain ⟨x4, x5⟩ := s
  unfold fX64_isDirective_B20
  exact (lc_nn (lc_ite (lc_rb _) (lc_ite (lc_rb _) (lc_al (by decide) fun v5 => (lc_sc fun v6 => (lc_ite (lc_fX64_isDirective_J57 hr20 x1 x3 x5 0) (lc_fX64_isDirective_J57 hr20 x1 x3 x5 1)))))))
theorem lc_fX64_isDirective_J15 (x1 : Int) (x3 : Int) (s0 : Int) : zLoc zSc (fX64_isDirective_J15 x1 x3 s0) :=
  (lc_lp (lc_fX64_isDirective_B20 x1 x3) zBIG (s0, 0))
theorem lc_fX64_isDirective (x1 : Int) (x2 : Int) (x3 : Int) : zLoc zSc (fX64_isDirective x1 x2 x3) :=
  (lc_nn (lc_ite (lc_fX64_isDirective_J15 x1 x3 0) (lc_fX64_isDirective_J15 x1 x3 1)))
theorem lc_fX64_wrong (x1 : Int) (x2 : Int) : zLoc zSc (fX64_wrong x1 x2) :=
  (lc_gf (by decide) fun v1 => (lc_ite (lc_ret _) (lc_pf (by decide) (lc_pf (by decide) (lc_ret _)))))
theorem lc_fX64_isLabelWord : zLoc zSc (fX64_isLabelWord) :=
  (lc_gf (by decide) fun v1 => (lc_al (by decide) fun v2 => (lc_ite (lc_ret _) (lc_gf (by decide) fun v3 => (lc_al (by decide) fun v4 => (lc_ite (lc_ret _) (lc_gf (by decide) fun v5 => (lc_gf (by decide) fun v6 => (lc_ite (lc_ret _) (lc_ret _))))))))))
theorem lc_fX64_packed_J40 {r5 : Int × Int → zX} (hr5 : ∀ s, zLoc zSc (r5 s)) (x1 : Int) (x2 : Int) (x5 : Int) (s0 : Int) (s1 : Int) : zLoc zSc (fX64_packed_J40 r5 x1 x2 x5 s0 s1) :=
  (lc_lt fun v1 => (lc_lt fun v2 => (hr5 (v1, v2))))
theorem lc_fX64_packed_B5 (x1 : Int) (x2 : Int) : ∀ r5 : Int × Int → zX, (∀ s, zLoc zSc (r5 s)) → ∀ s, zLoc zSc (fX64_packed_B5 x1 x2 r5 s) := by
  intro r5 hr5 s
  obtain ⟨x3, x5⟩ := s
  unfold fX64_packed_B5
  exact (lc_ite (lc_ret _) (lc_ite (lc_fX64_packed_J40 hr5 x1 x2 x5 (zl (x3 * 64)) 0) (lc_al (by decide) fun v3 => (lc_cl (lc_fX0_sign v3) fun v4 => (lc_fX64_packed_J40 hr5 x1 x2 x5 (zl (x3 * 64)) v4)))))
theorem lc_fX64_packed (x1 : Int) (x2 : Int) : zLoc zSc (fX64_packed x1 x2) :=
  (lc_lp (lc_fX64_packed_B5 x1 x2) zBIG (0, 0))
theorem lc_fX64_name : zLoc zSc (fX64_name) :=
  (lc_gf (by decide) fun v1 => (lc_ite (lc_cl lc_fX64_isLabelWord fun v2 => (lc_ite (lc_gf (by decide) fun v3 => (lc_gf (by decide) fun v4 => (lc_cl (lc_fX64_packed v3 v4) fun v5 => (lc_cl lc_fX64_next fun _ => (lc_ret _))))) (lc_gf (by decide) fun v7 => (lc_cl (lc_fX64_wrong 2 v7) fun v8 => (lc_ret _))))) (lc_gf (by decide) fun v9 => (lc_cl (lc_fX64_wrong 1 v9) fun v10 => (lc_ret _)))))
theorem lc_fX64_isEnd : zLoc zSc (fX64_isEnd) :=
  (lc_gf (by decide) fun v1 => (lc_ite (lc_ret _) (lc_gf (by decide) fun v2 => (lc_cl (lc_fX64_wrong 1 v2) fun v3 => (lc_ite (lc_ret _) (lc_ret _))))))
theorem lc_fX64_findLabel_B2 (x1 : Int) : ∀ r2 : Int → zX, (∀ s, zLoc zSc (r2 s)) → ∀ s, zLoc zSc (fX64_findLabel_B2 x1 r2 s) := by
  intro r2 hr2 x3
  unfold fX64_findLabel_B2
  exact (lc_gf (by decide) fun v1 => (lc_ite (lc_ret _) (lc_al (by decide) fun v2 => (lc_ite (lc_lt fun v3 => (hr2 v3)) (lc_ret _)))))
theorem lc_fX64_findLabel (x1 : Int) : zLoc zSc (fX64_findLabel x1) :=
  (lc_lp (lc_fX64_findLabel_B2 x1) zBIG 0)
theorem lc_fX64_define : zLoc zSc (fX64_define) :=
  (lc_gf (by decide) fun v1 => (lc_cl lc_fX64_name fun v2 => (lc_gf (by decide) fun v3 => (lc_ite (lc_gf (by decide) fun v4 => (lc_ite (lc_gf (by decide) fun v5 => (lc_ite (lc_gf (by decide) fun v6 => (lc_as (by decide) (lc_gf (by decide) fun v7 => (lc_pf (by decide) (lc_cl lc_fX64_isEnd fun v8 => (lc_rb _)))))) (lc_cl (lc_fX64_wrong 6 v1) fun v9 => (lc_rb _)))) (lc_cl (lc_fX64_findLabel v2) fun v10 => (lc_ite (lc_ret _) (lc_cl (lc_fX64_wrong 5 v1) fun v11 => (lc_ite (lc_ret _) (lc_ret _))))))) (lc_ret _)))))
theorem lc_fX64_isDigits_J53 {r14 : Int × Int → zX} (hr14 : ∀ s, zLoc zSc (r14 s)) (x2 : Int) (x4 : Int) (s0 : Int) : zLoc zSc (fX64_isDigits_J53 r14 x2 x4 s0) :=
  (lc_lt fun v1 => (hr14 (s0, v1)))
theorem lc_fX64_isDigits_J52 {r14 : Int × Int → zX} (hr14 : ∀ s, zLoc zSc (r14 s)) (x2 : Int) (x4 : Int) : zLoc zSc (fX64_isDigits_J52 r14 x2 x4) :=
  (lc_fX64_isDigits_J53 hr14 x2 x4 0)
theorem lc_fX64_isDigits_B14 (x2 : Int) : ∀ r14 : Int × Int → zX, (∀ s, zLoc zSc (r14 s)) → ∀ s, zLoc zSc (fX64_isDigits_B14 x2 r14 s) := by
  intro r14 hr14 s
  obtain ⟨x3, x4⟩ := s
  unfold fX64_isDigits_B14
  exact (lc_ite (lc_rb _) (lc_ite (lc_fX64_isDigits_J52 hr14 x2 x4) (lc_al (by decide) fun v2 => (lc_ite (lc_fX64_isDigits_J52 hr14 x2 x4) (lc_al (by decide) fun v3 => (lc_ite (lc_fX64_isDigits_J52 hr14 x2 x4) (lc_fX64_isDigits_J53 hr14 x2 x4 1)))))))
theorem lc_fX64_isDigits_J10 (x1 : Int) (x2 : Int) (s0 : Int) : zLoc zSc (fX64_isDigits_J10 x1 x2 s0) :=
  (lc_lp (lc_fX64_isDigits_B14 x2) zBIG (s0, x1))
theorem lc_fX64_isDigits (x1 : Int) (x2 : Int) : zLoc zSc (fX64_isDigits x1 x2) :=
  (lc_ite (lc_fX64_isDigits_J10 x1 x2 0) (lc_fX64_isDigits_J10 x1 x2 1))
theorem lc_fX64_isNumber : zLoc zSc (fX64_isNumber) :=
  (lc_gf (by decide) fun v1 => (lc_ite (lc_ret _) (lc_gf (by decide) fun v2 => (lc_gf (by decide) fun v3 => (lc_cl (lc_fX64_isDigits v2 v3) fun v4 => (lc_ite (lc_ret _) (lc_ret _)))))))
theorem lc_fX64_digits_B25 : ∀ r25 : Int × Int → zX, (∀ s, zLoc zSc (r25 s)) → ∀ s, zLoc zSc (fX64_digits_B25 r25 s) := by
  intro r25 hr25 s
  obtain ⟨x1, x3⟩ := s
  unfold fX64_digits_B25
  exact (lc_gf (by decide) fun v4 => (lc_ite (lc_ret _) (lc_al (by decide) fun v5 => (lc_lt fun v6 => (lc_lt fun v7 => (hr25 (v6, v7)))))))
theorem lc_fX64_digits : zLoc zSc (fX64_digits) :=
  (lc_gf (by decide) fun v1 => (lc_gf (by decide) fun v2 => (lc_ite (lc_gf (by decide) fun v3 => (lc_lp lc_fX64_digits_B25 zBIG (0, v3))) (lc_ret _))))
theorem lc_fX64_number_J37 : zLoc zSc (fX64_number_J37) :=
  (lc_gf (by decide) fun v3 => (lc_cl (lc_fX64_wrong 3 v3) fun v4 => (lc_ret _)))
theorem lc_fX64_number (x1 : Int) : zLoc zSc (fX64_number x1) :=
  (lc_cl lc_fX64_isNumber fun v1 => (lc_ite (lc_cl lc_fX64_digits fun v2 => (lc_ite lc_fX64_number_J37 (lc_ite (lc_cl lc_fX64_next fun _ => (lc_ret _)) lc_fX64_number_J37))) (lc_gf (by decide) fun v6 => (lc_cl (lc_fX64_wrong 1 v6) fun v7 => (lc_ret _)))))
theorem lc_fX64_put_J31 : zLoc zSc (fX64_put_J31) :=
  (lc_gf (by decide) fun v2 => (lc_pf (by decide) (lc_ret _)))
theorem lc_fX64_put (x1 : Int) : zLoc zSc (fX64_put x1) :=
  (lc_gf (by decide) fun v1 => (lc_ite lc_fX64_put_J31 (lc_gf (by decide) fun v3 => (lc_ite lc_fX64_put_J31 (lc_gf (by decide) fun v4 => (lc_as (by decide) lc_fX64_put_J31))))))
theorem lc_fX64_space_J35 : zLoc zSc (fX64_space_J35) :=
  (lc_cl lc_fX64_isEnd fun v3 => (lc_rb _))
theorem lc_fX64_space_B19 (x1 : Int) : ∀ r19 : Int → zX, (∀ s, zLoc zSc (r19 s)) → ∀ s, zLoc zSc (fX64_space_B19 x1 r19 s) := by
  intro r19 hr19 x2
  unfold fX64_space_B19
  exact (lc_ite lc_fX64_space_J35 (lc_cl (lc_fX64_put 0) fun _ => (lc_lt fun v5 => (hr19 v5))))
theorem lc_fX64_space : zLoc zSc (fX64_space) :=
  (lc_cl (lc_fX64_number 1023) fun v1 => (lc_gf (by decide) fun v2 => (lc_ite (lc_lp (lc_fX64_space_B19 v1) zBIG 0) (lc_ret _))))
theorem lc_fX64_takes (x1 : Int) : zLoc zSc (fX64_takes x1) :=
  (lc_cl (lc_fX64_is x1) fun v1 => (lc_ite (lc_cl lc_fX64_next fun _ => (lc_ret _)) (lc_gf (by decide) fun v3 => (lc_cl (lc_fX64_wrong 1 v3) fun v4 => (lc_rb _)))))
theorem lc_fX64_term_J115 (s1 : Int) (s2 : Int) (s3 : Int) : zLoc zSc (fX64_term_J115 s1 s2 s3) :=
  (lc_pf (by decide) (lc_ret _))
theorem lc_fX64_term_J93 (x1 : Int) (x6 : Int) : zLoc zSc (fX64_term_J93 x1 x6) :=
  (lc_gf (by decide) fun v7 => (lc_ite (lc_al (by decide) fun v8 => (lc_fX64_term_J115 v7 x1 v8)) (lc_fX64_term_J115 v7 x1 0)))
theorem lc_fX64_term (x1 : Int) : zLoc zSc (fX64_term x1) :=
  (lc_gf (by decide) fun v1 => (lc_cl lc_fX64_isNumber fun v2 => (lc_ite (lc_cl lc_fX64_name fun v3 => (lc_gf (by decide) fun v4 => (lc_ite (lc_cl (lc_fX64_findLabel v3) fun v5 => (lc_gf (by decide) fun v6 => (lc_ite (lc_fX64_term_J93 x1 v5) (lc_ite (lc_fX64_term_J93 x1 v5) (lc_cl (lc_fX64_wrong 5 v1) fun v9 => (lc_rb _)))))) (lc_ret _)))) (lc_cl lc_fX64_digits fun v10 => (lc_ite (lc_gf (by decide) fun v11 => (lc_pf (by decide) (lc_cl lc_fX64_next fun _ => (lc_ret _)))) (lc_cl (lc_fX64_wrong 3 v1) fun v13 => (lc_rb _)))))))
theorem lc_fX64_expression_J131 (x5 : Int) : zLoc zSc (fX64_expression_J131 x5) :=
  (lc_cl (lc_fX64_wrong 3 x5) fun v5 => (lc_ite (lc_ret _) (lc_ret _)))
theorem lc_fX64_expression_J106 (x1 : Int) (x3 : Int) (x5 : Int) : zLoc zSc (fX64_expression_J106 x1 x3 x5) :=
  (lc_gf (by decide) fun v3 => (lc_ite (lc_ret _) (lc_gf (by decide) fun v4 => (lc_ite (lc_fX64_expression_J131 x5) (lc_gf (by decide) fun v6 => (lc_ite (lc_ret _) (lc_fX64_expression_J131 x5)))))))
theorem lc_fX64_expression_J97 {r35 : Int × Int → zX} (hr35 : ∀ s, zLoc zSc (r35 s)) (x1 : Int) (x3 : Int) (x5 : Int) (x8 : Int) (s0 : Int) : zLoc zSc (fX64_expression_J97 r35 x1 x3 x5 x8 s0) :=
  (lc_cl lc_fX64_next fun _ => (hr35 (s0, x8)))
theorem lc_fX64_expression_J74 {r35 : Int × Int → zX} (hr35 : ∀ s, zLoc zSc (r35 s)) (x1 : Int) (x3 : Int) (x5 : Int) (x6 : Int) (s0 : Int) : zLoc zSc (fX64_expression_J74 r35 x1 x3 x5 x6 s0) :=
  (lc_ite (hr35 (x6, s0)) (lc_cl (lc_fX64_is 43) fun v9 => (lc_ite (lc_fX64_expression_J97 hr35 x1 x3 x5 s0 (-1)) (lc_fX64_expression_J97 hr35 x1 x3 x5 s0 1))))
theorem lc_fX64_expression_J69 {r35 : Int × Int → zX} (hr35 : ∀ s, zLoc zSc (r35 s)) (x1 : Int) (x3 : Int) (x5 : Int) (x6 : Int) : zLoc zSc (fX64_expression_J69 r35 x1 x3 x5 x6) :=
  (lc_fX64_expression_J74 hr35 x1 x3 x5 x6 1)
theorem lc_fX64_expression_B35 (x1 : Int) (x3 : Int) (x5 : Int) : ∀ r35 : Int × Int → zX, (∀ s, zLoc zSc (r35 s)) → ∀ s, zLoc zSc (fX64_expression_B35 x1 x3 x5 r35 s) := by
  intro r35 hr35 s
  obtain ⟨x6, x8⟩ := s
  unfold fX64_expression_B35
  exact (lc_ite (lc_fX64_expression_J106 x1 x3 x5) (lc_cl (lc_fX64_term x6) fun v7 => (lc_ite (lc_cl (lc_fX64_is 43) fun v8 => (lc_ite (lc_fX64_expression_J69 hr35 x1 x3 x5 x6) (lc_cl (lc_fX64_is 45) fun v11 => (lc_ite (lc_fX64_expression_J74 hr35 x1 x3 x5 x6 0) (lc_fX64_expression_J69 hr35 x1 x3 x5 x6))))) (lc_ret _))))
theorem lc_fX64_expression_J32 (x1 : Int) (x3 : Int) (x5 : Int) (x6 : Int) : zLoc zSc (fX64_expression_J32 x1 x3 x5 x6) :=
  (lc_lp (lc_fX64_expression_B35 x1 x3 x5) zBIG (x6, 1))
theorem lc_fX64_expression (x1 : Int) (x3 : Int) : zLoc zSc (fX64_expression x1 x3) :=
  (lc_gf (by decide) fun v1 => (lc_pf (by decide) (lc_cl (lc_fX64_is 45) fun v2 => (lc_ite (lc_fX64_expression_J32 x1 x3 v1 1) (lc_cl lc_fX64_next fun _ => (lc_fX64_expression_J32 x1 x3 v1 (-1)))))))
theorem lc_fX64_offset : zLoc zSc (fX64_offset) :=
  (lc_cl (lc_fX64_expression (-131072) 262143) fun v1 => (lc_rb _))
theorem lc_fX64_pointer_J91 (x3 : Int) : zLoc zSc (fX64_pointer_J91 x3) :=
  (lc_cl (lc_fX64_put x3) fun _ => (lc_cl lc_fX64_isEnd fun v12 => (lc_rb _)))
theorem lc_fX64_pointer : zLoc zSc (fX64_pointer) :=
  (lc_cl (lc_fX64_number 31) fun v1 => (lc_gf (by decide) fun v2 => (lc_ite (lc_ret _) (lc_cl (lc_fX64_takes 44) fun v3 => (lc_ite (lc_cl (lc_fX64_number 7) fun v4 => (lc_gf (by decide) fun v5 => (lc_ite (lc_ret _) (lc_cl (lc_fX64_takes 44) fun v6 => (lc_ite (lc_ret _) (lc_cl lc_fX64_offset fun v7 => (lc_ite (lc_gf (by decide) fun v8 => (lc_cl (lc_fX0_pointerWord v1 (zi (v8 % 262144)) v4) fun v9 => (lc_cl (lc_fX64_is 42) fun v10 => (lc_ite (lc_fX64_pointer_J91 v9) (lc_lt fun v13 => (lc_cl lc_fX64_next fun _ => (lc_fX64_pointer_J91 v13))))))) (lc_ret _)))))))) (lc_ret _))))))
theorem lc_fX64_wordList_J125 : zLoc zSc (fX64_wordList_J125) :=
  (lc_cl lc_fX64_isEnd fun v1 => (lc_rb _))
theorem lc_fX64_wordList_J107 {r2 : Int → zX} (hr2 : ∀ s, zLoc zSc (r2 s)) : zLoc zSc (fX64_wordList_J107 r2) :=
  (lc_cl (lc_fX64_is 44) fun v6 => (lc_ite (hr2 v6) (lc_cl lc_fX64_next fun _ => (hr2 v6))))
theorem lc_fX64_wordList_J51 : zLoc zSc (fX64_wordList_J51) :=
  (lc_gf (by decide) fun v17 => (lc_cl (lc_fX64_wrong 2 v17) fun v18 => (lc_rb _)))
theorem lc_fX64_wordList_J27 : zLoc zSc (fX64_wordList_J27) :=
  (lc_gf (by decide) fun v19 => (lc_cl (lc_fX64_wrong 1 v19) fun v20 => (lc_rb _)))
theorem lc_fX64_wordList_B2 : ∀ r2 : Int → zX, (∀ s, zLoc zSc (r2 s)) → ∀ s, zLoc zSc (fX64_wordList_B2 r2 s) := by
  intro r2 hr2 x1
  unfold fX64_wordList_B2
  exact (lc_ite lc_fX64_wordList_J125 (lc_cl (lc_fX64_is 39) fun v2 => (lc_ite (lc_cl (lc_fX64_expression (-34359738368) 68719476735) fun v3 => (lc_ite (lc_gf (by decide) fun v4 => (lc_cl (lc_fX64_put v4) fun _ => (lc_fX64_wordList_J107 hr2))) (lc_ret _))) (lc_cl lc_fX64_next fun _ => (lc_gf (by decide) fun v9 => (lc_ite (lc_gf (by decide) fun v10 => (lc_gf (by decide) fun v11 => (lc_ite (lc_gf (by decide) fun v12 => (lc_gf (by decide) fun v13 => (lc_cl (lc_fX64_packed v12 v13) fun v14 => (lc_cl (lc_fX64_put v14) fun _ => (lc_cl lc_fX64_next fun _ => (lc_fX64_wordList_J107 hr2)))))) lc_fX64_wordList_J51))) lc_fX64_wordList_J27))))))
theorem lc_fX64_wordList : zLoc zSc (fX64_wordList) :=
  (lc_lp lc_fX64_wordList_B2 zBIG 1)
theorem lc_fX64_operation_J157 {r2 : Int → zX} (hr2 : ∀ s, zLoc zSc (r2 s)) (x1 : Int) (x2 : Int) (x3 : Int) : zLoc zSc (fX64_operation_J157 r2 x1 x2 x3) :=
  (lc_lt fun v5 => (hr2 v5))
theorem lc_fX64_operation_J109 {r2 : Int → zX} (hr2 : ∀ s, zLoc zSc (r2 s)) (x1 : Int) (x2 : Int) (x3 : Int) (x4 : Int) (x6 : Int) : zLoc zSc (fX64_operation_J109 r2 x1 x2 x3 x4 x6) :=
  (lc_ite (lc_fX64_operation_J157 hr2 x1 x2 x3) (lc_nn (lc_ite (lc_ret _) (lc_al (by decide) fun v7 => (lc_ite (lc_fX64_operation_J157 hr2 x1 x2 x3) (lc_al (by decide) fun v8 => (lc_ite (lc_fX64_operation_J157 hr2 x1 x2 x3) (lc_ret _))))))))
theorem lc_fX64_operation_J101 {r2 : Int → zX} (hr2 : ∀ s, zLoc zSc (r2 s)) {r62 : Int × Int → zX} (hr62 : ∀ s, zLoc zSc (r62 s)) (x1 : Int) (x2 : Int) (x3 : Int) (x4 : Int) (x5 : Int) (x7 : Int) (s0 : Int) : zLoc zSc (fX64_operation_J101 r2 r62 x1 x2 x3 x4 x5 x7 s0) :=
  (lc_lt fun v12 => (hr62 (s0, v12)))
theorem lc_fX64_operation_B62 {r2 : Int → zX} (hr2 : ∀ s, zLoc zSc (r2 s)) (x1 : Int) (x2 : Int) (x3 : Int) (x4 : Int) (x5 : Int) : ∀ r62 : Int × Int → zX, (∀ s, zLoc zSc (r62 s)) → ∀ s, zLoc zSc (fX64_operation_B62 r2 x1 x2 x3 x4 x5 r62 s) := by
  intro r62 hr62 s
  obtain ⟨x6, x7⟩ := s
  unfold fX64_operation_B62
  exact (lc_ite (lc_fX64_operation_J109 hr2 x1 x2 x3 x4 x6) (lc_ite (lc_fX64_operation_J109 hr2 x1 x2 x3 x4 x6) (lc_al (by decide) fun v9 => (lc_nn (lc_sc fun v11 => (lc_ite (lc_fX64_operation_J101 hr2 hr62 x1 x2 x3 x4 x5 x7 0) (lc_fX64_operation_J101 hr2 hr62 x1 x2 x3 x4 x5 x7 1)))))))
theorem lc_fX64_operation_J57 {r2 : Int → zX} (hr2 : ∀ s, zLoc zSc (r2 s)) (x1 : Int) (x2 : Int) (x3 : Int) (x4 : Int) (x5 : Int) (s0 : Int) : zLoc zSc (fX64_operation_J57 r2 x1 x2 x3 x4 x5 s0) :=
  (lc_lp (lc_fX64_operation_B62 hr2 x1 x2 x3 x4 x5) zBIG (s0, 0))
theorem lc_fX64_operation_J49 {r2 : Int → zX} (hr2 : ∀ s, zLoc zSc (r2 s)) (x1 : Int) (x2 : Int) (x3 : Int) (x4 : Int) (x5 : Int) (s0 : Int) (s1 : Int) : zLoc zSc (fX64_operation_J49 r2 x1 x2 x3 x4 x5 s0 s1) :=
  (lc_ite (lc_fX64_operation_J57 hr2 x1 x2 x3 x4 x5 0) (lc_fX64_operation_J57 hr2 x1 x2 x3 x4 x5 1))
theorem lc_fX64_operation_B2 (x1 : Int) (x2 : Int) : ∀ r2 : Int → zX, (∀ s, zLoc zSc (r2 s)) → ∀ s, zLoc zSc (fX64_operation_B2 x1 x2 r2 s) := by
  intro r2 hr2 x3
  unfold fX64_operation_B2
  exact (lc_ite (lc_ret _) (lc_ib (lc_lt fun v4 => (lc_ite (lc_fX64_operation_J49 hr2 x1 x2 x3 x3 v4 (zi (x2 - x1)) v4) (lc_fX64_operation_J49 hr2 x1 x2 x3 x3 v4 (zi (x2 - x1)) (zi (v4 + 1)))))))
theorem lc_fX64_operation (x1 : Int) (x2 : Int) : zLoc zSc (fX64_operation x1 x2) :=
  (lc_lp (lc_fX64_operation_B2 x1 x2) zBIG 0)
theorem lc_fX64_which_B2 (x1 : Int) : ∀ r2 : Int → zX, (∀ s, zLoc zSc (r2 s)) → ∀ s, zLoc zSc (fX64_which_B2 x1 r2 s) := by
  intro r2 hr2 x2
  unfold fX64_which_B2
  exact (lc_ib (lc_ite (lc_ret _) (lc_lt fun v3 => (hr2 v3))))
theorem lc_fX64_which (x1 : Int) : zLoc zSc (fX64_which x1) :=
  (lc_lp (lc_fX64_which_B2 x1) zBIG 0)
theorem lc_fX64_ahead_J30 (x1 : Int) : zLoc zSc (fX64_ahead_J30 x1) :=
  (lc_gf (by decide) fun v3 => (lc_ite (lc_ret _) (lc_al (by decide) fun v4 => (lc_ret _))))
theorem lc_fX64_ahead_B5 : ∀ r5 : Int → zX, (∀ s, zLoc zSc (r5 s)) → ∀ s, zLoc zSc (fX64_ahead_B5 r5 s) := by
  intro r5 hr5 x1
  unfold fX64_ahead_B5
  exact (lc_gf (by decide) fun v2 => (lc_ite (lc_fX64_ahead_J30 x1) (lc_al (by decide) fun v5 => (lc_ite (lc_fX64_ahead_J30 x1) (lc_lt fun v6 => (hr5 v6))))))
theorem lc_fX64_ahead : zLoc zSc (fX64_ahead) :=
  (lc_gf (by decide) fun v1 => (lc_lp lc_fX64_ahead_B5 zBIG v1))
theorem lc_fX64_linkFor_J45 (x1 : Int) (x3 : Int) (x5 : Int) : zLoc zSc (fX64_linkFor_J45 x1 x3 x5) :=
  (lc_gf (by decide) fun v2 => (lc_ite (lc_gf (by decide) fun v3 => (lc_as (by decide) (lc_gf (by decide) fun v4 => (lc_as (by decide) (lc_gf (by decide) fun v5 => (lc_pf (by decide) (lc_gf (by decide) fun v6 => (lc_ret _)))))))) (lc_cl (lc_fX64_wrong 6 x5) fun v7 => (lc_ret _))))
theorem lc_fX64_linkFor_J39 {r3 : Int → zX} (hr3 : ∀ s, zLoc zSc (r3 s)) (x1 : Int) (x3 : Int) (x5 : Int) (x6 : Int) : zLoc zSc (fX64_linkFor_J39 r3 x1 x3 x5 x6) :=
  (lc_lt fun v9 => (hr3 v9))
theorem lc_fX64_linkFor_B3 (x1 : Int) (x3 : Int) (x5 : Int) : ∀ r3 : Int → zX, (∀ s, zLoc zSc (r3 s)) → ∀ s, zLoc zSc (fX64_linkFor_B3 x1 x3 x5 r3 s) := by
  intro r3 hr3 x6
  unfold fX64_linkFor_B3
  exact (lc_gf (by decide) fun v1 => (lc_ite (lc_fX64_linkFor_J45 x1 x3 x5) (lc_al (by decide) fun v8 => (lc_ite (lc_fX64_linkFor_J39 hr3 x1 x3 x5 x6) (lc_al (by decide) fun v10 => (lc_ite (lc_fX64_linkFor_J39 hr3 x1 x3 x5 x6) (lc_ret _)))))))
theorem lc_fX64_linkFor (x1 : Int) (x3 : Int) (x5 : Int) : zLoc zSc (fX64_linkFor x1 x3 x5) :=
  (lc_lp (lc_fX64_linkFor_B3 x1 x3 x5) zBIG 0)
theorem lc_fX64_addressed_J233 : zLoc zSc (fX64_addressed_J233) :=
  (lc_cl lc_fX64_offset fun v4 => (lc_rb _))
theorem lc_fX64_addressed_J217 (s1 : Int) : zLoc zSc (fX64_addressed_J217 s1) :=
  (lc_pf (by decide) (lc_gf (by decide) fun v13 => (lc_ite (lc_ret _) (lc_ret _))))
theorem lc_fX64_addressed_J145 : zLoc zSc (fX64_addressed_J145) :=
  (lc_gf (by decide) fun v3 => (lc_ite lc_fX64_addressed_J233 (lc_cl lc_fX64_ahead fun v5 => (lc_ite lc_fX64_addressed_J233 (lc_gf (by decide) fun v6 => (lc_cl lc_fX64_name fun v7 => (lc_gf (by decide) fun v8 => (lc_ite (lc_cl lc_fX64_next fun _ => (lc_cl lc_fX64_name fun v10 => (lc_pf (by decide) (lc_gf (by decide) fun v11 => (lc_ite (lc_cl (lc_fX64_linkFor v7 v10 v6) fun v12 => (lc_fX64_addressed_J217 v12)) (lc_fX64_addressed_J217 0)))))) (lc_ret _)))))))))
theorem lc_fX64_addressed : zLoc zSc (fX64_addressed) :=
  (lc_pf (by decide) (lc_pf (by decide) (lc_cl (lc_fX64_is 35) fun v1 => (lc_ite (lc_gf (by decide) fun v2 => (lc_ite lc_fX64_addressed_J145 (lc_cl lc_fX64_ahead fun v14 => (lc_ite lc_fX64_addressed_J145 (lc_gf (by decide) fun v15 => (lc_gf (by decide) fun v16 => (lc_ite lc_fX64_addressed_J145 (lc_gf (by decide) fun v17 => (lc_al (by decide) fun v18 => (lc_ite lc_fX64_addressed_J145 (lc_gf (by decide) fun v19 => (lc_al (by decide) fun v20 => (lc_ite lc_fX64_addressed_J145 (lc_gf (by decide) fun v21 => (lc_al (by decide) fun v22 => (lc_ite lc_fX64_addressed_J145 (lc_pf (by decide) (lc_gf (by decide) fun v23 => (lc_al (by decide) fun v24 => (lc_pf (by decide) (lc_cl lc_fX64_next fun _ => (lc_cl lc_fX64_next fun _ => (lc_cl lc_fX64_offset fun v27 => (lc_rb _)))))))))))))))))))))))) (lc_cl lc_fX64_next fun _ => (lc_pf (by decide) (lc_cl lc_fX64_offset fun v29 => (lc_rb _))))))))
theorem lc_fX64_operand_J211 (x3 : Int) (x5 : Int) (x7 : Int) : zLoc zSc (fX64_operand_J211 x3 x5 x7) :=
  (lc_gf (by decide) fun v9 => (lc_gf (by decide) fun v10 => (lc_cl (lc_fX64_put (zoR (zoR (zoR (zoR x3 (zl (v9 * 134217728))) (zl (v10 * 16777216))) (zl (x7 * 262144))) x5)) fun _ => (lc_cl lc_fX64_isEnd fun v12 => (lc_rb _)))))
theorem lc_fX64_operand_J179 : zLoc zSc (fX64_operand_J179) :=
  (lc_gf (by decide) fun v15 => (lc_cl (lc_fX64_wrong 1 v15) fun v16 => (lc_rb _)))
theorem lc_fX64_operand_J96 (x3 : Int) (x5 : Int) : zLoc zSc (fX64_operand_J96 x3 x5) :=
  (lc_cl (lc_fX64_is 44) fun v8 => (lc_ite (lc_fX64_operand_J211 x3 x5 0) (lc_cl lc_fX64_next fun _ => (lc_gf (by decide) fun v14 => (lc_ite lc_fX64_operand_J179 (lc_gf (by decide) fun v17 => (lc_gf (by decide) fun v18 => (lc_ite lc_fX64_operand_J179 (lc_gf (by decide) fun v19 => (lc_al (by decide) fun v20 => (lc_ite lc_fX64_operand_J179 (lc_gf (by decide) fun v21 => (lc_al (by decide) fun v22 => (lc_ite lc_fX64_operand_J179 (lc_gf (by decide) fun v23 => (lc_al (by decide) fun v24 => (lc_ite (lc_gf (by decide) fun v25 => (lc_al (by decide) fun v26 => (lc_lt fun v27 => (lc_cl lc_fX64_next fun _ => (lc_fX64_operand_J211 x3 x5 v27))))) lc_fX64_operand_J179)))))))))))))))))
theorem lc_fX64_operand_J89 (x3 : Int) (x5 : Int) (s1 : Int) : zLoc zSc (fX64_operand_J89 x3 x5 s1) :=
  (lc_pf (by decide) (lc_cl lc_fX64_next fun _ => (lc_fX64_operand_J96 x3 x5)))
theorem lc_fX64_operand (x1 : Int) (x2 : Int) : zLoc zSc (fX64_operand x1 x2) :=
  (lc_cl (lc_fX64_which x1) fun v1 => (lc_lt fun v2 => (lc_nn (lc_ite (lc_cl lc_fX64_addressed fun v4 => (lc_ite (lc_gf (by decide) fun v5 => (lc_lt fun v6 => (lc_gf (by decide) fun v7 => (lc_ite (lc_fX64_operand_J96 v2 v6) (lc_cl (lc_fX64_is 42) fun v29 => (lc_ite (lc_fX64_operand_J96 v2 v6) (lc_gf (by decide) fun v30 => (lc_ite (lc_gf (by decide) fun v31 => (lc_fX64_operand_J89 v2 v6 (zi (v31 + 4)))) (lc_fX64_operand_J89 v2 v6 6))))))))) (lc_ret _))) (lc_cl (lc_fX64_put v2) fun _ => (lc_cl lc_fX64_isEnd fun v34 => (lc_rb _)))))))
theorem lc_fX64_statement_J55 (s1 : Int) (s2 : Int) : zLoc zSc (fX64_statement_J55 s1 s2) :=
  (lc_cl (lc_fX64_operand s1 s2) fun v14 => (lc_rb _))
theorem lc_fX64_statement (x1 : Int) (x2 : Int) : zLoc zSc (fX64_statement x1 x2) :=
  (lc_al (by decide) fun v1 => (lc_ite (lc_cl (lc_fX64_isDirective x1 x2 38) fun v2 => (lc_ite (lc_cl (lc_fX64_isDirective x1 x2 39) fun v3 => (lc_ite (lc_cl (lc_fX64_isDirective x1 x2 40) fun v4 => (lc_ite (lc_cl (lc_fX64_isDirective x1 x2 41) fun v5 => (lc_ite (lc_cl (lc_fX64_wrong 2 x1) fun v6 => (lc_rb _)) (lc_cl lc_fX64_define fun v7 => (lc_rb _)))) (lc_cl lc_fX64_space fun v8 => (lc_rb _)))) (lc_cl lc_fX64_pointer fun v9 => (lc_rb _)))) (lc_cl lc_fX64_wordList fun v10 => (lc_rb _)))) (lc_cl (lc_fX64_operation x1 x2) fun v11 => (lc_ite (lc_cl (lc_fX64_wrong 2 x1) fun v13 => (lc_rb _)) (lc_ite (lc_fX64_statement_J55 v11 0) (lc_al (by decide) fun v15 => (lc_fX64_statement_J55 v11 (zi (v15 - 48)))))))))
theorem lc_fX64_labelHere_J30 (x1 : Int) : zLoc zSc (fX64_labelHere_J30 x1) :=
  (lc_cl (lc_fX64_wrong 2 x1) fun v2 => (lc_rb _))
theorem lc_fX64_labelHere (x1 : Int) (x2 : Int) : zLoc zSc (fX64_labelHere x1 x2) :=
  (lc_al (by decide) fun v1 => (lc_ite (lc_fX64_labelHere_J30 x1) (lc_al (by decide) fun v3 => (lc_ite (lc_fX64_labelHere_J30 x1) (lc_ite (lc_gf (by decide) fun v4 => (lc_ite (lc_cl (lc_fX64_packed x1 x2) fun v5 => (lc_cl (lc_fX64_findLabel v5) fun v6 => (lc_ite (lc_gf (by decide) fun v7 => (lc_ite (lc_gf (by decide) fun v8 => (lc_as (by decide) (lc_gf (by decide) fun v9 => (lc_gf (by decide) fun v10 => (lc_as (by decide) (lc_gf (by decide) fun v11 => (lc_pf (by decide) (lc_ret _)))))))) (lc_cl (lc_fX64_wrong 6 x1) fun v12 => (lc_rb _)))) (lc_cl (lc_fX64_wrong 4 x1) fun v13 => (lc_rb _))))) (lc_ret _))) (lc_fX64_labelHere_J30 x1))))))
theorem lc_fX64_line_J109 (x1 : Int) (x2 : Int) : zLoc zSc (fX64_line_J109 x1 x2) :=
  (lc_cl (lc_fX64_statement x1 x2) fun v8 => (lc_ret _))
theorem lc_fX64_line : zLoc zSc (fX64_line) :=
  (lc_cl lc_fX64_next fun _ => (lc_gf (by decide) fun v2 => (lc_ite (lc_gf (by decide) fun v3 => (lc_ite (lc_gf (by decide) fun v4 => (lc_gf (by decide) fun v5 => (lc_cl lc_fX64_next fun _ => (lc_cl (lc_fX64_is 58) fun v7 => (lc_ite (lc_fX64_line_J109 v4 v5) (lc_cl (lc_fX64_labelHere v4 v5) fun v9 => (lc_ite (lc_cl lc_fX64_next fun _ => (lc_gf (by decide) fun v11 => (lc_ite (lc_gf (by decide) fun v12 => (lc_ite (lc_gf (by decide) fun v13 => (lc_gf (by decide) fun v14 => (lc_cl lc_fX64_next fun _ => (lc_fX64_line_J109 v13 v14)))) (lc_gf (by decide) fun v16 => (lc_cl (lc_fX64_wrong 1 v16) fun v17 => (lc_ret _))))) (lc_ret _)))) (lc_ret _)))))))) (lc_gf (by decide) fun v18 => (lc_cl (lc_fX64_wrong 1 v18) fun v19 => (lc_ret _))))) (lc_ret _))))
theorem lc_fX64_goOver_J89 {r7 : Int → zX} (hr7 : ∀ s, zLoc zSc (r7 s)) (x1 : Int) (x2 : Int) : zLoc zSc (fX64_goOver_J89 r7 x1 x2) :=
  (lc_pf (by decide) (lc_cl lc_fX64_line fun _ => (lc_lt fun v6 => (hr7 v6))))
theorem lc_fX64_goOver_B54 {r7 : Int → zX} (hr7 : ∀ s, zLoc zSc (r7 s)) (x1 : Int) (x2 : Int) : ∀ r54 : Int → zX, (∀ s, zLoc zSc (r54 s)) → ∀ s, zLoc zSc (fX64_goOver_B54 r7 x1 x2 r54 s) := by
  intro r54 hr54 _
  unfold fX64_goOver_B54
  exact (lc_gf (by decide) fun v4 => (lc_ite (lc_fX64_goOver_J89 hr7 x1 x2) (lc_gf (by decide) fun v7 => (lc_al (by decide) fun v8 => (lc_ite (lc_fX64_goOver_J89 hr7 x1 x2) (lc_gf (by decide) fun v9 => (lc_pf (by decide) (hr54 0))))))))
theorem lc_fX64_goOver_J49 {r7 : Int → zX} (hr7 : ∀ s, zLoc zSc (r7 s)) (x1 : Int) (x2 : Int) : zLoc zSc (fX64_goOver_J49 r7 x1 x2) :=
  (lc_pf (by decide) (lc_lp (lc_fX64_goOver_B54 hr7 x1 x2) zBIG 0))
theorem lc_fX64_goOver_B24 {r7 : Int → zX} (hr7 : ∀ s, zLoc zSc (r7 s)) (x1 : Int) : ∀ r24 : Int → zX, (∀ s, zLoc zSc (r24 s)) → ∀ s, zLoc zSc (fX64_goOver_B24 r7 x1 r24 s) := by
  intro r24 hr24 x2
  unfold fX64_goOver_B24
  exact (lc_gf (by decide) fun v3 => (lc_ite (lc_fX64_goOver_J49 hr7 x1 x2) (lc_al (by decide) fun v10 => (lc_ite (lc_fX64_goOver_J49 hr7 x1 x2) (lc_lt fun v11 => (hr24 v11))))))
theorem lc_fX64_goOver_B7 : ∀ r7 : Int → zX, (∀ s, zLoc zSc (r7 s)) → ∀ s, zLoc zSc (fX64_goOver_B7 r7 s) := by
  intro r7 hr7 x1
  unfold fX64_goOver_B7
  exact (lc_gf (by decide) fun v1 => (lc_ite (lc_ret _) (lc_gf (by decide) fun v2 => (lc_ite (lc_ret _) (lc_lp (lc_fX64_goOver_B24 hr7 x1) zBIG x1)))))
theorem lc_fX64_goOver : zLoc zSc (fX64_goOver) :=
  (lc_pf (by decide) (lc_lp lc_fX64_goOver_B7 zBIG 0))
theorem lc_fX64_putTables_J92 (x1 : Int) (x2 : Int) : zLoc zSc (fX64_putTables_J92 x1 x2) :=
  (lc_gf (by decide) fun v5 => (lc_as (by decide) (lc_gf (by decide) fun v6 => (lc_as (by decide) (lc_ret _)))))
theorem lc_fX64_putTables_B48 (x1 : Int) (x2 : Int) : ∀ r48 : Int → zX, (∀ s, zLoc zSc (r48 s)) → ∀ s, zLoc zSc (fX64_putTables_B48 x1 x2 r48 s) := by
  intro r48 hr48 x3
  unfold fX64_putTables_B48
  exact (lc_gf (by decide) fun v4 => (lc_ite (lc_fX64_putTables_J92 x1 x2) (lc_al (by decide) fun v7 => (lc_cl (lc_fX64_put v7) fun _ => (lc_al (by decide) fun v9 => (lc_cl (lc_fX64_findLabel v9) fun v10 => (lc_al (by decide) fun v11 => (lc_cl (lc_fX64_put v11) fun _ => (lc_lt fun v13 => (hr48 v13))))))))))
theorem lc_fX64_putTables_J41 (x1 : Int) : zLoc zSc (fX64_putTables_J41 x1) :=
  (lc_gf (by decide) fun v3 => (lc_lp (lc_fX64_putTables_B48 x1 v3) zBIG 0))
theorem lc_fX64_putTables_B7 (x1 : Int) : ∀ r7 : Int → zX, (∀ s, zLoc zSc (r7 s)) → ∀ s, zLoc zSc (fX64_putTables_B7 x1 r7 s) := by
  intro r7 hr7 x2
  unfold fX64_putTables_B7
  exact (lc_gf (by decide) fun v2 => (lc_ite (lc_fX64_putTables_J41 x1) (lc_al (by decide) fun v14 => (lc_cl (lc_fX64_put v14) fun _ => (lc_al (by decide) fun v16 => (lc_cl (lc_fX64_put v16) fun _ => (lc_lt fun v18 => (hr7 v18))))))))
theorem lc_fX64_putTables : zLoc zSc (fX64_putTables) :=
  (lc_gf (by decide) fun v1 => (lc_lp (lc_fX64_putTables_B7 v1) zBIG 0))
theorem lc_fX64_into_J146 : zLoc zSc (fX64_into_J146) :=
  (lc_gf (by decide) fun v7 => (lc_ret _))
theorem lc_fX64_into_J137 {r105 : Int → zX} (hr105 : ∀ s, zLoc zSc (r105 s)) (x1 : Int) (x2 : Int) (s1 : Int) (s2 : Int) (s3 : Int) : zLoc zSc (fX64_into_J137 r105 x1 x2 s1 s2 s3) :=
  (lc_cl (lc_fX1_put s1 s2 s3) fun _ => (lc_lt fun v10 => (hr105 v10)))
theorem lc_fX64_into_B105 (x1 : Int) : ∀ r105 : Int → zX, (∀ s, zLoc zSc (r105 s)) → ∀ s, zLoc zSc (fX64_into_B105 x1 r105 s) := by
  intro r105 hr105 x2
  unfold fX64_into_B105
  exact (lc_nn (lc_gf (by decide) fun v6 => (lc_ite lc_fX64_into_J146 (lc_gf (by decide) fun v8 => (lc_ite (lc_fX64_into_J137 hr105 x1 x2 x1 x2 0) (lc_al (by decide) fun v11 => (lc_fX64_into_J137 hr105 x1 x2 x1 x2 v11)))))))
theorem lc_fX64_into_J83 (x1 : Int) : zLoc zSc (fX64_into_J83 x1) :=
  (lc_pf (by decide) (lc_gf (by decide) fun v4 => (lc_ite (lc_lp (lc_fX64_into_B105 x1) zBIG 0) (lc_gf (by decide) fun v12 => (lc_ret _)))))
theorem lc_fX64_into_J50 (x1 : Int) : zLoc zSc (fX64_into_J50 x1) :=
  (lc_gf (by decide) fun v3 => (lc_ite (lc_fX64_into_J83 x1) (lc_cl lc_fX64_putTables fun _ => (lc_gf (by decide) fun v14 => (lc_nn (lc_gf (by decide) fun v16 => (lc_ite (lc_fX64_into_J83 x1) (lc_gf (by decide) fun v17 => (lc_cl (lc_fX64_wrong 6 v17) fun v18 => (lc_fX64_into_J83 x1))))))))))
theorem lc_fX64_into (x1 : Int) : zLoc zSc (fX64_into x1) :=
  (lc_pf (by decide) (lc_pf (by decide) (lc_pf (by decide) (lc_pf (by decide) (lc_pf (by decide) (lc_pf (by decide) (lc_cl lc_fX64_goOver fun _ => (lc_pf (by decide) (lc_gf (by decide) fun v2 => (lc_ite (lc_fX64_into_J50 x1) (lc_cl lc_fX64_goOver fun _ => (lc_fX64_into_J50 x1))))))))))))
theorem lc_fX0_assemble (x1 : Int) : zLoc zSc (fX0_assemble x1) :=
  (lc_cl (lc_fX1_segment x1) fun v1 => (lc_ite (lc_ret _) (lc_cl (lc_fX64_into v1) fun v3 => (lc_gf (by decide) fun v4 => (lc_pf (by decide) (lc_ret _))))))
theorem lc_fX0_place : zLoc zSc (fX0_place) :=
  (lc_gf (by decide) fun v1 => (lc_ret _))
theorem lc_fX66_put_2 (x1 : Int) : zLoc zSc (fX66_put_2 x1) :=
  (lc_gf (by decide) fun v1 => (lc_as (by decide) (lc_gf (by decide) fun v2 => (lc_pf (by decide) (lc_ret _)))))
theorem lc_fX66_put_B2 (x1 : Int) : ∀ r2 : Int → zX, (∀ s, zLoc zSc (r2 s)) → ∀ s, zLoc zSc (fX66_put_B2 x1 r2 s) := by
  intro r2 hr2 x2
  unfold fX66_put_B2
  exact (lc_nn (lc_ite (lc_ret _) (lc_sc fun v3 => (lc_cl (lc_fX66_put_2 v3) fun _ => (lc_lt fun v5 => (hr2 v5))))))
theorem lc_fX66_put (x1 : Int) : zLoc zSc (fX66_put x1) :=
  (lc_lp (lc_fX66_put_B2 x1) zBIG 0)
theorem lc_fX66_put_3_B21 (x1 : Int) : ∀ r21 : Int → zX, (∀ s, zLoc zSc (r21 s)) → ∀ s, zLoc zSc (fX66_put_3_B21 x1 r21 s) := by
  intro r21 hr21 x3
  unfold fX66_put_3_B21
  exact (lc_ite (lc_ret _) (lc_ne (lc_cl (lc_fX66_put_2 ((zi (zl (48 + (Int.tmod (zl (Int.tdiv x1 x3)) 10)))) % 65536)) fun _ => (lc_lt fun v4 => (hr21 v4)))))
theorem lc_fX66_put_3_B2 (x1 : Int) : ∀ r2 : Int → zX, (∀ s, zLoc zSc (r2 s)) → ∀ s, zLoc zSc (fX66_put_3_B2 x1 r2 s) := by
  intro r2 hr2 x3
  unfold fX66_put_3_B2
  exact (lc_ne (lc_ite (lc_lp (lc_fX66_put_3_B21 x1) zBIG x3) (lc_lt fun v5 => (hr2 v5))))
theorem lc_fX66_put_3 (x1 : Int) : zLoc zSc (fX66_put_3 x1) :=
  (lc_lp (lc_fX66_put_3_B2 x1) zBIG 1)
theorem lc_fX66_isPlain_J84 (x0 : Int) (x4 : Int) (s0 : Int) : zLoc zSc (fX66_isPlain_J84 x0 x4 s0) :=
  (lc_nn (lc_gf (by decide) fun v8 => (lc_ite (lc_ret _) (lc_gf (by decide) fun v9 => (lc_ite (lc_ret _) (lc_gf (by decide) fun v10 => (lc_ite (lc_ret _) (lc_ite (lc_ret _) (lc_ite (lc_ret _) (lc_gf (by decide) fun v11 => (lc_ite (lc_ret _) (lc_ret _))))))))))))
theorem lc_fX66_isPlain_J44 (x0 : Int) (x1 : Int) (s0 : Int) : zLoc zSc (fX66_isPlain_J44 x0 x1 s0) :=
  (lc_nn (lc_ite (lc_nn (lc_gf (by decide) fun v6 => (lc_ite (lc_fX66_isPlain_J84 x0 s0 0) (lc_fX66_isPlain_J84 x0 s0 1)))) (lc_nn (lc_gf (by decide) fun v13 => (lc_ite (lc_fX66_isPlain_J84 x0 s0 0) (lc_fX66_isPlain_J84 x0 s0 1))))))
theorem lc_fX66_isPlain_J39 (x0 : Int) (x1 : Int) : zLoc zSc (fX66_isPlain_J39 x0 x1) :=
  (lc_fX66_isPlain_J44 x0 x1 1)
theorem lc_fX66_isPlain (x0 : Int) (x1 : Int) (x2 : Int) : zLoc zSc (fX66_isPlain x0 x1 x2) :=
  (lc_nn (lc_ite (lc_nn (lc_gf (by decide) fun v3 => (lc_ite (lc_fX66_isPlain_J39 x0 x1) (lc_gf (by decide) fun v14 => (lc_ite (lc_fX66_isPlain_J44 x0 x1 0) (lc_fX66_isPlain_J39 x0 x1)))))) (lc_ite (lc_ret _) (lc_ret _))))
theorem lc_fX66_list_J59 (x1 : Int) : zLoc zSc (fX66_list_J59 x1) :=
  (lc_cl (lc_fX66_put 42) fun _ => (lc_cl (lc_fX66_put_3 x1) fun _ => (lc_gf (by decide) fun v7 => (lc_ret _))))
theorem lc_fX66_list_J221 : zLoc zSc (fX66_list_J221) :=
  (lc_gf (by decide) fun v26 => (lc_ret _))
theorem lc_fX66_list_J197 (x3 : Int) : zLoc zSc (fX66_list_J197 x3) :=
  (lc_nn (lc_gf (by decide) fun v25 => (lc_ite lc_fX66_list_J221 (lc_cl (lc_fX66_put 43) fun _ => (lc_gf (by decide) fun v28 => (lc_cl (lc_fX66_put_3 (zl (v28 - 1))) fun _ => lc_fX66_list_J221))))))
theorem lc_fX66_list_J174 (x3 : Int) : zLoc zSc (fX66_list_J174 x3) :=
  (lc_nn (lc_gf (by decide) fun v21 => (lc_cl (lc_fX66_put_3 v21) fun _ => (lc_gf (by decide) fun v23 => (lc_ite (lc_fX66_list_J197 x3) (lc_cl (lc_fX66_put_2 42) fun _ => (lc_fX66_list_J197 x3)))))))
theorem lc_fX66_list_J153 (x3 : Int) : zLoc zSc (fX66_list_J153 x3) :=
  (lc_cl (lc_fX66_put_2 112) fun _ => (lc_nn (lc_gf (by decide) fun v17 => (lc_cl (lc_fX66_put_3 v17) fun _ => (lc_cl (lc_fX66_put_2 124) fun _ => (lc_fX66_list_J174 x3))))))
theorem lc_fX66_list_J101 (x3 : Int) (x5 : Int) : zLoc zSc (fX66_list_J101 x3 x5) :=
  (lc_nn (lc_ite (lc_cl (lc_fX66_put_2 32) fun _ => (lc_nn (lc_gf (by decide) fun v13 => (lc_ite (lc_gf (by decide) fun v14 => (lc_ite (lc_fX66_list_J153 x3) (lc_gf (by decide) fun v31 => (lc_ite (lc_fX66_list_J174 x3) (lc_fX66_list_J153 x3))))) (lc_cl (lc_fX66_put_2 35) fun _ => (lc_fX66_list_J174 x3)))))) (lc_gf (by decide) fun v33 => (lc_ret _))))
theorem lc_fX66_list_J42 (x1 : Int) (x3 : Int) (s0 : Int) : zLoc zSc (fX66_list_J42 x1 x3 s0) :=
  (lc_ite (lc_fX66_list_J59 x1) (lc_cl (lc_fX66_isPlain x3 s0 x1) fun v8 => (lc_ite (lc_cl (lc_fX66_put s0) fun _ => (lc_ite (lc_fX66_list_J101 x3 s0) (lc_nn (lc_gf (by decide) fun v35 => (lc_cl (lc_fX66_put_3 v35) fun _ => (lc_fX66_list_J101 x3 s0)))))) (lc_fX66_list_J59 x1))))
theorem lc_fX66_list (x1 : Int) (x3 : Int) : zLoc zSc (fX66_list x1 x3) :=
  (lc_pf (by decide) (lc_lt fun v1 => (lc_nn (lc_cl (lc_fX7_take x3 x1) fun _ => (lc_ite (lc_fX66_list_J42 x1 x3 (-1)) (lc_ib (lc_fX66_list_J42 x1 x3 v1)))))))
theorem lc_fX0_list (x1 : Int) : zLoc zSc (fX0_list x1) :=
  (lc_cl (lc_fX0_isWord x1) fun v1 => (lc_ite (lc_ret _) (lc_cl (lc_fX66_list x1 512) fun v2 => (lc_ret _))))
theorem lc_fX0_listed (x1 : Int) : zLoc zSc (fX0_listed x1) :=
  (lc_gf (by decide) fun v1 => (lc_cl (lc_fX0_isIn x1 0 (zl (v1 - 1))) fun v2 => (lc_ite (lc_ret _) (lc_al (by decide) fun v3 => (lc_ret _)))))
theorem lc_fX65_put (x1 : Int) : zLoc zSc (fX65_put x1) :=
  (lc_gf (by decide) fun v1 => (lc_as (by decide) (lc_gf (by decide) fun v2 => (lc_pf (by decide) (lc_ret _)))))
theorem lc_fX65_putWord_B3 (x1 : Int) : ∀ r3 : Int → zX, (∀ s, zLoc zSc (r3 s)) → ∀ s, zLoc zSc (fX65_putWord_B3 x1 r3 s) := by
  intro r3 hr3 x3
  unfold fX65_putWord_B3
  exact (lc_ite (lc_ret _) (lc_cl (lc_fX65_put (zi (x1 / 2 ^ (x3 % 64).toNat))) fun _ => (lc_lt fun v2 => (hr3 v2))))
theorem lc_fX65_putWord (x1 : Int) : zLoc zSc (fX65_putWord x1) :=
  (lc_lp (lc_fX65_putWord_B3 x1) zBIG 32)
theorem lc_fX65_putItems_B10 (x1 : Int) : ∀ r10 : Int → zX, (∀ s, zLoc zSc (r10 s)) → ∀ s, zLoc zSc (fX65_putItems_B10 x1 r10 s) := by
  intro r10 hr10 x2
  unfold fX65_putItems_B10
  exact (lc_nn (lc_gf (by decide) fun v5 => (lc_ite (lc_ret _) (lc_cl (lc_fX5_person x1 x2) fun v6 => (lc_cl (lc_fX65_put v6) fun _ => (lc_cl (lc_fX5_project x1 x2) fun v8 => (lc_cl (lc_fX65_put v8) fun _ => (lc_al (by decide) fun v10 => (lc_cl (lc_fX65_put v10) fun _ => (lc_lt fun v12 => (hr10 v12)))))))))))
theorem lc_fX65_putItems (x1 : Int) : zLoc zSc (fX65_putItems x1) :=
  (lc_nn (lc_gf (by decide) fun v2 => (lc_cl (lc_fX65_put v2) fun _ => (lc_lp (lc_fX65_putItems_B10 x1) zBIG 0))))
theorem lc_fX65_putNode_B211 {sf : Int → zX} (hsf : ∀ (a0 : Int), zLoc zSc (sf a0)) (x1 : Int) : ∀ r211 : Int → zX, (∀ s, zLoc zSc (r211 s)) → ∀ s, zLoc zSc (fX65_putNode_B211 sf x1 r211 s) := by
  intro r211 hr211 x2
  unfold fX65_putNode_B211
  exact (lc_nn (lc_gf (by decide) fun v22 => (lc_ite (lc_ret _) (lc_cl (lc_fX1_get x1 x2) fun v23 => (lc_cl (lc_fX65_putWord v23) fun _ => (lc_lt fun v25 => (hr211 v25)))))))
theorem lc_fX65_putNode_B164 {sf : Int → zX} (hsf : ∀ (a0 : Int), zLoc zSc (sf a0)) : ∀ r164 : Int → zX, (∀ s, zLoc zSc (r164 s)) → ∀ s, zLoc zSc (fX65_putNode_B164 sf r164 s) := by
  intro r164 hr164 x2
  unfold fX65_putNode_B164
  exact (lc_ite (lc_ret _) (lc_cl (hsf x2) fun _ => (lc_gf (by decide) fun v37 => (hr164 v37))))
theorem lc_fX65_putNode_B68 {sf : Int → zX} (hsf : ∀ (a0 : Int), zLoc zSc (sf a0)) (x1 : Int) : ∀ r68 : Int → zX, (∀ s, zLoc zSc (r68 s)) → ∀ s, zLoc zSc (fX65_putNode_B68 sf x1 r68 s) := by
  intro r68 hr68 x2
  unfold fX65_putNode_B68
  exact (lc_nn (lc_gf (by decide) fun v43 => (lc_nn (lc_gf (by decide) fun v45 => (lc_ite (lc_ret _) (lc_gf (by decide) fun v46 => (lc_nn (lc_al (by decide) fun v48 => (lc_cl (lc_fX65_put v48) fun _ => (lc_gf (by decide) fun v50 => (lc_nn (lc_al (by decide) fun v52 => (lc_cl (lc_fX65_putWord v52) fun _ => (lc_lt fun v54 => (hr68 v54)))))))))))))))
theorem lc_fX65_putNode_E {sf : Int → zX} (hsf : ∀ (a0 : Int), zLoc zSc (sf a0)) (x1 : Int) : zLoc zSc (fX65_putNode_E sf x1) :=
  (lc_nn (lc_gf (by decide) fun v2 => (lc_cl (lc_fX65_put v2) fun _ => (lc_gf (by decide) fun v4 => (lc_cl (lc_fX65_putWord v4) fun _ => (lc_gf (by decide) fun v6 => (lc_cl (lc_fX65_put v6) fun _ => (lc_gf (by decide) fun v8 => (lc_cl (lc_fX65_put v8) fun _ => (lc_gf (by decide) fun v10 => (lc_cl (lc_fX65_put v10) fun _ => (lc_cl (lc_fX65_putItems (3 * x1)) fun _ => (lc_cl (lc_fX4_isMailbox x1) fun v13 => (lc_ite (lc_cl (lc_fX4_isDirectory x1) fun v14 => (lc_ite (lc_gf (by decide) fun v15 => (lc_cl (lc_fX65_put v15) fun _ => (lc_gf (by decide) fun v17 => (lc_cl (lc_fX65_put (v17 / 256)) fun _ => (lc_gf (by decide) fun v19 => (lc_cl (lc_fX65_put v19) fun _ => (lc_lp (lc_fX65_putNode_B211 hsf x1) zBIG 0))))))) (lc_gf (by decide) fun v26 => (lc_cl (lc_fX65_put v26) fun _ => (lc_gf (by decide) fun v28 => (lc_cl (lc_fX65_put v28) fun _ => (lc_cl (lc_fX65_putItems (3 * x1 + 1)) fun _ => (lc_cl (lc_fX65_putItems (3 * x1 + 2)) fun _ => (lc_gf (by decide) fun v32 => (lc_cl (lc_fX65_put v32) fun _ => (lc_gf (by decide) fun v34 => (lc_lp (lc_fX65_putNode_B164 hsf) zBIG v34)))))))))))) (lc_gf (by decide) fun v38 => (lc_nn (lc_gf (by decide) fun v40 => (lc_cl (lc_fX65_put v40) fun _ => (lc_lp (lc_fX65_putNode_B68 hsf x1) zBIG 0)))))))))))))))))))
theorem lc_fX65_putNode : ∀ (n : Nat) (a0 : Int), zLoc zSc (fX65_putNode n a0) := by
  intro n
  induction n with
  | zero => intro a0; exact lc_no
  | succ n ih => intro a0; exact lc_fX65_putNode_E ih a0
theorem lc_fX65_checkTo_B4 (x1 : Int) : ∀ r4 : Int × Int → zX, (∀ s, zLoc zSc (r4 s)) → ∀ s, zLoc zSc (fX65_checkTo_B4 x1 r4 s) := by
  intro r4 hr4 s
  obtain ⟨x2, x3⟩ := s
  unfold fX65_checkTo_B4
  exact (lc_ite (lc_ret _) (lc_al (by decide) fun v1 => (lc_lt fun v2 => (lc_lt fun v3 => (hr4 (v2, v3))))))
theorem lc_fX65_checkTo (x1 : Int) : zLoc zSc (fX65_checkTo x1) :=
  (lc_lp (lc_fX65_checkTo_B4 x1) zBIG (0, 0))
theorem lc_fX65_dump (x1 : Int) : zLoc zSc (fX65_dump x1) :=
  (lc_pf (by decide) (lc_cl (lc_fX65_put 82) fun _ => (lc_cl (lc_fX65_put 72) fun _ => (lc_cl (lc_fX65_put 1) fun _ => (lc_cl (lc_fX65_putNode 300 x1) fun _ => (lc_gf (by decide) fun v5 => (lc_cl (lc_fX65_checkTo v5) fun v6 => (lc_cl (lc_fX65_put (v6 / 256)) fun _ => (lc_cl (lc_fX65_put v6) fun _ => (lc_gf (by decide) fun v9 => (lc_ret _)))))))))))
theorem lc_fX0_dump (x1 : Int) : zLoc zSc (fX0_dump x1) :=
  (lc_cl (lc_fX1_node x1) fun v1 => (lc_ite (lc_ret _) (lc_ite (lc_cl (lc_fX65_dump v1) fun v3 => (lc_ret _)) (lc_ret _))))
theorem lc_fX0_tape (x1 : Int) : zLoc zSc (fX0_tape x1) :=
  (lc_gf (by decide) fun v1 => (lc_cl (lc_fX0_isIn x1 0 (zl (v1 - 1))) fun v2 => (lc_ite (lc_ret _) (lc_al (by decide) fun v3 => (lc_ret _)))))
theorem lc_fX0_alter_J81 (s1 : Int) : zLoc zSc (fX0_alter_J81 s1) :=
  (lc_pf (by decide) (lc_gf (by decide) fun v6 => (lc_ret _)))
theorem lc_fX0_alter (x1 : Int) (x2 : Int) : zLoc zSc (fX0_alter x1 x2) :=
  (lc_gf (by decide) fun v1 => (lc_cl (lc_fX0_isIn x1 0 v1) fun v2 => (lc_ite (lc_ret _) (lc_cl (lc_fX0_isIn x2 0 255) fun v3 => (lc_ite (lc_ite (lc_as (by decide) (lc_gf (by decide) fun v4 => (lc_ite (lc_gf (by decide) fun v5 => (lc_fX0_alter_J81 v5)) (lc_fX0_alter_J81 (zi (x1 + 1)))))) (lc_ret _)) (lc_ret _))))))
theorem lc_fX0_cut (x1 : Int) : zLoc zSc (fX0_cut x1) :=
  (lc_gf (by decide) fun v1 => (lc_cl (lc_fX0_isIn x1 0 v1) fun v2 => (lc_ite (lc_gf (by decide) fun v3 => (lc_lt fun v4 => (lc_pf (by decide) (lc_ret _)))) (lc_ret _))))
theorem lc_fX65_wrong (x1 : Int) (x2 : Int) : zLoc zSc (fX65_wrong x1 x2) :=
  (lc_gf (by decide) fun v1 => (lc_ite (lc_ret _) (lc_pf (by decide) (lc_pf (by decide) (lc_ret _)))))
theorem lc_fX65_take : zLoc zSc (fX65_take) :=
  (lc_gf (by decide) fun v1 => (lc_gf (by decide) fun v2 => (lc_ite (lc_gf (by decide) fun v3 => (lc_pf (by decide) (lc_gf (by decide) fun v4 => (lc_al (by decide) fun v5 => (lc_ret _))))) (lc_gf (by decide) fun v6 => (lc_cl (lc_fX65_wrong 1 v6) fun v7 => (lc_ret _))))))
theorem lc_fX65_take_2_J30 (x3 : Int) (x4 : Int) : zLoc zSc (fX65_take_2_J30 x3 x4) :=
  (lc_cl (lc_fX65_wrong 3 x3) fun v4 => (lc_ret _))
theorem lc_fX65_take_2 (x1 : Int) (x2 : Int) : zLoc zSc (fX65_take_2 x1 x2) :=
  (lc_gf (by decide) fun v1 => (lc_cl lc_fX65_take fun v2 => (lc_gf (by decide) fun v3 => (lc_ite (lc_ret _) (lc_ite (lc_fX65_take_2_J30 v1 v2) (lc_ite (lc_ret _) (lc_fX65_take_2_J30 v1 v2)))))))
theorem lc_fX65_takeWord_B4 : ∀ r4 : Int × Int → zX, (∀ s, zLoc zSc (r4 s)) → ∀ s, zLoc zSc (fX65_takeWord_B4 r4 s) := by
  intro r4 hr4 s
  obtain ⟨x1, x3⟩ := s
  unfold fX65_takeWord_B4
  exact (lc_ite (lc_ret _) (lc_cl lc_fX65_take fun v1 => (lc_lt fun v2 => (lc_lt fun v3 => (hr4 (v2, v3))))))
theorem lc_fX65_takeWord : zLoc zSc (fX65_takeWord) :=
  (lc_lp lc_fX65_takeWord_B4 zBIG (0, 0))
theorem lc_fX65_lookName_J95 (x2 : Int) : zLoc zSc (fX65_lookName_J95 x2) :=
  (lc_gf (by decide) fun v9 => (lc_as (by decide) (lc_gf (by decide) fun v10 => (lc_pf (by decide) (lc_ret _)))))
theorem lc_fX65_lookName_J81 (x1 : Int) : zLoc zSc (fX65_lookName_J81 x1) :=
  (lc_cl (lc_fX65_wrong 4 x1) fun v13 => (lc_ret _))
theorem lc_fX65_lookName_B60 (x1 : Int) (x2 : Int) : ∀ r60 : Int → zX, (∀ s, zLoc zSc (r60 s)) → ∀ s, zLoc zSc (fX65_lookName_B60 x1 x2 r60 s) := by
  intro r60 hr60 x4
  unfold fX65_lookName_B60
  exact (lc_gf (by decide) fun v8 => (lc_ite (lc_fX65_lookName_J95 x2) (lc_al (by decide) fun v11 => (lc_ite (lc_lt fun v12 => (hr60 v12)) (lc_fX65_lookName_J81 x1)))))
theorem lc_fX65_lookName_J58 (x1 : Int) (x2 : Int) (s0 : Int) : zLoc zSc (fX65_lookName_J58 x1 x2 s0) :=
  (lc_lp (lc_fX65_lookName_B60 x1 x2) zBIG s0)
theorem lc_fX65_lookName : zLoc zSc (fX65_lookName) :=
  (lc_gf (by decide) fun v1 => (lc_cl lc_fX65_takeWord fun v2 => (lc_gf (by decide) fun v3 => (lc_ite (lc_cl (lc_fX0_isName v2) fun v4 => (lc_ite (lc_gf (by decide) fun v5 => (lc_ite (lc_gf (by decide) fun v6 => (lc_al (by decide) fun v7 => (lc_fX65_lookName_J58 v1 v2 v7))) (lc_gf (by decide) fun v14 => (lc_fX65_lookName_J58 v1 v2 v14)))) (lc_cl (lc_fX65_wrong 3 v1) fun v15 => (lc_ret _)))) (lc_ret _)))))
theorem lc_fX65_charge (x1 : Int) : zLoc zSc (fX65_charge x1) :=
  (lc_gf (by decide) fun v1 => (lc_ite (lc_ret _) (lc_gf (by decide) fun v2 => (lc_al (by decide) fun v3 => (lc_as (by decide) (lc_ret _))))))
theorem lc_fX65_lookMailbox_J191 (s1 : Int) : zLoc zSc (fX65_lookMailbox_J191 s1) :=
  (lc_pf (by decide) (lc_ret _))
theorem lc_fX65_lookMailbox_J168 : zLoc zSc (fX65_lookMailbox_J168) :=
  (lc_cl (lc_fX65_charge 17) fun _ => (lc_gf (by decide) fun v3 => (lc_ite (lc_gf (by decide) fun v4 => (lc_fX65_lookMailbox_J191 v4)) (lc_fX65_lookMailbox_J191 17))))
theorem lc_fX65_lookMailbox_J162 {r32 : Int → zX} (hr32 : ∀ s, zLoc zSc (r32 s)) (x1 : Int) (x2 : Int) (x3 : Int) : zLoc zSc (fX65_lookMailbox_J162 r32 x1 x2 x3) :=
  (lc_lt fun v14 => (hr32 v14))
theorem lc_fX65_lookMailbox_J127 {r32 : Int → zX} (hr32 : ∀ s, zLoc zSc (r32 s)) (x1 : Int) (x2 : Int) (x3 : Int) : zLoc zSc (fX65_lookMailbox_J127 r32 x1 x2 x3) :=
  (lc_gf (by decide) fun v11 => (lc_cl lc_fX65_takeWord fun v12 => (lc_gf (by decide) fun v13 => (lc_ite (lc_fX65_lookMailbox_J162 hr32 x1 x2 x3) (lc_cl (lc_fX0_isWord v12) fun v15 => (lc_ite (lc_fX65_lookMailbox_J162 hr32 x1 x2 x3) (lc_cl (lc_fX65_wrong 3 v11) fun v16 => (lc_fX65_lookMailbox_J162 hr32 x1 x2 x3))))))))
theorem lc_fX65_lookMailbox_J101 {r32 : Int → zX} (hr32 : ∀ s, zLoc zSc (r32 s)) (x1 : Int) (x2 : Int) (x3 : Int) (x4 : Int) (x5 : Int) : zLoc zSc (fX65_lookMailbox_J101 r32 x1 x2 x3 x4 x5) :=
  (lc_gf (by decide) fun v10 => (lc_ite (lc_fX65_lookMailbox_J127 hr32 x1 x2 x3) (lc_al (by decide) fun v17 => (lc_ite (lc_fX65_lookMailbox_J127 hr32 x1 x2 x3) (lc_cl (lc_fX65_wrong 3 x4) fun v18 => (lc_fX65_lookMailbox_J127 hr32 x1 x2 x3))))))
theorem lc_fX65_lookMailbox_J83 {r32 : Int → zX} (hr32 : ∀ s, zLoc zSc (r32 s)) (x1 : Int) (x2 : Int) (x3 : Int) (x4 : Int) (x5 : Int) : zLoc zSc (fX65_lookMailbox_J83 r32 x1 x2 x3 x4 x5) :=
  (lc_gf (by decide) fun v9 => (lc_ite (lc_fX65_lookMailbox_J101 hr32 x1 x2 x3 x4 x5) (lc_al (by decide) fun v19 => (lc_as (by decide) (lc_fX65_lookMailbox_J101 hr32 x1 x2 x3 x4 x5)))))
theorem lc_fX65_lookMailbox_B32 (x1 : Int) (x2 : Int) : ∀ r32 : Int → zX, (∀ s, zLoc zSc (r32 s)) → ∀ s, zLoc zSc (fX65_lookMailbox_B32 x1 x2 r32 s) := by
  intro r32 hr32 x3
  unfold fX65_lookMailbox_B32
  exact (lc_ite lc_fX65_lookMailbox_J168 (lc_gf (by decide) fun v5 => (lc_ite lc_fX65_lookMailbox_J168 (lc_gf (by decide) fun v6 => (lc_cl (lc_fX65_take_2 0 31) fun v7 => (lc_gf (by decide) fun v8 => (lc_ite (lc_fX65_lookMailbox_J83 hr32 x1 x2 x3 v6 v7) (lc_cl (lc_fX0_dominates v7 x1) fun v20 => (lc_ite (lc_fX65_lookMailbox_J83 hr32 x1 x2 x3 v6 v7) (lc_cl (lc_fX65_wrong 5 v6) fun v21 => (lc_fX65_lookMailbox_J83 hr32 x1 x2 x3 v6 v7)))))))))))
theorem lc_fX65_lookMailbox_J30 (x1 : Int) (x2 : Int) : zLoc zSc (fX65_lookMailbox_J30 x1 x2) :=
  (lc_lp (lc_fX65_lookMailbox_B32 x1 x2) zBIG 0)
theorem lc_fX65_lookMailbox_B11 (x1 : Int) (x2 : Int) : ∀ r11 : Int → zX, (∀ s, zLoc zSc (r11 s)) → ∀ s, zLoc zSc (fX65_lookMailbox_B11 x1 x2 r11 s) := by
  intro r11 hr11 x3
  unfold fX65_lookMailbox_B11
  exact (lc_ite (lc_fX65_lookMailbox_J30 x1 x2) (lc_as (by decide) (lc_lt fun v22 => (hr11 v22))))
theorem lc_fX65_lookMailbox (x1 : Int) : zLoc zSc (fX65_lookMailbox x1) :=
  (lc_cl (lc_fX65_take_2 0 128) fun v1 => (lc_lp (lc_fX65_lookMailbox_B11 x1 v1) zBIG 0))
theorem lc_fX65_shut_J150 {r0 : Int → zX} (hr0 : ∀ s, zLoc zSc (r0 s)) (s1 : Int) : zLoc zSc (fX65_shut_J150 r0 s1) :=
  (lc_pf (by decide) (hr0 0))
theorem lc_fX65_shut_J114 {r0 : Int → zX} (hr0 : ∀ s, zLoc zSc (r0 s)) (s0 : Int) (s1 : Int) : zLoc zSc (fX65_shut_J114 r0 s0 s1) :=
  (lc_lt fun v11 => (lc_gf (by decide) fun v12 => (lc_al (by decide) fun v13 => (lc_pf (by decide) (lc_cl (lc_fX65_charge v11) fun _ => (lc_gf (by decide) fun v15 => (lc_ite (lc_gf (by decide) fun v16 => (lc_fX65_shut_J150 hr0 v16)) (lc_fX65_shut_J150 hr0 v11))))))))
theorem lc_fX65_shut_J77 {r0 : Int → zX} (hr0 : ∀ s, zLoc zSc (r0 s)) (s1 : Int) : zLoc zSc (fX65_shut_J77 r0 s1) :=
  (lc_pb (by decide) (lc_gf (by decide) fun v7 => (lc_al (by decide) fun v8 => (lc_ite (lc_gf (by decide) fun v9 => (lc_al (by decide) fun v10 => (lc_fX65_shut_J114 hr0 1 v10))) (lc_gf (by decide) fun v17 => (lc_al (by decide) fun v18 => (lc_fX65_shut_J114 hr0 1 v18)))))))
theorem lc_fX65_shut_J72 {r0 : Int → zX} (hr0 : ∀ s, zLoc zSc (r0 s)) : zLoc zSc (fX65_shut_J72 r0) :=
  (lc_fX65_shut_J77 hr0 1)
theorem lc_fX65_shut_J76 {r0 : Int → zX} (hr0 : ∀ s, zLoc zSc (r0 s)) : zLoc zSc (fX65_shut_J76 r0) :=
  (lc_fX65_shut_J77 hr0 0)
theorem lc_fX65_shut_B0 : ∀ r0 : Int → zX, (∀ s, zLoc zSc (r0 s)) → ∀ s, zLoc zSc (fX65_shut_B0 r0 s) := by
  intro r0 hr0 _
  unfold fX65_shut_B0
  exact (lc_gf (by decide) fun v1 => (lc_ite (lc_ret _) (lc_gf (by decide) fun v2 => (lc_al (by decide) fun v3 => (lc_ite (lc_ret _) (lc_gf (by decide) fun v4 => (lc_pf (by decide) (lc_gf (by decide) fun v5 => (lc_ite (lc_fX65_shut_J72 hr0) (lc_gf (by decide) fun v19 => (lc_al (by decide) fun v20 => (lc_ite (lc_fX65_shut_J76 hr0) (lc_gf (by decide) fun v21 => (lc_al (by decide) fun v22 => (lc_gf (by decide) fun v23 => (lc_al (by decide) fun v24 => (lc_ite (lc_fX65_shut_J76 hr0) (lc_fX65_shut_J72 hr0))))))))))))))))))
theorem lc_fX65_shut : zLoc zSc (fX65_shut) :=
  (lc_lp lc_fX65_shut_B0 zBIG 0)
theorem lc_fX65_lookSegment_J133 (s1 : Int) : zLoc zSc (fX65_lookSegment_J133 s1) :=
  (lc_pf (by decide) (lc_ret _))
theorem lc_fX65_lookSegment_J102 (x2 : Int) : zLoc zSc (fX65_lookSegment_J102 x2) :=
  (lc_cl (lc_fX0_records x2) fun v8 => (lc_cl (lc_fX65_charge (zi (1 + v8))) fun _ => (lc_gf (by decide) fun v10 => (lc_ite (lc_gf (by decide) fun v11 => (lc_fX65_lookSegment_J133 v11)) (lc_cl (lc_fX0_records x2) fun v12 => (lc_fX65_lookSegment_J133 (zi (1 + v12))))))))
theorem lc_fX65_lookSegment_J96 {r51 : Int → zX} (hr51 : ∀ s, zLoc zSc (r51 s)) (x2 : Int) (x3 : Int) : zLoc zSc (fX65_lookSegment_J96 r51 x2 x3) :=
  (lc_lt fun v17 => (hr51 v17))
theorem lc_fX65_lookSegment_B51 (x2 : Int) : ∀ r51 : Int → zX, (∀ s, zLoc zSc (r51 s)) → ∀ s, zLoc zSc (fX65_lookSegment_B51 x2 r51 s) := by
  intro r51 hr51 x3
  unfold fX65_lookSegment_B51
  exact (lc_ite (lc_fX65_lookSegment_J102 x2) (lc_gf (by decide) fun v13 => (lc_ite (lc_fX65_lookSegment_J102 x2) (lc_gf (by decide) fun v14 => (lc_cl lc_fX65_takeWord fun v15 => (lc_gf (by decide) fun v16 => (lc_ite (lc_fX65_lookSegment_J96 hr51 x2 x3) (lc_cl (lc_fX0_isWord v15) fun v18 => (lc_ite (lc_fX65_lookSegment_J96 hr51 x2 x3) (lc_cl (lc_fX65_wrong 3 v14) fun v19 => (lc_fX65_lookSegment_J96 hr51 x2 x3)))))))))))
theorem lc_fX65_lookSegment_J49 (x2 : Int) : zLoc zSc (fX65_lookSegment_J49 x2) :=
  (lc_lp (lc_fX65_lookSegment_B51 x2) zBIG 0)
theorem lc_fX65_lookSegment : zLoc zSc (fX65_lookSegment) :=
  (lc_cl (lc_fX65_take_2 0 63) fun v1 => (lc_gf (by decide) fun v2 => (lc_cl lc_fX65_take fun v3 => (lc_lt fun v4 => (lc_cl lc_fX65_take fun v5 => (lc_lt fun v6 => (lc_gf (by decide) fun v7 => (lc_ite (lc_fX65_lookSegment_J49 v6) (lc_ite (lc_fX65_lookSegment_J49 v6) (lc_cl (lc_fX65_wrong 3 v2) fun v20 => (lc_fX65_lookSegment_J49 v6)))))))))))
theorem lc_fX65_lookItems_J105 {r9 : Int → zX} (hr9 : ∀ s, zLoc zSc (r9 s)) (x2 : Int) (x3 : Int) : zLoc zSc (fX65_lookItems_J105 r9 x2 x3) :=
  (lc_cl (lc_fX65_take_2 0 7) fun v7 => (lc_lt fun v8 => (hr9 v8)))
theorem lc_fX65_lookItems_J99 {r9 : Int → zX} (hr9 : ∀ s, zLoc zSc (r9 s)) {r62 : Int → zX} (hr62 : ∀ s, zLoc zSc (r62 s)) (x2 : Int) (x3 : Int) (x4 : Int) (x5 : Int) : zLoc zSc (fX65_lookItems_J99 r9 r62 x2 x3 x4 x5) :=
  (lc_lt fun v12 => (hr62 v12))
theorem lc_fX65_lookItems_B62 {r9 : Int → zX} (hr9 : ∀ s, zLoc zSc (r9 s)) (x2 : Int) (x3 : Int) (x4 : Int) : ∀ r62 : Int → zX, (∀ s, zLoc zSc (r62 s)) → ∀ s, zLoc zSc (fX65_lookItems_B62 r9 x2 x3 x4 r62 s) := by
  intro r62 hr62 x5
  unfold fX65_lookItems_B62
  exact (lc_ite (lc_fX65_lookItems_J105 hr9 x2 x3) (lc_gf (by decide) fun v9 => (lc_ite (lc_fX65_lookItems_J105 hr9 x2 x3) (lc_al (by decide) fun v10 => (lc_al (by decide) fun v11 => (lc_ite (lc_fX65_lookItems_J99 hr9 hr62 x2 x3 x4 x5) (lc_cl (lc_fX65_wrong 3 x4) fun v13 => (lc_fX65_lookItems_J99 hr9 hr62 x2 x3 x4 x5))))))))
theorem lc_fX65_lookItems_B9 (x2 : Int) : ∀ r9 : Int → zX, (∀ s, zLoc zSc (r9 s)) → ∀ s, zLoc zSc (fX65_lookItems_B9 x2 r9 s) := by
  intro r9 hr9 x3
  unfold fX65_lookItems_B9
  exact (lc_ite (lc_ret _) (lc_gf (by decide) fun v2 => (lc_ite (lc_ret _) (lc_gf (by decide) fun v3 => (lc_cl (lc_fX65_take_2 0 16) fun v4 => (lc_as (by decide) (lc_al (by decide) fun v5 => (lc_cl (lc_fX65_take_2 0 8) fun v6 => (lc_as (by decide) (lc_lp (lc_fX65_lookItems_B62 hr9 x2 x3 v3) zBIG 0))))))))))
theorem lc_fX65_lookItems (x1 : Int) : zLoc zSc (fX65_lookItems x1) :=
  (lc_cl (lc_fX65_take_2 0 x1) fun v1 => (lc_lp (lc_fX65_lookItems_B9 v1) zBIG 0))
theorem lc_fX65_lookDirectory_J94 (x3 : Int) (x4 : Int) : zLoc zSc (fX65_lookDirectory_J94 x3 x4) :=
  (lc_cl lc_fX65_take fun v9 => (lc_gf (by decide) fun v10 => (lc_ite (lc_gf (by decide) fun v11 => (lc_as (by decide) (lc_gf (by decide) fun v12 => (lc_as (by decide) (lc_gf (by decide) fun v13 => (lc_as (by decide) (lc_gf (by decide) fun v14 => (lc_as (by decide) (lc_gf (by decide) fun v15 => (lc_gf (by decide) fun v16 => (lc_as (by decide) (lc_gf (by decide) fun v17 => (lc_pf (by decide) (lc_ret _)))))))))))))) (lc_ret _))))
theorem lc_fX65_lookDirectory_J82 (x3 : Int) (x4 : Int) : zLoc zSc (fX65_lookDirectory_J82 x3 x4) :=
  (lc_gf (by decide) fun v8 => (lc_ite (lc_fX65_lookDirectory_J94 x3 x4) (lc_cl (lc_fX65_lookItems 3) fun _ => (lc_fX65_lookDirectory_J94 x3 x4))))
theorem lc_fX65_lookDirectory_J70 (x3 : Int) (x4 : Int) : zLoc zSc (fX65_lookDirectory_J70 x3 x4) :=
  (lc_gf (by decide) fun v7 => (lc_ite (lc_fX65_lookDirectory_J82 x3 x4) (lc_cl (lc_fX65_lookItems 3) fun _ => (lc_fX65_lookDirectory_J82 x3 x4))))
theorem lc_fX65_lookDirectory_J35 (x1 : Int) (x3 : Int) : zLoc zSc (fX65_lookDirectory_J35 x1 x3) :=
  (lc_gf (by decide) fun v4 => (lc_cl lc_fX65_take fun v5 => (lc_gf (by decide) fun v6 => (lc_ite (lc_fX65_lookDirectory_J70 x3 v5) (lc_ite (lc_fX65_lookDirectory_J70 x3 v5) (lc_ite (lc_fX65_lookDirectory_J70 x3 v5) (lc_cl (lc_fX65_wrong 5 v4) fun v20 => (lc_fX65_lookDirectory_J70 x3 v5))))))))
theorem lc_fX65_lookDirectory (x1 : Int) : zLoc zSc (fX65_lookDirectory x1) :=
  (lc_gf (by decide) fun v1 => (lc_cl (lc_fX65_take_2 0 31) fun v2 => (lc_gf (by decide) fun v3 => (lc_ite (lc_fX65_lookDirectory_J35 x1 v2) (lc_cl (lc_fX0_dominates v2 x1) fun v21 => (lc_ite (lc_fX65_lookDirectory_J35 x1 v2) (lc_cl (lc_fX65_wrong 5 v1) fun v22 => (lc_fX65_lookDirectory_J35 x1 v2))))))))
theorem lc_fX65_lookNode_J114 : zLoc zSc (fX65_lookNode_J114) :=
  (lc_cl lc_fX65_shut fun _ => (lc_ret _))
theorem lc_fX65_lookNode_J76 (x1 : Int) (x2 : Int) : zLoc zSc (fX65_lookNode_J76 x1 x2) :=
  (lc_gf (by decide) fun v9 => (lc_ite (lc_ite (lc_ite (lc_cl (lc_fX65_lookMailbox x1) fun _ => lc_fX65_lookNode_J114) (lc_cl lc_fX65_lookSegment fun _ => lc_fX65_lookNode_J114)) (lc_cl (lc_fX65_lookDirectory x1) fun _ => lc_fX65_lookNode_J114)) (lc_ret _)))
theorem lc_fX65_lookNode_J63 (x1 : Int) (x2 : Int) : zLoc zSc (fX65_lookNode_J63 x1 x2) :=
  (lc_gf (by decide) fun v8 => (lc_ite (lc_fX65_lookNode_J76 x1 x2) (lc_cl (lc_fX65_lookItems 6) fun _ => (lc_fX65_lookNode_J76 x1 x2))))
theorem lc_fX65_lookNode_J45 (x1 : Int) (x2 : Int) (s0 : Int) : zLoc zSc (fX65_lookNode_J45 x1 x2 s0) :=
  (lc_gf (by decide) fun v7 => (lc_ite (lc_fX65_lookNode_J63 x1 x2) (lc_cl (lc_fX65_take_2 s0 7) fun v15 => (lc_fX65_lookNode_J63 x1 x2))))
theorem lc_fX65_lookNode (x1 : Int) : zLoc zSc (fX65_lookNode x1) :=
  (lc_cl (lc_fX65_take_2 1 3) fun v1 => (lc_gf (by decide) fun v2 => (lc_ite (lc_cl lc_fX65_lookName fun _ => (lc_cl (lc_fX65_take_2 0 7) fun v4 => (lc_gf (by decide) fun v5 => (lc_ite (lc_cl (lc_fX65_take_2 v4 7) fun v6 => (lc_fX65_lookNode_J45 x1 v1 v6)) (lc_fX65_lookNode_J45 x1 v1 0))))) (lc_ret _))))
theorem lc_fX65_isSound_J298 : zLoc zSc (fX65_isSound_J298) :=
  (lc_gf (by decide) fun v5 => (lc_ite (lc_ret _) (lc_ret _)))
theorem lc_fX65_isSound_J287 : zLoc zSc (fX65_isSound_J287) :=
  (lc_gf (by decide) fun v7 => (lc_cl (lc_fX65_wrong 6 v7) fun v8 => lc_fX65_isSound_J298))
theorem lc_fX65_isSound_J258 (x1 : Int) : zLoc zSc (fX65_isSound_J258 x1) :=
  (lc_gf (by decide) fun v4 => (lc_ite lc_fX65_isSound_J298 (lc_gf (by decide) fun v6 => (lc_ite lc_fX65_isSound_J287 (lc_gf (by decide) fun v9 => (lc_cl (lc_fX1_bears x1 v9) fun v10 => (lc_ite lc_fX65_isSound_J298 lc_fX65_isSound_J287)))))))
theorem lc_fX65_isSound_J229 (x1 : Int) : zLoc zSc (fX65_isSound_J229 x1) :=
  (lc_gf (by decide) fun v3 => (lc_ite (lc_fX65_isSound_J258 x1) (lc_gf (by decide) fun v11 => (lc_gf (by decide) fun v12 => (lc_ite (lc_fX65_isSound_J258 x1) (lc_gf (by decide) fun v13 => (lc_cl (lc_fX65_wrong 8 v13) fun v14 => (lc_fX65_isSound_J258 x1))))))))
theorem lc_fX65_isSound_J174 (x1 : Int) : zLoc zSc (fX65_isSound_J174 x1) :=
  (lc_gf (by decide) fun v2 => (lc_ite (lc_fX65_isSound_J229 x1) (lc_gf (by decide) fun v15 => (lc_cl lc_fX65_take fun v16 => (lc_lt fun v17 => (lc_cl lc_fX65_take fun v18 => (lc_lt fun v19 => (lc_gf (by decide) fun v20 => (lc_ite (lc_fX65_isSound_J229 x1) (lc_cl (lc_fX65_checkTo v15) fun v21 => (lc_ite (lc_fX65_isSound_J229 x1) (lc_cl (lc_fX65_wrong 7 v15) fun v22 => (lc_fX65_isSound_J229 x1)))))))))))))
theorem lc_fX65_isSound_J170 {r94 : Int → zX} (hr94 : ∀ s, zLoc zSc (r94 s)) (x1 : Int) (s0 : Int) : zLoc zSc (fX65_isSound_J170 r94 x1 s0) :=
  (hr94 s0)
theorem lc_fX65_isSound_J169 {r94 : Int → zX} (hr94 : ∀ s, zLoc zSc (r94 s)) (x1 : Int) : zLoc zSc (fX65_isSound_J169 r94 x1) :=
  (lc_fX65_isSound_J170 hr94 x1 0)
theorem lc_fX65_isSound_J146 {r94 : Int → zX} (hr94 : ∀ s, zLoc zSc (r94 s)) (x1 : Int) (x3 : Int) : zLoc zSc (fX65_isSound_J146 r94 x1 x3) :=
  (lc_cl (lc_fX65_lookNode x3) fun _ => (lc_gf (by decide) fun v28 => (lc_ite (lc_fX65_isSound_J169 hr94 x1) (lc_gf (by decide) fun v29 => (lc_ite (lc_fX65_isSound_J169 hr94 x1) (lc_fX65_isSound_J170 hr94 x1 1))))))
theorem lc_fX65_isSound_J123 {r94 : Int → zX} (hr94 : ∀ s, zLoc zSc (r94 s)) (x1 : Int) (s0 : Int) : zLoc zSc (fX65_isSound_J123 r94 x1 s0) :=
  (lc_gf (by decide) fun v26 => (lc_ite (lc_fX65_isSound_J146 hr94 x1 s0) (lc_gf (by decide) fun v30 => (lc_al (by decide) fun v31 => (lc_as (by decide) (lc_fX65_isSound_J146 hr94 x1 s0))))))
theorem lc_fX65_isSound_B94 (x1 : Int) : ∀ r94 : Int → zX, (∀ s, zLoc zSc (r94 s)) → ∀ s, zLoc zSc (fX65_isSound_B94 x1 r94 s) := by
  intro r94 hr94 x2
  unfold fX65_isSound_B94
  exact (lc_ite (lc_fX65_isSound_J174 x1) (lc_gf (by decide) fun v23 => (lc_ite (lc_gf (by decide) fun v24 => (lc_al (by decide) fun v25 => (lc_fX65_isSound_J123 hr94 x1 v25))) (lc_nn (lc_gf (by decide) fun v33 => (lc_fX65_isSound_J123 hr94 x1 v33))))))
theorem lc_fX65_isSound_J93 (x1 : Int) (s0 : Int) : zLoc zSc (fX65_isSound_J93 x1 s0) :=
  (lc_lp (lc_fX65_isSound_B94 x1) zBIG s0)
theorem lc_fX65_isSound_J81 (x1 : Int) : zLoc zSc (fX65_isSound_J81 x1) :=
  (lc_gf (by decide) fun v1 => (lc_ite (lc_fX65_isSound_J93 x1 0) (lc_fX65_isSound_J93 x1 1)))
theorem lc_fX65_isSound_J75 {r32 : Int → zX} (hr32 : ∀ s, zLoc zSc (r32 s)) (x1 : Int) (x2 : Int) : zLoc zSc (fX65_isSound_J75 r32 x1 x2) :=
  (lc_lt fun v37 => (hr32 v37))
theorem lc_fX65_isSound_B32 (x1 : Int) : ∀ r32 : Int → zX, (∀ s, zLoc zSc (r32 s)) → ∀ s, zLoc zSc (fX65_isSound_B32 x1 r32 s) := by
  intro r32 hr32 x2
  unfold fX65_isSound_B32
  exact (lc_ite (lc_fX65_isSound_J81 x1) (lc_gf (by decide) fun v34 => (lc_ite (lc_fX65_isSound_J81 x1) (lc_cl lc_fX65_take fun v35 => (lc_gf (by decide) fun v36 => (lc_ite (lc_fX65_isSound_J75 hr32 x1 x2) (lc_hd fun v38 => (lc_ite (lc_fX65_isSound_J75 hr32 x1 x2) (lc_cl (lc_fX65_wrong 2 x2) fun v39 => (lc_fX65_isSound_J75 hr32 x1 x2))))))))))
theorem lc_fX65_isSound (x1 : Int) : zLoc zSc (fX65_isSound x1) :=
  (lc_pf (by decide) (lc_pf (by decide) (lc_pf (by decide) (lc_pf (by decide) (lc_pf (by decide) (lc_pf (by decide) (lc_lp (lc_fX65_isSound_B32 x1) zBIG 0)))))))
theorem lc_fX65_skipItems : zLoc zSc (fX65_skipItems) :=
  (lc_cl lc_fX65_take fun v1 => (lc_gf (by decide) fun v2 => (lc_pf (by decide) (lc_ret _))))
theorem lc_fX65_setItems_B6 (x1 : Int) (x2 : Int) : ∀ r6 : Int → zX, (∀ s, zLoc zSc (r6 s)) → ∀ s, zLoc zSc (fX65_setItems_B6 x1 x2 r6 s) := by
  intro r6 hr6 x3
  unfold fX65_setItems_B6
  exact (lc_al (by decide) fun v3 => (lc_ite (lc_ret _) (lc_al (by decide) fun v4 => (lc_al (by decide) fun v5 => (lc_al (by decide) fun v6 => (lc_nn (lc_cl (lc_fX5_set x1 v4 v5 v6) fun v8 => (lc_lt fun v9 => (hr6 v9)))))))))
theorem lc_fX65_setItems (x1 : Int) (x2 : Int) : zLoc zSc (fX65_setItems x1 x2) :=
  (lc_nn (lc_cl (lc_fX5_clear x1) fun _ => (lc_lp (lc_fX65_setItems_B6 x1 x2) zBIG 0)))
theorem lc_fX65_makeNode_J325 {sf : Int → Int → zX} (hsf : ∀ (a0 a1 : Int), zLoc zSc (sf a0 a1)) (x7 : Int) (x8 : Int) (x9 : Int) (x10 : Int) (x11 : Int) : zLoc zSc (fX65_makeNode_J325 sf x7 x8 x9 x10 x11) :=
  (lc_nn (lc_cl (lc_fX4_setBrackets x11 x7 x8 x9) fun _ => (lc_cl (lc_fX65_setItems (3 * x11) x10) fun _ => (lc_ret _))))
theorem lc_fX65_makeNode_B297 {sf : Int → Int → zX} (hsf : ∀ (a0 a1 : Int), zLoc zSc (sf a0 a1)) (x7 : Int) (x8 : Int) (x9 : Int) (x10 : Int) (x11 : Int) (x13 : Int) : ∀ r297 : Int → zX, (∀ s, zLoc zSc (r297 s)) → ∀ s, zLoc zSc (fX65_makeNode_B297 sf x7 x8 x9 x10 x11 x13 r297 s) := by
  intro r297 hr297 x14
  unfold fX65_makeNode_B297
  exact (lc_ite (lc_fX65_makeNode_J325 hsf x7 x8 x9 x10 x11) (lc_cl lc_fX65_takeWord fun v21 => (lc_cl (lc_fX1_put x11 x14 v21) fun _ => (lc_lt fun v23 => (hr297 v23)))))
theorem lc_fX65_makeNode_B197 {sf : Int → Int → zX} (hsf : ∀ (a0 a1 : Int), zLoc zSc (sf a0 a1)) (x7 : Int) (x8 : Int) (x9 : Int) (x10 : Int) (x11 : Int) (x12 : Int) : ∀ r197 : Int → zX, (∀ s, zLoc zSc (r197 s)) → ∀ s, zLoc zSc (fX65_makeNode_B197 sf x7 x8 x9 x10 x11 x12 r197 s) := by
  intro r197 hr197 x13
  unfold fX65_makeNode_B197
  exact (lc_ite (lc_fX65_makeNode_J325 hsf x7 x8 x9 x10 x11) (lc_cl lc_fX65_take fun v28 => (lc_nn (lc_gf (by decide) fun v30 => (lc_cl lc_fX65_takeWord fun v31 => (lc_nn (lc_cl (lc_fX6_post v30 v31 v28) fun v33 => (lc_lt fun v34 => (hr197 v34)))))))))
theorem lc_fX65_makeNode_J139 {sf : Int → Int → zX} (hsf : ∀ (a0 a1 : Int), zLoc zSc (sf a0 a1)) (x7 : Int) (x8 : Int) (x9 : Int) (x10 : Int) (x11 : Int) (x14 : Int) (x15 : Int) : zLoc zSc (fX65_makeNode_J139 sf x7 x8 x9 x10 x11 x14 x15) :=
  (lc_nn (lc_cl (lc_fX65_setItems (3 * x11 + 1) x14) fun _ => (lc_cl (lc_fX65_setItems (3 * x11 + 2) x15) fun _ => (lc_fX65_makeNode_J325 hsf x7 x8 x9 x10 x11))))
theorem lc_fX65_makeNode_B118 {sf : Int → Int → zX} (hsf : ∀ (a0 a1 : Int), zLoc zSc (sf a0 a1)) (x7 : Int) (x8 : Int) (x9 : Int) (x10 : Int) (x11 : Int) (x14 : Int) (x15 : Int) (x16 : Int) : ∀ r118 : Int → zX, (∀ s, zLoc zSc (r118 s)) → ∀ s, zLoc zSc (fX65_makeNode_B118 sf x7 x8 x9 x10 x11 x14 x15 x16 r118 s) := by
  intro r118 hr118 x17
  unfold fX65_makeNode_B118
  exact (lc_ite (lc_fX65_makeNode_J139 hsf x7 x8 x9 x10 x11 x14 x15) (lc_cl (hsf x11 0) fun v46 => (lc_lt fun v47 => (hr118 v47))))
theorem lc_fX65_makeNode_J24 {sf : Int → Int → zX} (hsf : ∀ (a0 a1 : Int), zLoc zSc (sf a0 a1)) (x1 : Int) (x4 : Int) (s0 : Int) : zLoc zSc (fX65_makeNode_J24 sf x1 x4 s0) :=
  (lc_cl lc_fX65_take fun v3 => (lc_cl lc_fX65_take fun v4 => (lc_cl lc_fX65_take fun v5 => (lc_gf (by decide) fun v6 => (lc_cl lc_fX65_skipItems fun _ => (lc_ite (lc_ite (lc_cl lc_fX65_take fun v8 => (lc_cl lc_fX65_take fun v9 => (lc_lt fun v10 => (lc_cl lc_fX65_take fun v11 => (lc_lt fun v12 => (lc_nn (lc_gf (by decide) fun v14 => (lc_cl (lc_fX1_make x1 2 s0 v14 0) fun v15 => (lc_nn (lc_pf (by decide) (lc_cl (lc_fX1_resize v15 v12) fun _ => (lc_lp (lc_fX65_makeNode_B297 hsf v3 v4 v5 v6 v15 v12) zBIG 0)))))))))))) (lc_cl lc_fX65_take fun v24 => (lc_nn (lc_gf (by decide) fun v26 => (lc_cl (lc_fX1_make x1 3 s0 v26 0) fun v27 => (lc_lp (lc_fX65_makeNode_B197 hsf v3 v4 v5 v6 v27 v24) zBIG 0)))))) (lc_cl lc_fX65_take fun v35 => (lc_cl lc_fX65_take fun v36 => (lc_gf (by decide) fun v37 => (lc_cl lc_fX65_skipItems fun _ => (lc_gf (by decide) fun v39 => (lc_cl lc_fX65_skipItems fun _ => (lc_cl lc_fX65_take fun v41 => (lc_cl (lc_fX1_make x1 1 s0 v35 v36) fun v42 => (lc_lp (lc_fX65_makeNode_B118 hsf v3 v4 v5 v6 v42 v37 v39 v41) zBIG 0)))))))))))))))
theorem lc_fX65_makeNode_E {sf : Int → Int → zX} (hsf : ∀ (a0 a1 : Int), zLoc zSc (sf a0 a1)) (x1 : Int) (x2 : Int) : zLoc zSc (fX65_makeNode_E sf x1 x2) :=
  (lc_cl lc_fX65_take fun v1 => (lc_cl lc_fX65_takeWord fun v2 => (lc_ite (lc_fX65_makeNode_J24 hsf x1 v1 v2) (lc_fX65_makeNode_J24 hsf x1 v1 x2))))
theorem lc_fX65_makeNode : ∀ (n : Nat) (a0 a1 : Int), zLoc zSc (fX65_makeNode n a0 a1) := by
  intro n
  induction n with
  | zero => intro a0 a1; exact lc_no
  | succ n ih => intro a0 a1; exact lc_fX65_makeNode_E ih a0 a1
theorem lc_fX65_reload (x1 : Int) (x2 : Int) : zLoc zSc (fX65_reload x1 x2) :=
  (lc_cl (lc_fX65_isSound x1) fun v1 => (lc_ite (lc_pf (by decide) (lc_cl (lc_fX65_makeNode 300 x1 x2) fun v2 => (lc_gf (by decide) fun v3 => (lc_pf (by decide) (lc_nn (lc_ret _)))))) (lc_gf (by decide) fun v5 => (lc_ret _))))
theorem lc_fX0_reload_J73 (x5 : Int) (s1 : Int) : zLoc zSc (fX0_reload_J73 x5 s1) :=
  (lc_pf (by decide) (lc_ret _))
theorem lc_fX0_reload (x1 : Int) (x2 : Int) : zLoc zSc (fX0_reload x1 x2) :=
  (lc_cl (lc_fX1_directory x1) fun v1 => (lc_ite (lc_ret _) (lc_cl (lc_fX0_isName x2) fun v3 => (lc_ite (lc_cl (lc_fX2_find v1 x2) fun v4 => (lc_ite (lc_cl (lc_fX65_reload v1 x2) fun v6 => (lc_ite (lc_fX0_reload_J73 v6 (-1)) (lc_gf (by decide) fun v7 => (lc_fX0_reload_J73 v6 v7)))) (lc_ret _))) (lc_ret _)))))
theorem lc_fX0_count_J76 {r52 : Int × Int → zX} (hr52 : ∀ s, zLoc zSc (r52 s)) (x3 : Int) (s0 : Int) (s1 : Int) : zLoc zSc (fX0_count_J76 r52 x3 s0 s1) :=
  (lc_lt fun v7 => (lc_lt fun v8 => (hr52 (v7, v8))))
theorem lc_fX0_count_B52 : ∀ r52 : Int × Int → zX, (∀ s, zLoc zSc (r52 s)) → ∀ s, zLoc zSc (fX0_count_B52 r52 s) := by
  intro r52 hr52 s
  obtain ⟨x2, x3⟩ := s
  unfold fX0_count_B52
  exact (lc_ite (lc_ret _) (lc_ib (lc_gf (by decide) fun v6 => (lc_ite (lc_fX0_count_J76 hr52 x3 x2 0) (lc_fX0_count_J76 hr52 x3 x2 1)))))
theorem lc_fX0_count (x1 : Int) : zLoc zSc (fX0_count x1) :=
  (lc_ite (lc_gf (by decide) fun v2 => (lc_ret _)) (lc_ite (lc_lp lc_fX0_count_B52 zBIG (0, 0)) (lc_ite (lc_gf (by decide) fun v10 => (lc_ret _)) (lc_ite (lc_gf (by decide) fun v12 => (lc_ret _)) (lc_ite (lc_gf (by decide) fun v14 => (lc_ret _)) (lc_ite (lc_gf (by decide) fun v16 => (lc_ret _)) (lc_ret _)))))))
