set_option linter.unusedVariables false
/-! which columns a computation writes -/
def zFr (W : List Nat) (X : zX) : Prop := ∀ (M : zM) (r : Int) (M' : zM), X M = some (r, M') → ∀ c, ¬ c ∈ W → M' c = M c
section
variable {W : List Nat}
theorem fr_mono {W1 : List Nat} (h : ∀ c ∈ W1, c ∈ W) {X : zX} (k : zFr W1 X) : zFr W X := fun M r M' e c hc => k M r M' e c (fun q => hc (h c q))
theorem fr_ret (v : Int) : zFr W (zret v) := fun M r M' e c _ => by cases e; rfl
theorem fr_no : zFr W zno := fun M r M' e c _ => by cases e
theorem fr_ite {P : Prop} {hd : Decidable P} {X Y : zX} (h1 : zFr W X) (h2 : zFr W Y) : zFr W (@ite _ P hd X Y) := by
  by_cases h : P
  · rw [if_pos h]; exact h1
  · rw [if_neg h]; exact h2
theorem fr_if {P : Prop} {hd : Decidable P} {X : zX} (h1 : zFr W X) : zFr W (fun M => @ite _ P hd (X M) none) := by
  intro M r M' e
  by_cases q : P
  · simp only [if_pos q] at e; exact h1 M r M' e
  · simp only [if_neg q] at e; cases e
theorem fr_rb (v : Int) : zFr W (zrb v) := fr_if (fr_ret v)
theorem fr_nn {x : Int} {k : zX} (h : zFr W k) : zFr W (znn x k) := fr_if h
theorem fr_ne {x : Int} {k : zX} (h : zFr W k) : zFr W (zne x k) := by
  intro M r M' e
  unfold zne at e
  by_cases q : x = 0
  · simp only [if_pos q] at e; cases e
  · simp only [if_neg q] at e; exact h M r M' e
theorem fr_lt {x : Int} {k : Int → zX} (h : ∀ v, zFr W (k v)) : zFr W (zlt x k) := h x
theorem fr_gf {f : Nat} {x : Int} {k : Int → zX} (h : ∀ v, zFr W (k v)) : zFr W (zgf f x k) := fun M r M' e => h _ M r M' e
theorem fr_up {f : Nat} (hf : f ∈ W) {x i v : Int} {k : zX} (h : zFr W k) : zFr W (fun M => k (zup M f x i v)) := by
  intro M r M' e c hc
  rw [h _ r M' e c hc]
  funext x' i'
  simp only [zup]
  rw [if_neg (fun q => hc (by rw [q.1]; exact hf))]
theorem fr_pf {f : Nat} (hf : f ∈ W) {x v : Int} {k : zX} (h : zFr W k) : zFr W (zpf f x v k) := fr_up hf h
theorem fr_pb {f : Nat} (hf : f ∈ W) {x v : Int} {k : zX} (h : zFr W k) : zFr W (zpb f x v k) := fr_if (fr_up hf h)
theorem fr_ib {i n : Int} {k : zX} (h : zFr W k) : zFr W (zib i n k) := fr_if h
theorem fr_al {f : Nat} {x i n : Int} {k : Int → zX} (h : ∀ v, zFr W (k v)) : zFr W (zal f x i n k) := fr_if (X := fun M => k (M f x i) M) (fun M r M' e => h _ M r M' e)
theorem fr_as {f : Nat} (hf : f ∈ W) {x i n v : Int} {k : zX} (h : zFr W k) : zFr W (zas f x i n v k) := fr_if (fr_up hf h)
theorem fr_ct {c : Nat} {i n : Int} {k : Int → zX} (h : ∀ v, zFr W (k v)) : zFr W (zct c i n k) := fr_if (h _)
theorem fr_sc {s i : Int} {k : Int → zX} (h : ∀ v, zFr W (k v)) : zFr W (zsc s i k) := fr_if (h _)
theorem fr_hd {i : Int} {k : Int → zX} (h : ∀ v, zFr W (k v)) : zFr W (zhd i k) := fr_if (h _)
theorem fr_cl {c : zX} (hc : zFr W c) {k : Int → zX} (h : ∀ v, zFr W (k v)) : zFr W (zcl c k) := by
  intro M r M' e q hq
  unfold zcl at e
  cases hm : c M with
  | none => rw [hm] at e; cases e
  | some a =>
    rw [hm] at e
    rw [h _ _ r M' e q hq]
    exact hc M a.1 a.2 hm q hq
theorem fr_lp {σ : Type} {B : (σ → zX) → σ → zX} (h : ∀ f : σ → zX, (∀ s, zFr W (f s)) → ∀ s, zFr W (B f s)) (n : Nat) (s : σ) : zFr W (zlp B n s) := by
  induction n generalizing s with
  | zero => exact fr_no
  | succ n ih => exact h _ ih s
end
abbrev W_fX0_isIn : List Nat := []
theorem fr_fX0_isIn (x0 : Int) (x2 : Int) (x4 : Int) : zFr W_fX0_isIn (fX0_isIn x0 x2 x4) :=
  (fr_ite (fr_ret _) (fr_ite (fr_ret _) (fr_ret _)))
abbrev W_fX1_node : List Nat := []
theorem fr_fX1_node (x1 : Int) : zFr W_fX1_node (fX1_node x1) :=
  (fr_cl (fr_mono (by decide) (fr_fX0_isIn x1 0 255)) fun v1 => (fr_ite (fr_ret _) (fr_ib (fr_gf fun v4 => (fr_ite (fr_ret _) (fr_ib (fr_ret _)))))))
abbrev W_fX4_isDirectory : List Nat := []
theorem fr_fX4_isDirectory (x0 : Int) : zFr W_fX4_isDirectory (fX4_isDirectory x0) :=
  (fr_gf fun v1 => (fr_ite (fr_ret _) (fr_ret _)))
abbrev W_fX1_directory : List Nat := []
theorem fr_fX1_directory (x1 : Int) : zFr W_fX1_directory (fX1_directory x1) :=
  (fr_cl (fr_mono (by decide) (fr_fX1_node x1)) fun v1 => (fr_ite (fr_ret _) (fr_cl (fr_mono (by decide) (fr_fX4_isDirectory v1)) fun v3 => (fr_ite (fr_ret _) (fr_ret _)))))
abbrev W_fX0_isWord : List Nat := []
theorem fr_fX0_isWord (x0 : Int) : zFr W_fX0_isWord (fX0_isWord x0) :=
  (fr_ite (fr_ret _) (fr_ite (fr_ret _) (fr_ret _)))
abbrev W_fX0_isName : List Nat := []
theorem fr_fX0_isName_J65 {r23 : Int × Int → zX} (hr23 : ∀ s, zFr W_fX0_isName (r23 s)) (x0 : Int) (x3 : Int) (s0 : Int) : zFr W_fX0_isName (fX0_isName_J65 r23 x0 x3 s0) :=
  (fr_lt fun v3 => (hr23 (s0, v3)))
theorem fr_fX0_isName_J55 {r23 : Int × Int → zX} (hr23 : ∀ s, zFr W_fX0_isName (r23 s)) (x0 : Int) (x3 : Int) (x4 : Int) : zFr W_fX0_isName (fX0_isName_J55 r23 x0 x3 x4) :=
  (fr_ite (fr_fX0_isName_J65 hr23 x0 x3 0) (fr_fX0_isName_J65 hr23 x0 x3 1))
theorem fr_fX0_isName_B23 (x0 : Int) : ∀ r23 : Int × Int → zX, (∀ s, zFr W_fX0_isName (r23 s)) → ∀ s, zFr W_fX0_isName (fX0_isName_B23 x0 r23 s) := by
  intro r23 hr23 s
  obtain ⟨x2, x3⟩ := s
  unfold fX0_isName_B23
  exact (fr_ite (fr_ret _) (fr_lt fun v2 => (fr_ite (fr_ret _) (fr_ite (fr_fX0_isName_J55 hr23 x0 x3 v2) (fr_ite (fr_fX0_isName_J55 hr23 x0 x3 v2) (fr_ret _))))))
theorem fr_fX0_isName (x0 : Int) : zFr W_fX0_isName (fX0_isName x0) :=
  (fr_cl (fr_mono (by decide) (fr_fX0_isWord x0)) fun v1 => (fr_ite (fr_ret _) (fr_ite (fr_lp (fr_fX0_isName_B23 x0) zBIG (0, 30)) (fr_ret _))))
abbrev W_fX0_isLabel : List Nat := []
theorem fr_fX0_isLabel (x0 : Int) : zFr W_fX0_isLabel (fX0_isLabel x0) :=
  (fr_cl (fr_mono (by decide) (fr_fX0_isIn x0 0 31)) fun v1 => (fr_rb _))
abbrev W_fX0_dominates : List Nat := []
theorem fr_fX0_dominates (x0 : Int) (x1 : Int) : zFr W_fX0_dominates (fX0_dominates x0 x1) :=
  (fr_ite (fr_ret _) (fr_ite (fr_ret _) (fr_ret _)))
abbrev W_fX0_isRightLimit : List Nat := []
theorem fr_fX0_isRightLimit_J20 (s0 : Int) (s1 : Int) : zFr W_fX0_isRightLimit (fX0_isRightLimit_J20 s0 s1) :=
  (fr_cl (fr_mono (by decide) (fr_fX0_isIn s0 s1 255)) fun v2 => (fr_ite (fr_ret _) (fr_ret _)))
theorem fr_fX0_isRightLimit (x0 : Int) (x1 : Int) (x2 : Int) : zFr W_fX0_isRightLimit (fX0_isRightLimit x0 x1 x2) :=
  (fr_cl (fr_mono (by decide) (fr_fX0_dominates x0 x1)) fun v1 => (fr_ite (fr_ret _) (fr_ite (fr_fX0_isRightLimit_J20 x2 1) (fr_fX0_isRightLimit_J20 x2 0))))
abbrev W_fX2_bucket : List Nat := []
theorem fr_fX2_bucket (x0 : Int) (x1 : Int) : zFr W_fX2_bucket (fX2_bucket x0 x1) :=
  (fr_nn (fr_lt fun v2 => (fr_ret _)))
abbrev W_fX2_find : List Nat := []
theorem fr_fX2_find_J36 {r12 : Int → zX} (hr12 : ∀ s, zFr W_fX2_find (r12 s)) (x1 : Int) (x2 : Int) (x4 : Int) : zFr W_fX2_find (fX2_find_J36 r12 x1 x2 x4) :=
  (fr_nn (fr_gf fun v6 => (hr12 v6)))
theorem fr_fX2_find_B12 (x1 : Int) (x2 : Int) : ∀ r12 : Int → zX, (∀ s, zFr W_fX2_find (r12 s)) → ∀ s, zFr W_fX2_find (fX2_find_B12 x1 x2 r12 s) := by
  intro r12 hr12 x4
  unfold fX2_find_B12
  exact (fr_ite (fr_ret _) (fr_gf fun v4 => (fr_ite (fr_fX2_find_J36 hr12 x1 x2 x4) (fr_gf fun v7 => (fr_ite (fr_ret _) (fr_fX2_find_J36 hr12 x1 x2 x4))))))
theorem fr_fX2_find (x1 : Int) (x2 : Int) : zFr W_fX2_find (fX2_find x1 x2) :=
  (fr_cl (fr_mono (by decide) (fr_fX2_bucket x1 x2)) fun v1 => (fr_al fun v2 => (fr_lp (fr_fX2_find_B12 x1 x2) zBIG v2)))
abbrev W_fX1_account : List Nat := []
theorem fr_fX1_account_B2 : ∀ r2 : Int → zX, (∀ s, zFr W_fX1_account (r2 s)) → ∀ s, zFr W_fX1_account (fX1_account_B2 r2 s) := by
  intro r2 hr2 x2
  unfold fX1_account_B2
  exact (fr_nn (fr_gf fun v2 => (fr_ite (fr_ret _) (fr_gf fun v3 => (hr2 v3)))))
theorem fr_fX1_account (x1 : Int) : zFr W_fX1_account (fX1_account x1) :=
  (fr_lp fr_fX1_account_B2 zBIG x1)
abbrev W_fX1_bears : List Nat := []
theorem fr_fX1_bears (x1 : Int) (x2 : Int) : zFr W_fX1_bears (fX1_bears x1 x2) :=
  (fr_cl (fr_mono (by decide) (fr_fX1_account x1)) fun v1 => (fr_nn (fr_gf fun v3 => (fr_gf fun v4 => (fr_ite (fr_ret _) (fr_ret _))))))
abbrev W_fX1_free : List Nat := []
theorem fr_fX1_free_J20 (x1 : Int) : zFr W_fX1_free (fX1_free_J20 x1) :=
  (fr_ib (fr_ret _))
theorem fr_fX1_free_B2 : ∀ r2 : Int → zX, (∀ s, zFr W_fX1_free (r2 s)) → ∀ s, zFr W_fX1_free (fX1_free_B2 r2 s) := by
  intro r2 hr2 x1
  unfold fX1_free_B2
  exact (fr_ib (fr_gf fun v3 => (fr_ite (fr_fX1_free_J20 x1) (fr_lt fun v6 => (hr2 v6)))))
theorem fr_fX1_free : zFr W_fX1_free (fX1_free) :=
  (fr_lp fr_fX1_free_B2 zBIG 0)
abbrev W_fX5_clear : List Nat := [602]
theorem fr_fX5_clear (x0 : Int) : zFr W_fX5_clear (fX5_clear x0) :=
  (fr_pf (by decide) (fr_ret _))
abbrev W_fX4_setBrackets : List Nat := [509, 510, 511]
theorem fr_fX4_setBrackets (x0 : Int) (x1 : Int) (x2 : Int) (x3 : Int) : zFr W_fX4_setBrackets (fX4_setBrackets x0 x1 x2 x3) :=
  (fr_pf (by decide) (fr_pf (by decide) (fr_pf (by decide) (fr_ret _))))
abbrev W_fX4_begin : List Nat := [501, 502, 503, 509, 510, 511, 512, 513, 514, 515, 516, 517, 520, 521, 522, 602]
theorem fr_fX4_begin (x0 : Int) (x1 : Int) (x2 : Int) (x4 : Int) : zFr W_fX4_begin (fX4_begin x0 x1 x2 x4) :=
  (fr_pf (by decide) (fr_pf (by decide) (fr_pf (by decide) (fr_cl (fr_mono (by decide) (fr_fX5_clear (3 * x0))) fun _ => (fr_cl (fr_mono (by decide) (fr_fX5_clear (3 * x0 + 1))) fun _ => (fr_cl (fr_mono (by decide) (fr_fX5_clear (3 * x0 + 2))) fun _ => (fr_pf (by decide) (fr_cl (fr_mono (by decide) (fr_fX4_setBrackets x0 4 4 4)) fun _ => (fr_pf (by decide) (fr_pf (by decide) (fr_pf (by decide) (fr_pf (by decide) (fr_pf (by decide) (fr_pf (by decide) (fr_pf (by decide) (fr_pf (by decide) (fr_ret _)))))))))))))))))
abbrev W_fX4_initial : List Nat := []
theorem fr_fX4_initial (x0 : Int) (x1 : Int) : zFr W_fX4_initial (fX4_initial x0 x1) :=
  (fr_ite (fr_ret _) (fr_ret _))
abbrev W_fX5_person : List Nat := []
theorem fr_fX5_person (x0 : Int) (x1 : Int) : zFr W_fX5_person (fX5_person x0 x1) :=
  (fr_al fun v1 => (fr_ret _))
abbrev W_fX5_project : List Nat := []
theorem fr_fX5_project (x0 : Int) (x1 : Int) : zFr W_fX5_project (fX5_project x0 x1) :=
  (fr_al fun v1 => (fr_ret _))
abbrev W_fX5_key : List Nat := []
theorem fr_fX5_key (x0 : Int) (x1 : Int) : zFr W_fX5_key (fX5_key x0 x1) :=
  (fr_ret _)
abbrev W_fX5_find : List Nat := []
theorem fr_fX5_find_B9 (x0 : Int) (x3 : Int) : ∀ r9 : Int → zX, (∀ s, zFr W_fX5_find (r9 s)) → ∀ s, zFr W_fX5_find (fX5_find_B9 x0 x3 r9 s) := by
  intro r9 hr9 x4
  unfold fX5_find_B9
  exact (fr_gf fun v2 => (fr_ite (fr_ret _) (fr_al fun v3 => (fr_ite (fr_lt fun v4 => (hr9 v4)) (fr_ret _)))))
theorem fr_fX5_find (x0 : Int) (x1 : Int) (x2 : Int) : zFr W_fX5_find (fX5_find x0 x1 x2) :=
  (fr_cl (fr_mono (by decide) (fr_fX5_key x1 x2)) fun v1 => (fr_lp (fr_fX5_find_B9 x0 v1) zBIG 0))
abbrev W_fX5_remove : List Nat := [600, 601, 602]
theorem fr_fX5_remove_B12 (x0 : Int) : ∀ r12 : Int → zX, (∀ s, zFr W_fX5_remove (r12 s)) → ∀ s, zFr W_fX5_remove (fX5_remove_B12 x0 r12 s) := by
  intro r12 hr12 x2
  unfold fX5_remove_B12
  exact (fr_gf fun v2 => (fr_ite (fr_ret _) (fr_al fun v3 => (fr_as (by decide) (fr_al fun v4 => (fr_as (by decide) (fr_lt fun v5 => (hr12 v5))))))))
theorem fr_fX5_remove (x0 : Int) (x1 : Int) : zFr W_fX5_remove (fX5_remove x0 x1) :=
  (fr_gf fun v1 => (fr_pf (by decide) (fr_lp (fr_fX5_remove_B12 x0) zBIG x1)))
abbrev W_fX5_set : List Nat := [600, 601, 602]
theorem fr_fX5_set_J66 (x0 : Int) (x1 : Int) (x2 : Int) (x3 : Int) (x4 : Int) : zFr W_fX5_set (fX5_set_J66 x0 x1 x2 x3 x4) :=
  (fr_cl (fr_mono (by decide) (fr_fX5_key x1 x2)) fun v2 => (fr_as (by decide) (fr_as (by decide) (fr_ret _))))
theorem fr_fX5_set (x0 : Int) (x1 : Int) (x2 : Int) (x3 : Int) : zFr W_fX5_set (fX5_set x0 x1 x2 x3) :=
  (fr_cl (fr_mono (by decide) (fr_fX5_find x0 x1 x2)) fun v1 => (fr_ite (fr_ite (fr_fX5_set_J66 x0 x1 x2 x3 v1) (fr_gf fun v3 => (fr_ite (fr_gf fun v4 => (fr_gf fun v5 => (fr_pf (by decide) (fr_fX5_set_J66 x0 x1 x2 x3 v4)))) (fr_ret _)))) (fr_ite (fr_cl (fr_mono (by decide) (fr_fX5_remove x0 v1)) fun v6 => (fr_ret _)) (fr_ret _))))
abbrev W_fX5_take : List Nat := [600, 601, 602]
theorem fr_fX5_take_J48 {r2 : Int → zX} (hr2 : ∀ s, zFr W_fX5_take (r2 s)) (x0 : Int) (x1 : Int) (x2 : Int) : zFr W_fX5_take (fX5_take_J48 r2 x0 x1 x2) :=
  (fr_lt fun v6 => (hr2 v6))
theorem fr_fX5_take_B2 (x0 : Int) (x1 : Int) : ∀ r2 : Int → zX, (∀ s, zFr W_fX5_take (r2 s)) → ∀ s, zFr W_fX5_take (fX5_take_B2 x0 x1 r2 s) := by
  intro r2 hr2 x2
  unfold fX5_take_B2
  exact (fr_nn (fr_gf fun v2 => (fr_ite (fr_ret _) (fr_cl (fr_mono (by decide) (fr_fX5_person x1 x2)) fun v3 => (fr_cl (fr_mono (by decide) (fr_fX5_project x1 x2)) fun v4 => (fr_cl (fr_mono (by decide) (fr_fX5_find x0 v3 v4)) fun v5 => (fr_ite (fr_fX5_take_J48 hr2 x0 x1 x2) (fr_cl (fr_mono (by decide) (fr_fX5_person x1 x2)) fun v7 => (fr_cl (fr_mono (by decide) (fr_fX5_project x1 x2)) fun v8 => (fr_al fun v9 => (fr_cl (fr_mono (by decide) (fr_fX5_set x0 v7 v8 v9)) fun v10 => (fr_fX5_take_J48 hr2 x0 x1 x2))))))))))))
theorem fr_fX5_take (x0 : Int) (x1 : Int) : zFr W_fX5_take (fX5_take x0 x1) :=
  (fr_lp (fr_fX5_take_B2 x0 x1) zBIG 0)
abbrev W_fX4_append : List Nat := [504, 505, 506, 513, 514, 515]
theorem fr_fX4_append_J41 (x0 : Int) (x1 : Int) : zFr W_fX4_append (fX4_append_J41 x0 x1) :=
  (fr_pf (by decide) (fr_gf fun v5 => (fr_pf (by decide) (fr_ret _))))
theorem fr_fX4_append (x0 : Int) (x1 : Int) : zFr W_fX4_append (fX4_append x0 x1) :=
  (fr_nn (fr_pf (by decide) (fr_gf fun v2 => (fr_pf (by decide) (fr_pf (by decide) (fr_gf fun v3 => (fr_ite (fr_pf (by decide) (fr_fX4_append_J41 x0 x1)) (fr_gf fun v6 => (fr_nn (fr_pf (by decide) (fr_fX4_append_J41 x0 x1)))))))))))
abbrev W_fX2_add : List Nat := [300, 507]
theorem fr_fX2_add (x1 : Int) : zFr W_fX2_add (fX2_add x1) :=
  (fr_nn (fr_gf fun v2 => (fr_gf fun v3 => (fr_cl (fr_mono (by decide) (fr_fX2_bucket v2 v3)) fun v4 => (fr_al fun v5 => (fr_pf (by decide) (fr_as (by decide) (fr_ret _))))))))
abbrev W_fX4_isMailbox : List Nat := []
theorem fr_fX4_isMailbox (x0 : Int) : zFr W_fX4_isMailbox (fX4_isMailbox x0) :=
  (fr_gf fun v1 => (fr_ite (fr_ret _) (fr_ret _)))
abbrev W_fX4_isSegment : List Nat := []
theorem fr_fX4_isSegment (x0 : Int) : zFr W_fX4_isSegment (fX4_isSegment x0) :=
  (fr_gf fun v1 => (fr_ite (fr_ret _) (fr_ret _)))
abbrev W_fX0_records : List Nat := []
theorem fr_fX0_records (x0 : Int) : zFr W_fX0_records (fX0_records x0) :=
  (fr_ret _)
abbrev W_fX4_cost : List Nat := []
theorem fr_fX4_cost_J34 (s0 : Int) (s1 : Int) : zFr W_fX4_cost (fX4_cost_J34 s0 s1) :=
  (fr_ret _)
theorem fr_fX4_cost (x0 : Int) : zFr W_fX4_cost (fX4_cost x0) :=
  (fr_cl (fr_mono (by decide) (fr_fX4_isMailbox x0)) fun v1 => (fr_ite (fr_cl (fr_mono (by decide) (fr_fX4_isSegment x0)) fun v2 => (fr_ite (fr_gf fun v3 => (fr_fX4_cost_J34 1 v3)) (fr_gf fun v4 => (fr_cl (fr_mono (by decide) (fr_fX0_records v4)) fun v5 => (fr_fX4_cost_J34 1 v5))))) (fr_ret _)))
abbrev W_fX1_charge : List Nat := [517]
theorem fr_fX1_charge (x1 : Int) (x2 : Int) : zFr W_fX1_charge (fX1_charge x1 x2) :=
  (fr_cl (fr_mono (by decide) (fr_fX1_account x1)) fun v1 => (fr_nn (fr_gf fun v3 => (fr_pf (by decide) (fr_ret _)))))
abbrev W_fX1_make : List Nat := [204, 206, 207, 300, 501, 502, 503, 504, 505, 506, 507, 509, 510, 511, 512, 513, 514, 515, 516, 517, 520, 521, 522, 600, 601, 602, 702]
theorem fr_fX1_make_J73 (x1 : Int) (x7 : Int) : zFr W_fX1_make (fX1_make_J73 x1 x7) :=
  (fr_nn (fr_cl (fr_mono (by decide) (fr_fX4_append x1 x7)) fun _ => (fr_cl (fr_mono (by decide) (fr_fX2_add x7)) fun _ => (fr_nn (fr_cl (fr_mono (by decide) (fr_fX4_cost x7)) fun v11 => (fr_cl (fr_mono (by decide) (fr_fX1_charge x1 v11)) fun _ => (fr_gf fun v13 => (fr_pf (by decide) (fr_gf fun v14 => (fr_pf (by decide) (fr_ret _)))))))))))
theorem fr_fX1_make (x1 : Int) (x2 : Int) (x3 : Int) (x5 : Int) (x6 : Int) : zFr W_fX1_make (fX1_make x1 x2 x3 x5 x6) :=
  (fr_cl (fr_mono (by decide) fr_fX1_free) fun v1 => (fr_nn (fr_cl (fr_mono (by decide) (fr_fX4_begin v1 x2 x3 x5)) fun _ => (fr_pf (by decide) (fr_nn (fr_cl (fr_mono (by decide) (fr_fX4_initial x1 x2)) fun v5 => (fr_cl (fr_mono (by decide) (fr_fX5_take (3 * v1) v5)) fun _ => (fr_ite (fr_fX1_make_J73 x1 v1) (fr_gf fun v15 => (fr_pf (by decide) (fr_gf fun v16 => (fr_al fun v17 => (fr_pf (by decide) (fr_gf fun v18 => (fr_nn (fr_pf (by decide) (fr_fX1_make_J73 x1 v1)))))))))))))))))
abbrev W_fX12_newDirectory : List Nat := [204, 206, 207, 300, 501, 502, 503, 504, 505, 506, 507, 509, 510, 511, 512, 513, 514, 515, 516, 517, 520, 521, 522, 600, 601, 602, 702]
theorem fr_fX12_newDirectory (x1 : Int) (x2 : Int) (x4 : Int) (x5 : Int) : zFr W_fX12_newDirectory (fX12_newDirectory x1 x2 x4 x5) :=
  (fr_cl (fr_mono (by decide) (fr_fX2_find x1 x2)) fun v1 => (fr_ite (fr_cl (fr_mono (by decide) (fr_fX1_bears x1 (zi (1 + x5)))) fun v3 => (fr_ite (fr_ret _) (fr_cl (fr_mono (by decide) (fr_fX1_make x1 1 x2 x4 x5)) fun v4 => (fr_nn (fr_ret _))))) (fr_ret _)))
abbrev W_fX0_directory : List Nat := [204, 206, 207, 300, 501, 502, 503, 504, 505, 506, 507, 509, 510, 511, 512, 513, 514, 515, 516, 517, 520, 521, 522, 600, 601, 602, 702]
theorem fr_fX0_directory (x1 : Int) (x2 : Int) (x4 : Int) (x5 : Int) : zFr W_fX0_directory (fX0_directory x1 x2 x4 x5) :=
  (fr_cl (fr_mono (by decide) (fr_fX1_directory x1)) fun v1 => (fr_ite (fr_ret _) (fr_cl (fr_mono (by decide) (fr_fX0_isName x2)) fun v3 => (fr_ite (fr_ret _) (fr_cl (fr_mono (by decide) (fr_fX0_isLabel x4)) fun v4 => (fr_ite (fr_ret _) (fr_gf fun v5 => (fr_cl (fr_mono (by decide) (fr_fX0_isRightLimit x4 v5 x5)) fun v6 => (fr_ite (fr_cl (fr_mono (by decide) (fr_fX12_newDirectory v1 x2 x4 x5)) fun v7 => (fr_ret _)) (fr_ret _))))))))))
abbrev W_fX3_clear : List Nat := [400]
theorem fr_fX3_clear_B2 (x1 : Int) : ∀ r2 : Int → zX, (∀ s, zFr W_fX3_clear (r2 s)) → ∀ s, zFr W_fX3_clear (fX3_clear_B2 x1 r2 s) := by
  intro r2 hr2 x3
  unfold fX3_clear_B2
  exact (fr_ite (fr_ret _) (fr_as (by decide) (fr_lt fun v1 => (hr2 v1))))
theorem fr_fX3_clear (x1 : Int) (x2 : Int) : zFr W_fX3_clear (fX3_clear x1 x2) :=
  (fr_lp (fr_fX3_clear_B2 x1) zBIG x2)
abbrev W_fX3_take : List Nat := [400, 402]
theorem fr_fX3_take : zFr W_fX3_take (fX3_take) :=
  (fr_gf fun v1 => (fr_pf (by decide) (fr_gf fun v2 => (fr_al fun v3 => (fr_cl (fr_mono (by decide) (fr_fX3_clear v3 0)) fun _ => (fr_ret _))))))
abbrev W_fX3_give : List Nat := [401, 402]
theorem fr_fX3_give (x1 : Int) : zFr W_fX3_give (fX3_give x1) :=
  (fr_gf fun v1 => (fr_as (by decide) (fr_gf fun v2 => (fr_pf (by decide) (fr_ret _)))))
abbrev W_fX1_resize : List Nat := [400, 401, 402, 517, 522, 523]
theorem fr_fX1_resize_J109 (x1 : Int) (x2 : Int) (x3 : Int) (x4 : Int) : zFr W_fX1_resize (fX1_resize_J109 x1 x2 x3 x4) :=
  (fr_nn (fr_pf (by decide) (fr_gf fun v8 => (fr_cl (fr_mono (by decide) (fr_fX1_charge v8 (zi (x4 - x3)))) fun _ => (fr_ret _)))))
theorem fr_fX1_resize_B82 (x1 : Int) (x2 : Int) (x3 : Int) (x4 : Int) : ∀ r82 : Int → zX, (∀ s, zFr W_fX1_resize (r82 s)) → ∀ s, zFr W_fX1_resize (fX1_resize_B82 x1 x2 x3 x4 r82 s) := by
  intro r82 hr82 x5
  unfold fX1_resize_B82
  exact (fr_ite (fr_fX1_resize_J109 x1 x2 x3 x4) (fr_nn (fr_cl (fr_mono (by decide) fr_fX3_take) fun v11 => (fr_as (by decide) (fr_lt fun v12 => (hr82 v12))))))
theorem fr_fX1_resize_J79 (x1 : Int) (x2 : Int) (x3 : Int) (x4 : Int) : zFr W_fX1_resize (fX1_resize_J79 x1 x2 x3 x4) :=
  (fr_lp (fr_fX1_resize_B82 x1 x2 x3 x4) zBIG x3)
theorem fr_fX1_resize_J44 (x1 : Int) (x2 : Int) (x3 : Int) (x4 : Int) : zFr W_fX1_resize (fX1_resize_J44 x1 x2 x3 x4) :=
  (fr_nn (fr_gf fun v6 => (fr_ite (fr_fX1_resize_J79 x1 x2 x3 x4) (fr_ite (fr_fX1_resize_J79 x1 x2 x3 x4) (fr_al fun v13 => (fr_cl (fr_mono (by decide) (fr_fX3_clear v13 (Int.tmod x2 64))) fun _ => (fr_fX1_resize_J79 x1 x2 x3 x4)))))))
theorem fr_fX1_resize_B18 (x1 : Int) (x2 : Int) (x3 : Int) (x4 : Int) : ∀ r18 : Int → zX, (∀ s, zFr W_fX1_resize (r18 s)) → ∀ s, zFr W_fX1_resize (fX1_resize_B18 x1 x2 x3 x4 r18 s) := by
  intro r18 hr18 x5
  unfold fX1_resize_B18
  exact (fr_ite (fr_fX1_resize_J44 x1 x2 x3 x4) (fr_nn (fr_al fun v16 => (fr_cl (fr_mono (by decide) (fr_fX3_give v16)) fun _ => (fr_lt fun v18 => (hr18 v18))))))
theorem fr_fX1_resize (x1 : Int) (x2 : Int) : zFr W_fX1_resize (fX1_resize x1 x2) :=
  (fr_nn (fr_gf fun v2 => (fr_cl (fr_mono (by decide) (fr_fX0_records v2)) fun v3 => (fr_cl (fr_mono (by decide) (fr_fX0_records x2)) fun v4 => (fr_lp (fr_fX1_resize_B18 x1 x2 v3 v4) zBIG v4)))))
abbrev W_fX12_newSegment : List Nat := [204, 206, 207, 300, 400, 401, 402, 501, 502, 503, 504, 505, 506, 507, 509, 510, 511, 512, 513, 514, 515, 516, 517, 520, 521, 522, 523, 600, 601, 602, 702]
theorem fr_fX12_newSegment (x1 : Int) (x2 : Int) (x4 : Int) : zFr W_fX12_newSegment (fX12_newSegment x1 x2 x4) :=
  (fr_cl (fr_mono (by decide) (fr_fX2_find x1 x2)) fun v1 => (fr_ite (fr_cl (fr_mono (by decide) (fr_fX0_records x4)) fun v3 => (fr_cl (fr_mono (by decide) (fr_fX1_bears x1 (zi (1 + v3)))) fun v4 => (fr_ite (fr_nn (fr_gf fun v6 => (fr_cl (fr_mono (by decide) (fr_fX1_make x1 2 x2 v6 0)) fun v7 => (fr_cl (fr_mono (by decide) (fr_fX1_resize v7 x4)) fun _ => (fr_nn (fr_ret _)))))) (fr_ret _)))) (fr_ret _)))
abbrev W_fX0_segment : List Nat := [204, 206, 207, 300, 400, 401, 402, 501, 502, 503, 504, 505, 506, 507, 509, 510, 511, 512, 513, 514, 515, 516, 517, 520, 521, 522, 523, 600, 601, 602, 702]
theorem fr_fX0_segment (x1 : Int) (x2 : Int) (x4 : Int) : zFr W_fX0_segment (fX0_segment x1 x2 x4) :=
  (fr_cl (fr_mono (by decide) (fr_fX1_directory x1)) fun v1 => (fr_ite (fr_ret _) (fr_cl (fr_mono (by decide) (fr_fX0_isName x2)) fun v3 => (fr_ite (fr_ret _) (fr_cl (fr_mono (by decide) (fr_fX0_isIn x4 0 1024)) fun v4 => (fr_ite (fr_cl (fr_mono (by decide) (fr_fX12_newSegment v1 x2 x4)) fun v5 => (fr_ret _)) (fr_ret _)))))))
abbrev W_fX12_newMailbox : List Nat := [204, 206, 207, 300, 501, 502, 503, 504, 505, 506, 507, 509, 510, 511, 512, 513, 514, 515, 516, 517, 520, 521, 522, 600, 601, 602, 702]
theorem fr_fX12_newMailbox (x1 : Int) (x2 : Int) : zFr W_fX12_newMailbox (fX12_newMailbox x1 x2) :=
  (fr_cl (fr_mono (by decide) (fr_fX2_find x1 x2)) fun v1 => (fr_ite (fr_cl (fr_mono (by decide) (fr_fX1_bears x1 17)) fun v3 => (fr_ite (fr_ret _) (fr_nn (fr_gf fun v5 => (fr_cl (fr_mono (by decide) (fr_fX1_make x1 3 x2 v5 0)) fun v6 => (fr_nn (fr_ret _))))))) (fr_ret _)))
abbrev W_fX0_mailbox : List Nat := [204, 206, 207, 300, 501, 502, 503, 504, 505, 506, 507, 509, 510, 511, 512, 513, 514, 515, 516, 517, 520, 521, 522, 600, 601, 602, 702]
theorem fr_fX0_mailbox (x1 : Int) (x2 : Int) : zFr W_fX0_mailbox (fX0_mailbox x1 x2) :=
  (fr_cl (fr_mono (by decide) (fr_fX1_directory x1)) fun v1 => (fr_ite (fr_ret _) (fr_cl (fr_mono (by decide) (fr_fX0_isName x2)) fun v3 => (fr_ite (fr_cl (fr_mono (by decide) (fr_fX12_newMailbox v1 x2)) fun v4 => (fr_ret _)) (fr_ret _)))))
abbrev W_fX0_initial : List Nat := [600, 601, 602]
theorem fr_fX0_initial (x1 : Int) (x2 : Int) (x3 : Int) (x4 : Int) (x5 : Int) : zFr W_fX0_initial (fX0_initial x1 x2 x3 x4 x5) :=
  (fr_cl (fr_mono (by decide) (fr_fX1_directory x1)) fun v1 => (fr_ite (fr_ret _) (fr_cl (fr_mono (by decide) (fr_fX0_isIn x2 1 2)) fun v3 => (fr_ite (fr_ret _) (fr_cl (fr_mono (by decide) (fr_fX0_isIn x3 0 16)) fun v4 => (fr_ite (fr_ret _) (fr_cl (fr_mono (by decide) (fr_fX0_isIn x4 0 8)) fun v5 => (fr_ite (fr_ret _) (fr_cl (fr_mono (by decide) (fr_fX0_isIn x5 0 8)) fun v6 => (fr_ite (fr_cl (fr_mono (by decide) (fr_fX4_initial v1 x2)) fun v7 => (fr_nn (fr_cl (fr_mono (by decide) (fr_fX5_set v7 x3 x4 x5)) fun v9 => (fr_ite (fr_cl (fr_mono (by decide) (fr_fX4_initial v1 x2)) fun v10 => (fr_nn (fr_gf fun v12 => (fr_ret _)))) (fr_ret _))))) (fr_ret _)))))))))))
abbrev W_fX0_item : List Nat := [207, 600, 601, 602]
theorem fr_fX0_item (x1 : Int) (x2 : Int) (x3 : Int) (x4 : Int) : zFr W_fX0_item (fX0_item x1 x2 x3 x4) :=
  (fr_cl (fr_mono (by decide) (fr_fX1_node x1)) fun v1 => (fr_ite (fr_ret _) (fr_cl (fr_mono (by decide) (fr_fX0_isIn x2 0 16)) fun v3 => (fr_ite (fr_ret _) (fr_cl (fr_mono (by decide) (fr_fX0_isIn x3 0 8)) fun v4 => (fr_ite (fr_ret _) (fr_cl (fr_mono (by decide) (fr_fX0_isIn x4 0 8)) fun v5 => (fr_ite (fr_cl (fr_mono (by decide) (fr_fX5_set (3 * v1) x2 x3 x4)) fun v6 => (fr_gf fun v7 => (fr_pf (by decide) (fr_ite (fr_gf fun v8 => (fr_ret _)) (fr_ret _))))) (fr_ret _)))))))))
abbrev W_fX0_areBrackets : List Nat := []
theorem fr_fX0_areBrackets (x0 : Int) (x1 : Int) (x2 : Int) : zFr W_fX0_areBrackets (fX0_areBrackets x0 x1 x2) :=
  (fr_ite (fr_ret _) (fr_ite (fr_ret _) (fr_ite (fr_ret _) (fr_ite (fr_ret _) (fr_ret _)))))
abbrev W_fX0_brackets : List Nat := [509, 510, 511, 521]
theorem fr_fX0_brackets_J44 (x2 : Int) (x3 : Int) (x4 : Int) (x5 : Int) (x6 : Int) (s0 : Int) (s1 : Int) (s2 : Int) : zFr W_fX0_brackets (fX0_brackets_J44 x2 x3 x4 x5 x6 s0 s1 s2) :=
  (fr_cl (fr_mono (by decide) (fr_fX0_isIn s0 s1 s2)) fun v5 => (fr_ite (fr_nn (fr_cl (fr_mono (by decide) (fr_fX4_setBrackets x6 x2 x3 x4)) fun _ => (fr_pf (by decide) (fr_ret _)))) (fr_ret _)))
theorem fr_fX0_brackets (x1 : Int) (x2 : Int) (x3 : Int) (x4 : Int) (x5 : Int) : zFr W_fX0_brackets (fX0_brackets x1 x2 x3 x4 x5) :=
  (fr_cl (fr_mono (by decide) (fr_fX1_node x1)) fun v1 => (fr_ite (fr_ret _) (fr_cl (fr_mono (by decide) (fr_fX0_areBrackets x2 x3 x4)) fun v3 => (fr_ite (fr_ret _) (fr_cl (fr_mono (by decide) (fr_fX4_isSegment v1)) fun v4 => (fr_ite (fr_fX0_brackets_J44 x2 x3 x4 x5 v1 x5 0 0) (fr_fX0_brackets_J44 x2 x3 x4 x5 v1 x5 0 63)))))))
abbrev W_fX1_segment : List Nat := []
theorem fr_fX1_segment (x1 : Int) : zFr W_fX1_segment (fX1_segment x1) :=
  (fr_cl (fr_mono (by decide) (fr_fX1_node x1)) fun v1 => (fr_ite (fr_ret _) (fr_cl (fr_mono (by decide) (fr_fX4_isSegment v1)) fun v3 => (fr_ite (fr_ret _) (fr_ret _)))))
abbrev W_fX12_newLength : List Nat := [400, 401, 402, 517, 522, 523]
theorem fr_fX12_newLength (x1 : Int) (x2 : Int) : zFr W_fX12_newLength (fX12_newLength x1 x2) :=
  (fr_nn (fr_gf fun v2 => (fr_cl (fr_mono (by decide) (fr_fX0_records x2)) fun v3 => (fr_gf fun v4 => (fr_cl (fr_mono (by decide) (fr_fX0_records v4)) fun v5 => (fr_cl (fr_mono (by decide) (fr_fX1_bears v2 (zi (v3 - v5)))) fun v6 => (fr_ite (fr_cl (fr_mono (by decide) (fr_fX1_resize x1 x2)) fun _ => (fr_ret _)) (fr_ret _))))))))
abbrev W_fX0_length : List Nat := [400, 401, 402, 517, 522, 523]
theorem fr_fX0_length (x1 : Int) (x2 : Int) : zFr W_fX0_length (fX0_length x1 x2) :=
  (fr_cl (fr_mono (by decide) (fr_fX1_segment x1)) fun v1 => (fr_ite (fr_ret _) (fr_cl (fr_mono (by decide) (fr_fX0_isIn x2 0 1024)) fun v3 => (fr_ite (fr_gf fun v4 => (fr_cl (fr_mono (by decide) (fr_fX12_newLength v1 x2)) fun v5 => (fr_ite (fr_ret _) (fr_ret _)))) (fr_ret _)))))
abbrev W_fX1_limit : List Nat := [516, 517]
theorem fr_fX1_limit (x1 : Int) (x2 : Int) : zFr W_fX1_limit (fX1_limit x1 x2) :=
  (fr_nn (fr_gf fun v2 => (fr_ite (fr_ret _) (fr_gf fun v3 => (fr_gf fun v4 => (fr_cl (fr_mono (by decide) (fr_fX1_bears v3 (zi (x2 - v4)))) fun v5 => (fr_ite (fr_gf fun v6 => (fr_gf fun v7 => (fr_cl (fr_mono (by decide) (fr_fX1_charge v6 (zi (x2 - v7)))) fun _ => (fr_pf (by decide) (fr_ret _))))) (fr_ret _))))))))
abbrev W_fX0_limit : List Nat := [516, 517]
theorem fr_fX0_limit (x1 : Int) (x2 : Int) : zFr W_fX0_limit (fX0_limit x1 x2) :=
  (fr_cl (fr_mono (by decide) (fr_fX1_directory x1)) fun v1 => (fr_ite (fr_ret _) (fr_ite (fr_ret _) (fr_gf fun v3 => (fr_ite (fr_ret _) (fr_cl (fr_mono (by decide) (fr_fX0_isIn x2 1 255)) fun v4 => (fr_ite (fr_gf fun v5 => (fr_cl (fr_mono (by decide) (fr_fX1_limit v1 x2)) fun v6 => (fr_ite (fr_ret _) (fr_ret _)))) (fr_ret _))))))))
abbrev W_fX2_remove : List Nat := [300, 507]
theorem fr_fX2_remove_J56 (x1 : Int) (x3 : Int) : zFr W_fX2_remove (fX2_remove_J56 x1 x3) :=
  (fr_nn (fr_gf fun v10 => (fr_nn (fr_pf (by decide) (fr_ret _)))))
theorem fr_fX2_remove_B40 (x1 : Int) : ∀ r40 : Int → zX, (∀ s, zFr W_fX2_remove (r40 s)) → ∀ s, zFr W_fX2_remove (fX2_remove_B40 x1 r40 s) := by
  intro r40 hr40 x3
  unfold fX2_remove_B40
  exact (fr_nn (fr_gf fun v8 => (fr_ite (fr_fX2_remove_J56 x1 x3) (fr_gf fun v12 => (hr40 v12)))))
theorem fr_fX2_remove (x1 : Int) : zFr W_fX2_remove (fX2_remove x1) :=
  (fr_nn (fr_gf fun v2 => (fr_gf fun v3 => (fr_cl (fr_mono (by decide) (fr_fX2_bucket v2 v3)) fun v4 => (fr_al fun v5 => (fr_ite (fr_al fun v6 => (fr_lp (fr_fX2_remove_B40 x1) zBIG v6)) (fr_gf fun v13 => (fr_as (by decide) (fr_ret _)))))))))
abbrev W_fX1_rename : List Nat := [300, 502, 507]
theorem fr_fX1_rename (x1 : Int) (x2 : Int) : zFr W_fX1_rename (fX1_rename x1 x2) :=
  (fr_cl (fr_mono (by decide) (fr_fX2_remove x1)) fun _ => (fr_nn (fr_pf (by decide) (fr_cl (fr_mono (by decide) (fr_fX2_add x1)) fun _ => (fr_ret _)))))
abbrev W_fX0_rename : List Nat := [300, 502, 507]
theorem fr_fX0_rename_J70 (x2 : Int) (x4 : Int) : zFr W_fX0_rename (fX0_rename_J70 x2 x4) :=
  (fr_cl (fr_mono (by decide) (fr_fX1_rename x4 x2)) fun _ => (fr_ret _))
theorem fr_fX0_rename (x1 : Int) (x2 : Int) : zFr W_fX0_rename (fX0_rename x1 x2) :=
  (fr_cl (fr_mono (by decide) (fr_fX1_node x1)) fun v1 => (fr_ite (fr_ret _) (fr_ite (fr_ret _) (fr_cl (fr_mono (by decide) (fr_fX0_isName x2)) fun v3 => (fr_ite (fr_gf fun v4 => (fr_cl (fr_mono (by decide) (fr_fX2_find v4 x2)) fun v5 => (fr_ite (fr_fX0_rename_J70 x2 v1) (fr_ite (fr_fX0_rename_J70 x2 v1) (fr_ret _))))) (fr_ret _))))))
abbrev W_fX4_detach : List Nat := [505, 506, 513, 514, 515]
theorem fr_fX4_detach_J58 (x0 : Int) : zFr W_fX4_detach (fX4_detach_J58 x0) :=
  (fr_gf fun v9 => (fr_pf (by decide) (fr_ret _)))
theorem fr_fX4_detach_J29 (x0 : Int) (x1 : Int) : zFr W_fX4_detach (fX4_detach_J29 x0 x1) :=
  (fr_nn (fr_gf fun v6 => (fr_ite (fr_gf fun v8 => (fr_pf (by decide) (fr_fX4_detach_J58 x0))) (fr_gf fun v10 => (fr_gf fun v11 => (fr_nn (fr_pf (by decide) (fr_fX4_detach_J58 x0))))))))
theorem fr_fX4_detach (x0 : Int) (x1 : Int) : zFr W_fX4_detach (fX4_detach x0 x1) :=
  (fr_nn (fr_gf fun v2 => (fr_ite (fr_gf fun v4 => (fr_pf (by decide) (fr_fX4_detach_J29 x0 x1))) (fr_gf fun v13 => (fr_gf fun v14 => (fr_nn (fr_pf (by decide) (fr_fX4_detach_J29 x0 x1))))))))
abbrev W_fX8_unbind : List Nat := [918]
theorem fr_fX8_unbind_B2 (x0 : Int) (x1 : Int) : ∀ r2 : Int → zX, (∀ s, zFr W_fX8_unbind (r2 s)) → ∀ s, zFr W_fX8_unbind (fX8_unbind_B2 x0 x1 r2 s) := by
  intro r2 hr2 x2
  unfold fX8_unbind_B2
  exact (fr_ite (fr_ret _) (fr_as (by decide) (fr_lt fun v1 => (hr2 v1))))
theorem fr_fX8_unbind (x0 : Int) (x1 : Int) : zFr W_fX8_unbind (fX8_unbind x0 x1) :=
  (fr_lp (fr_fX8_unbind_B2 x0 x1) zBIG 0)
abbrev W_fX8_forget : List Nat := [916, 918]
theorem fr_fX8_forget_J48 {r14 : Int → zX} (hr14 : ∀ s, zFr W_fX8_forget (r14 s)) (x0 : Int) (x1 : Int) (x2 : Int) (s0 : Int) (s1 : Int) (s2 : Int) : zFr W_fX8_forget (fX8_forget_J48 r14 x0 x1 x2 s0 s1 s2) :=
  (fr_as (by decide) (fr_lt fun v4 => (hr14 v4)))
theorem fr_fX8_forget_B14 (x0 : Int) (x1 : Int) : ∀ r14 : Int → zX, (∀ s, zFr W_fX8_forget (r14 s)) → ∀ s, zFr W_fX8_forget (fX8_forget_B14 x0 x1 r14 s) := by
  intro r14 hr14 x2
  unfold fX8_forget_B14
  exact (fr_ite (fr_ret _) (fr_al fun v2 => (fr_ite (fr_al fun v3 => (fr_fX8_forget_J48 hr14 x0 x1 x2 x0 x2 v3)) (fr_fX8_forget_J48 hr14 x0 x1 x2 x0 x2 (-1)))))
theorem fr_fX8_forget (x0 : Int) (x1 : Int) : zFr W_fX8_forget (fX8_forget x0 x1) :=
  (fr_as (by decide) (fr_cl (fr_mono (by decide) (fr_fX8_unbind x0 x1)) fun _ => (fr_lp (fr_fX8_forget_B14 x0 x1) zBIG 0)))
abbrev W_fX8_loose : List Nat := [916, 918, 920, 921]
theorem fr_fX8_loose_J96 {r66 : Int → zX} (hr66 : ∀ s, zFr W_fX8_loose (r66 s)) (x0 : Int) (x1 : Int) (x2 : Int) (s0 : Int) (s1 : Int) (s2 : Int) : zFr W_fX8_loose (fX8_loose_J96 r66 x0 x1 x2 s0 s1 s2) :=
  (fr_as (by decide) (fr_lt fun v7 => (hr66 v7)))
theorem fr_fX8_loose_B66 (x0 : Int) (x1 : Int) : ∀ r66 : Int → zX, (∀ s, zFr W_fX8_loose (r66 s)) → ∀ s, zFr W_fX8_loose (fX8_loose_B66 x0 x1 r66 s) := by
  intro r66 hr66 x2
  unfold fX8_loose_B66
  exact (fr_ite (fr_ret _) (fr_al fun v5 => (fr_ite (fr_al fun v6 => (fr_fX8_loose_J96 hr66 x0 x1 x2 x0 x2 v6)) (fr_fX8_loose_J96 hr66 x0 x1 x2 x0 x2 (-1)))))
theorem fr_fX8_loose_J61 (x0 : Int) (x1 : Int) (s0 : Int) (s1 : Int) : zFr W_fX8_loose (fX8_loose_J61 x0 x1 s0 s1) :=
  (fr_nn (fr_pf (by decide) (fr_lp (fr_fX8_loose_B66 x0 x1) zBIG 0)))
theorem fr_fX8_loose_J38 (x0 : Int) (x1 : Int) : zFr W_fX8_loose (fX8_loose_J38 x0 x1) :=
  (fr_gf fun v2 => (fr_ite (fr_gf fun v3 => (fr_fX8_loose_J61 x0 x1 x0 v3)) (fr_fX8_loose_J61 x0 x1 x0 0)))
theorem fr_fX8_loose_J32 {r11 : Int → zX} (hr11 : ∀ s, zFr W_fX8_loose (r11 s)) (x0 : Int) (x1 : Int) (x2 : Int) : zFr W_fX8_loose (fX8_loose_J32 r11 x0 x1 x2) :=
  (fr_lt fun v9 => (hr11 v9))
theorem fr_fX8_loose_B11 (x0 : Int) (x1 : Int) : ∀ r11 : Int → zX, (∀ s, zFr W_fX8_loose (r11 s)) → ∀ s, zFr W_fX8_loose (fX8_loose_B11 x0 x1 r11 s) := by
  intro r11 hr11 x2
  unfold fX8_loose_B11
  exact (fr_ite (fr_fX8_loose_J38 x0 x1) (fr_al fun v8 => (fr_ite (fr_fX8_loose_J32 hr11 x0 x1 x2) (fr_cl (fr_mono (by decide) (fr_fX8_forget x0 x2)) fun _ => (fr_fX8_loose_J32 hr11 x0 x1 x2)))))
theorem fr_fX8_loose (x0 : Int) (x1 : Int) : zFr W_fX8_loose (fX8_loose x0 x1) :=
  (fr_gf fun v1 => (fr_ite (fr_lp (fr_fX8_loose_B11 x0 x1) zBIG 8) (fr_ret _)))
abbrev W_fX1_remove : List Nat := [203, 204, 206, 207, 300, 400, 401, 402, 501, 505, 506, 507, 513, 514, 515, 517, 522, 523, 916, 918, 920, 921]
theorem fr_fX1_remove_B139 {sf : Int → zX} (hsf : ∀ (a0 : Int), zFr W_fX1_remove (sf a0)) (x1 : Int) (x2 : Int) (x4 : Int) : ∀ r139 : Int → zX, (∀ s, zFr W_fX1_remove (r139 s)) → ∀ s, zFr W_fX1_remove (fX1_remove_B139 sf x1 x2 x4 r139 s) := by
  intro r139 hr139 x5
  unfold fX1_remove_B139
  exact (fr_ite (fr_ret _) (fr_ib (fr_cl (fr_mono (by decide) (fr_fX8_loose x5 x1)) fun _ => (fr_lt fun v20 => (hr139 v20)))))
theorem fr_fX1_remove_J73 {sf : Int → zX} (hsf : ∀ (a0 : Int), zFr W_fX1_remove (sf a0)) (x1 : Int) (x2 : Int) : zFr W_fX1_remove (fX1_remove_J73 sf x1 x2) :=
  (fr_nn (fr_gf fun v8 => (fr_cl (fr_mono (by decide) (fr_fX4_cost x1)) fun v9 => (fr_cl (fr_mono (by decide) (fr_fX1_charge v8 (zi (- v9)))) fun _ => (fr_cl (fr_mono (by decide) (fr_fX2_remove x1)) fun _ => (fr_gf fun v12 => (fr_nn (fr_cl (fr_mono (by decide) (fr_fX4_detach v12 x1)) fun _ => (fr_pf (by decide) (fr_gf fun v15 => (fr_pf (by decide) (fr_gf fun v16 => (fr_pf (by decide) (fr_lp (fr_fX1_remove_B139 hsf x1 x2 8) zBIG 0))))))))))))))
theorem fr_fX1_remove_J43 {sf : Int → zX} (hsf : ∀ (a0 : Int), zFr W_fX1_remove (sf a0)) (x1 : Int) (x2 : Int) : zFr W_fX1_remove (fX1_remove_J43 sf x1 x2) :=
  (fr_nn (fr_cl (fr_mono (by decide) (fr_fX4_isMailbox x1)) fun v6 => (fr_ite (fr_fX1_remove_J73 hsf x1 x2) (fr_gf fun v21 => (fr_gf fun v22 => (fr_as (by decide) (fr_gf fun v23 => (fr_pf (by decide) (fr_fX1_remove_J73 hsf x1 x2)))))))))
theorem fr_fX1_remove_J30 {sf : Int → zX} (hsf : ∀ (a0 : Int), zFr W_fX1_remove (sf a0)) (x1 : Int) (x2 : Int) : zFr W_fX1_remove (fX1_remove_J30 sf x1 x2) :=
  (fr_nn (fr_cl (fr_mono (by decide) (fr_fX4_isSegment x1)) fun v4 => (fr_ite (fr_fX1_remove_J43 hsf x1 x2) (fr_cl (fr_mono (by decide) (fr_fX1_resize x1 0)) fun _ => (fr_fX1_remove_J43 hsf x1 x2)))))
theorem fr_fX1_remove_B2 {sf : Int → zX} (hsf : ∀ (a0 : Int), zFr W_fX1_remove (sf a0)) (x1 : Int) : ∀ r2 : Int → zX, (∀ s, zFr W_fX1_remove (r2 s)) → ∀ s, zFr W_fX1_remove (fX1_remove_B2 sf x1 r2 s) := by
  intro r2 hr2 x2
  unfold fX1_remove_B2
  exact (fr_nn (fr_cl (fr_mono (by decide) (fr_fX4_isDirectory x1)) fun v2 => (fr_ite (fr_fX1_remove_J30 hsf x1 x2) (fr_gf fun v25 => (fr_ite (fr_fX1_remove_J30 hsf x1 x2) (fr_gf fun v27 => (fr_cl (hsf v27) fun v28 => (fr_lt fun v29 => (hr2 v29)))))))))
theorem fr_fX1_remove_E {sf : Int → zX} (hsf : ∀ (a0 : Int), zFr W_fX1_remove (sf a0)) (x1 : Int) : zFr W_fX1_remove (fX1_remove_E sf x1) :=
  (fr_lp (fr_fX1_remove_B2 hsf x1) zBIG 1)
theorem fr_fX1_remove : ∀ (n : Nat) (a0 : Int), zFr W_fX1_remove (fX1_remove n a0) := by
  intro n
  induction n with
  | zero => intro a0; exact fr_no
  | succ n ih => intro a0; exact fr_fX1_remove_E ih a0
abbrev W_fX0_remove : List Nat := [203, 204, 206, 207, 300, 400, 401, 402, 501, 505, 506, 507, 513, 514, 515, 517, 522, 523, 916, 918, 920, 921]
theorem fr_fX0_remove (x1 : Int) : zFr W_fX0_remove (fX0_remove x1) :=
  (fr_cl (fr_mono (by decide) (fr_fX1_node x1)) fun v1 => (fr_ite (fr_ret _) (fr_ite (fr_cl (fr_mono (by decide) (fr_fX1_remove 300 v1)) fun v3 => (fr_ret _)) (fr_ret _))))
abbrev W_fX0_find : List Nat := []
theorem fr_fX0_find (x1 : Int) (x2 : Int) : zFr W_fX0_find (fX0_find x1 x2) :=
  (fr_cl (fr_mono (by decide) (fr_fX1_directory x1)) fun v1 => (fr_ite (fr_ret _) (fr_cl (fr_mono (by decide) (fr_fX2_find v1 x2)) fun v3 => (fr_ite (fr_ret _) (fr_ret _)))))
abbrev W_fX0_about : List Nat := []
theorem fr_fX0_about (x1 : Int) (x2 : Int) : zFr W_fX0_about (fX0_about x1 x2) :=
  (fr_cl (fr_mono (by decide) (fr_fX1_node x1)) fun v1 => (fr_ite (fr_ret _) (fr_ite (fr_gf fun v4 => (fr_ret _)) (fr_ite (fr_gf fun v6 => (fr_ite (fr_ret _) (fr_gf fun v8 => (fr_nn (fr_ret _))))) (fr_ite (fr_gf fun v11 => (fr_ret _)) (fr_ite (fr_gf fun v13 => (fr_ret _)) (fr_ite (fr_gf fun v15 => (fr_ret _)) (fr_ite (fr_gf fun v17 => (fr_ret _)) (fr_ite (fr_gf fun v19 => (fr_ret _)) (fr_ite (fr_gf fun v21 => (fr_ret _)) (fr_ite (fr_gf fun v23 => (fr_ret _)) (fr_ite (fr_gf fun v25 => (fr_ret _)) (fr_ite (fr_gf fun v27 => (fr_ret _)) (fr_ite (fr_gf fun v29 => (fr_ret _)) (fr_ite (fr_gf fun v31 => (fr_ret _)) (fr_ite (fr_gf fun v33 => (fr_ret _)) (fr_ite (fr_cl (fr_mono (by decide) (fr_fX4_isMailbox v1)) fun v35 => (fr_ite (fr_ret _) (fr_gf fun v36 => (fr_nn (fr_gf fun v38 => (fr_ret _)))))) (fr_ite (fr_gf fun v40 => (fr_ret _)) (fr_ite (fr_gf fun v42 => (fr_ret _)) (fr_ret _))))))))))))))))))))
abbrev W_fX5_of : List Nat := []
theorem fr_fX5_of_J55 (x0 : Int) (s0 : Int) : zFr W_fX5_of (fX5_of_J55 x0 s0) :=
  (fr_ite (fr_al fun v2 => (fr_ret _)) (fr_ret _))
theorem fr_fX5_of_J38 (x0 : Int) (s0 : Int) : zFr W_fX5_of (fX5_of_J38 x0 s0) :=
  (fr_ite (fr_fX5_of_J55 x0 s0) (fr_cl (fr_mono (by decide) (fr_fX5_find x0 16 8)) fun v3 => (fr_fX5_of_J55 x0 v3)))
theorem fr_fX5_of_J22 (x0 : Int) (x2 : Int) (s0 : Int) : zFr W_fX5_of (fX5_of_J22 x0 x2 s0) :=
  (fr_ite (fr_fX5_of_J38 x0 s0) (fr_cl (fr_mono (by decide) (fr_fX5_find x0 16 x2)) fun v4 => (fr_fX5_of_J38 x0 v4)))
theorem fr_fX5_of (x0 : Int) (x1 : Int) (x2 : Int) : zFr W_fX5_of (fX5_of x0 x1 x2) :=
  (fr_cl (fr_mono (by decide) (fr_fX5_find x0 x1 x2)) fun v1 => (fr_ite (fr_fX5_of_J22 x0 x2 v1) (fr_cl (fr_mono (by decide) (fr_fX5_find x0 x1 8)) fun v5 => (fr_fX5_of_J22 x0 x2 v5))))
abbrev W_fX0_modes : List Nat := []
theorem fr_fX0_modes (x1 : Int) (x2 : Int) (x3 : Int) : zFr W_fX0_modes (fX0_modes x1 x2 x3) :=
  (fr_cl (fr_mono (by decide) (fr_fX1_node x1)) fun v1 => (fr_ite (fr_ret _) (fr_cl (fr_mono (by decide) (fr_fX0_isIn x2 0 15)) fun v3 => (fr_ite (fr_ret _) (fr_cl (fr_mono (by decide) (fr_fX0_isIn x3 0 7)) fun v4 => (fr_ite (fr_cl (fr_mono (by decide) (fr_fX5_of (3 * v1) x2 x3)) fun v5 => (fr_ret _)) (fr_ret _)))))))
abbrev W_fX0_hasPlace : List Nat := []
theorem fr_fX0_hasPlace (x1 : Int) (x2 : Int) : zFr W_fX0_hasPlace (fX0_hasPlace x1 x2) :=
  (fr_ite (fr_ret _) (fr_gf fun v2 => (fr_cl (fr_mono (by decide) (fr_fX0_isIn x2 0 (zl (v2 - 1)))) fun v3 => (fr_ite (fr_ret _) (fr_ret _)))))
abbrev W_fX3_get : List Nat := []
theorem fr_fX3_get (x1 : Int) (x2 : Int) : zFr W_fX3_get (fX3_get x1 x2) :=
  (fr_al fun v1 => (fr_ret _))
abbrev W_fX1_get : List Nat := []
theorem fr_fX1_get (x1 : Int) (x2 : Int) : zFr W_fX1_get (fX1_get x1 x2) :=
  (fr_nn (fr_al fun v2 => (fr_cl (fr_mono (by decide) (fr_fX3_get v2 (Int.tmod x2 64))) fun v3 => (fr_ret _))))
abbrev W_fX0_word : List Nat := []
theorem fr_fX0_word (x1 : Int) (x2 : Int) : zFr W_fX0_word (fX0_word x1 x2) :=
  (fr_cl (fr_mono (by decide) (fr_fX1_segment x1)) fun v1 => (fr_cl (fr_mono (by decide) (fr_fX0_hasPlace v1 x2)) fun v2 => (fr_ite (fr_ret _) (fr_cl (fr_mono (by decide) (fr_fX1_get v1 x2)) fun v3 => (fr_ret _)))))
abbrev W_fX3_put : List Nat := [400]
theorem fr_fX3_put (x1 : Int) (x2 : Int) (x3 : Int) : zFr W_fX3_put (fX3_put x1 x2 x3) :=
  (fr_as (by decide) (fr_ret _))
abbrev W_fX1_put : List Nat := [400]
theorem fr_fX1_put (x1 : Int) (x2 : Int) (x3 : Int) : zFr W_fX1_put (fX1_put x1 x2 x3) :=
  (fr_nn (fr_al fun v2 => (fr_cl (fr_mono (by decide) (fr_fX3_put v2 (Int.tmod x2 64) x3)) fun _ => (fr_ret _))))
abbrev W_fX0_put : List Nat := [400]
theorem fr_fX0_put (x1 : Int) (x2 : Int) (x3 : Int) : zFr W_fX0_put (fX0_put x1 x2 x3) :=
  (fr_cl (fr_mono (by decide) (fr_fX1_segment x1)) fun v1 => (fr_cl (fr_mono (by decide) (fr_fX0_hasPlace v1 x2)) fun v2 => (fr_ite (fr_cl (fr_mono (by decide) (fr_fX0_isWord x3)) fun v3 => (fr_ite (fr_cl (fr_mono (by decide) (fr_fX1_get v1 x2)) fun v4 => (fr_cl (fr_mono (by decide) (fr_fX1_put v1 x2 x3)) fun _ => (fr_ret _))) (fr_ret _))) (fr_ret _))))
abbrev W_fX1_mailbox : List Nat := []
theorem fr_fX1_mailbox (x1 : Int) : zFr W_fX1_mailbox (fX1_mailbox x1) :=
  (fr_cl (fr_mono (by decide) (fr_fX1_node x1)) fun v1 => (fr_ite (fr_ret _) (fr_cl (fr_mono (by decide) (fr_fX4_isMailbox v1)) fun v3 => (fr_ite (fr_ret _) (fr_ret _)))))
abbrev W_fX0_letter : List Nat := []
theorem fr_fX0_letter (x1 : Int) (x2 : Int) (x3 : Int) : zFr W_fX0_letter (fX0_letter x1 x2 x3) :=
  (fr_cl (fr_mono (by decide) (fr_fX1_mailbox x1)) fun v1 => (fr_ite (fr_ret _) (fr_gf fun v3 => (fr_nn (fr_gf fun v5 => (fr_cl (fr_mono (by decide) (fr_fX0_isIn x2 0 (zl (v5 - 1)))) fun v6 => (fr_ite (fr_ite (fr_ite (fr_ret _) (fr_gf fun v7 => (fr_nn (fr_al fun v9 => (fr_ret _))))) (fr_gf fun v10 => (fr_nn (fr_al fun v12 => (fr_ret _))))) (fr_ret _))))))))
abbrev W_fX13_has : List Nat := []
theorem fr_fX13_has (x1 : Int) : zFr W_fX13_has (fX13_has x1) :=
  (fr_ite (fr_ret _) (fr_gf fun v1 => (fr_ite (fr_ret _) (fr_gf fun v2 => (fr_ite (fr_ret _) (fr_ret _))))))
abbrev W_fX0_audit : List Nat := []
theorem fr_fX0_audit (x1 : Int) (x2 : Int) : zFr W_fX0_audit (fX0_audit x1 x2) :=
  (fr_cl (fr_mono (by decide) (fr_fX13_has x1)) fun v1 => (fr_ite (fr_cl (fr_mono (by decide) (fr_fX0_isIn x2 0 3)) fun v2 => (fr_ite (fr_ret _) (fr_al fun v3 => (fr_ret _)))) (fr_ret _)))
abbrev W_fX0_isHalf : List Nat := []
theorem fr_fX0_isHalf (x0 : Int) : zFr W_fX0_isHalf (fX0_isHalf x0) :=
  (fr_ite (fr_ret _) (fr_ite (fr_ret _) (fr_ret _)))
abbrev W_fX9_go : List Nat := [1006, 1007, 1008]
theorem fr_fX9_go (x0 : Int) (x1 : Int) (x2 : Int) (x3 : Int) : zFr W_fX9_go (fX9_go x0 x1 x2 x3) :=
  (fr_pf (by decide) (fr_pf (by decide) (fr_pf (by decide) (fr_ret _))))
abbrev W_fX9_point : List Nat := [1003, 1004, 1005]
theorem fr_fX9_point (x0 : Int) (x1 : Int) (x2 : Int) (x3 : Int) (x4 : Int) : zFr W_fX9_point (fX9_point x0 x1 x2 x3 x4) :=
  (fr_as (by decide) (fr_as (by decide) (fr_as (by decide) (fr_ret _))))
abbrev W_fX9_clear : List Nat := [1000, 1001, 1002, 1003, 1004, 1005, 1006, 1007, 1008, 1009, 1010]
theorem fr_fX9_clear_J52 (x0 : Int) : zFr W_fX9_clear (fX9_clear_J52 x0) :=
  (fr_cl (fr_mono (by decide) (fr_fX9_go x0 0 0 0)) fun _ => (fr_pf (by decide) (fr_pf (by decide) (fr_ret _))))
theorem fr_fX9_clear_B32 (x0 : Int) : ∀ r32 : Int → zX, (∀ s, zFr W_fX9_clear (r32 s)) → ∀ s, zFr W_fX9_clear (fX9_clear_B32 x0 r32 s) := by
  intro r32 hr32 x1
  unfold fX9_clear_B32
  exact (fr_ite (fr_fX9_clear_J52 x0) (fr_cl (fr_mono (by decide) (fr_fX9_point x0 x1 0 0 0)) fun _ => (fr_lt fun v3 => (hr32 v3))))
theorem fr_fX9_clear_J30 (x0 : Int) : zFr W_fX9_clear (fX9_clear_J30 x0) :=
  (fr_lp (fr_fX9_clear_B32 x0) zBIG 0)
theorem fr_fX9_clear_B12 (x0 : Int) : ∀ r12 : Int → zX, (∀ s, zFr W_fX9_clear (r12 s)) → ∀ s, zFr W_fX9_clear (fX9_clear_B12 x0 r12 s) := by
  intro r12 hr12 x1
  unfold fX9_clear_B12
  exact (fr_ite (fr_fX9_clear_J30 x0) (fr_as (by decide) (fr_lt fun v4 => (hr12 v4))))
theorem fr_fX9_clear (x0 : Int) : zFr W_fX9_clear (fX9_clear x0) :=
  (fr_pf (by decide) (fr_pf (by decide) (fr_lp (fr_fX9_clear_B12 x0) zBIG 0)))
abbrev W_fX8_know : List Nat := [916, 1200]
theorem fr_fX8_know (x0 : Int) (x1 : Int) (x2 : Int) : zFr W_fX8_know (fX8_know x0 x1 x2) :=
  (fr_as (by decide) (fr_ib (fr_pf (by decide) (fr_ret _))))
abbrev W_fX10_clear : List Nat := [1101, 1102]
theorem fr_fX10_clear (x0 : Int) : zFr W_fX10_clear (fX10_clear x0) :=
  (fr_pf (by decide) (fr_pf (by decide) (fr_ret _)))
abbrev W_fX8_begin : List Nat := [902, 903, 904, 905, 906, 907, 910, 911, 915, 916, 918, 920, 921, 923, 924, 1000, 1001, 1002, 1003, 1004, 1005, 1006, 1007, 1008, 1009, 1010, 1101, 1102, 1200]
theorem fr_fX8_begin_J159 (x0 : Int) : zFr W_fX8_begin (fX8_begin_J159 x0) :=
  (fr_pf (by decide) (fr_pf (by decide) (fr_cl (fr_mono (by decide) (fr_fX10_clear x0)) fun _ => (fr_ret _))))
theorem fr_fX8_begin_B139 (x0 : Int) : ∀ r139 : Int → zX, (∀ s, zFr W_fX8_begin (r139 s)) → ∀ s, zFr W_fX8_begin (fX8_begin_B139 x0 r139 s) := by
  intro r139 hr139 x7
  unfold fX8_begin_B139
  exact (fr_ite (fr_fX8_begin_J159 x0) (fr_as (by decide) (fr_lt fun v5 => (hr139 v5))))
theorem fr_fX8_begin_J117 (x0 : Int) (x4 : Int) : zFr W_fX8_begin (fX8_begin_J117 x0 x4) :=
  (fr_cl (fr_mono (by decide) (fr_fX8_know x0 8 x4)) fun _ => (fr_pf (by decide) (fr_lp (fr_fX8_begin_B139 x0) zBIG 0)))
theorem fr_fX8_begin_B90 (x0 : Int) (x4 : Int) : ∀ r90 : Int → zX, (∀ s, zFr W_fX8_begin (r90 s)) → ∀ s, zFr W_fX8_begin (fX8_begin_B90 x0 x4 r90 s) := by
  intro r90 hr90 x7
  unfold fX8_begin_B90
  exact (fr_ite (fr_fX8_begin_J117 x0 x4) (fr_as (by decide) (fr_cl (fr_mono (by decide) (fr_fX8_unbind x0 x7)) fun _ => (fr_lt fun v7 => (hr90 v7)))))
theorem fr_fX8_begin_J87 (x0 : Int) (x4 : Int) : zFr W_fX8_begin (fX8_begin_J87 x0 x4) :=
  (fr_lp (fr_fX8_begin_B90 x0 x4) zBIG 0)
theorem fr_fX8_begin_B63 (x0 : Int) (x4 : Int) : ∀ r63 : Int → zX, (∀ s, zFr W_fX8_begin (r63 s)) → ∀ s, zFr W_fX8_begin (fX8_begin_B63 x0 x4 r63 s) := by
  intro r63 hr63 x7
  unfold fX8_begin_B63
  exact (fr_ite (fr_fX8_begin_J87 x0 x4) (fr_as (by decide) (fr_lt fun v8 => (hr63 v8))))
theorem fr_fX8_begin (x0 : Int) (x1 : Int) (x2 : Int) (x3 : Int) (x4 : Int) (x5 : Int) (x6 : Int) : zFr W_fX8_begin (fX8_begin x0 x1 x2 x3 x4 x5 x6) :=
  (fr_pf (by decide) (fr_pf (by decide) (fr_pf (by decide) (fr_pf (by decide) (fr_pf (by decide) (fr_pf (by decide) (fr_cl (fr_mono (by decide) (fr_fX9_clear x0)) fun _ => (fr_cl (fr_mono (by decide) (fr_fX9_go x0 8 x5 x6)) fun _ => (fr_pf (by decide) (fr_pf (by decide) (fr_lp (fr_fX8_begin_B63 x0 x4) zBIG 0)))))))))))
abbrev W_fX0_login : List Nat := [902, 903, 904, 905, 906, 907, 910, 911, 915, 916, 918, 920, 921, 923, 924, 1000, 1001, 1002, 1003, 1004, 1005, 1006, 1007, 1008, 1009, 1010, 1101, 1102, 1200]
theorem fr_fX0_login_J96 (x1 : Int) (x2 : Int) (x3 : Int) (x5 : Int) (x6 : Int) (x7 : Int) (x8 : Int) : zFr W_fX0_login (fX0_login_J96 x1 x2 x3 x5 x6 x7 x8) :=
  (fr_ib (fr_cl (fr_mono (by decide) (fr_fX8_begin x8 x1 x2 x3 x7 x5 x6)) fun _ => (fr_ret _)))
theorem fr_fX0_login_B76 (x1 : Int) (x2 : Int) (x3 : Int) (x5 : Int) (x6 : Int) (x7 : Int) : ∀ r76 : Int → zX, (∀ s, zFr W_fX0_login (r76 s)) → ∀ s, zFr W_fX0_login (fX0_login_B76 x1 x2 x3 x5 x6 x7 r76 s) := by
  intro r76 hr76 x8
  unfold fX0_login_B76
  exact (fr_ite (fr_ret _) (fr_ib (fr_gf fun v10 => (fr_ite (fr_lt fun v11 => (hr76 v11)) (fr_fX0_login_J96 x1 x2 x3 x5 x6 x7 x8)))))
theorem fr_fX0_login (x1 : Int) (x2 : Int) (x3 : Int) (x4 : Int) (x5 : Int) (x6 : Int) : zFr W_fX0_login (fX0_login x1 x2 x3 x4 x5 x6) :=
  (fr_cl (fr_mono (by decide) (fr_fX1_segment x4)) fun v1 => (fr_cl (fr_mono (by decide) (fr_fX0_isIn x1 0 15)) fun v2 => (fr_ite (fr_ret _) (fr_cl (fr_mono (by decide) (fr_fX0_isIn x2 0 7)) fun v3 => (fr_ite (fr_ret _) (fr_cl (fr_mono (by decide) (fr_fX0_isLabel x3)) fun v4 => (fr_ite (fr_ret _) (fr_ite (fr_ret _) (fr_cl (fr_mono (by decide) (fr_fX0_isHalf x5)) fun v6 => (fr_ite (fr_ret _) (fr_cl (fr_mono (by decide) (fr_fX0_isIn x6 0 7)) fun v7 => (fr_ite (fr_lp (fr_fX0_login_B76 x1 x2 x3 x5 x6 v1) zBIG 0) (fr_ret _)))))))))))))
abbrev W_fX0_processAt : List Nat := []
theorem fr_fX0_processAt (x1 : Int) : zFr W_fX0_processAt (fX0_processAt x1) :=
  (fr_cl (fr_mono (by decide) (fr_fX0_isIn x1 0 7)) fun v1 => (fr_ite (fr_ret _) (fr_ib (fr_gf fun v4 => (fr_ite (fr_ret _) (fr_ib (fr_ret _)))))))
abbrev W_fX0_logout : List Nat := [902]
theorem fr_fX0_logout (x1 : Int) : zFr W_fX0_logout (fX0_logout x1) :=
  (fr_cl (fr_mono (by decide) (fr_fX0_processAt x1)) fun v1 => (fr_ite (fr_ret _) (fr_pf (by decide) (fr_ret _))))
abbrev W_fX8_isFull : List Nat := []
theorem fr_fX8_isFull (x0 : Int) : zFr W_fX8_isFull (fX8_isFull x0) :=
  (fr_gf fun v1 => (fr_ite (fr_ret _) (fr_ret _)))
abbrev W_fX8_receive : List Nat := [922, 924]
theorem fr_fX8_receive (x0 : Int) (x1 : Int) : zFr W_fX8_receive (fX8_receive x0 x1) :=
  (fr_gf fun v1 => (fr_gf fun v2 => (fr_as (by decide) (fr_gf fun v3 => (fr_pf (by decide) (fr_ret _))))))
abbrev W_fX0_send : List Nat := [922, 924]
theorem fr_fX0_send (x1 : Int) (x2 : Int) : zFr W_fX0_send (fX0_send x1 x2) :=
  (fr_cl (fr_mono (by decide) (fr_fX0_processAt x1)) fun v1 => (fr_ite (fr_ret _) (fr_cl (fr_mono (by decide) (fr_fX0_isWord x2)) fun v3 => (fr_ite (fr_cl (fr_mono (by decide) (fr_fX8_isFull v1)) fun v4 => (fr_ite (fr_cl (fr_mono (by decide) (fr_fX8_receive v1 x2)) fun _ => (fr_gf fun v6 => (fr_ret _))) (fr_ret _))) (fr_ret _)))))
abbrev W_fX10_add : List Nat := [1100, 1101, 1102]
theorem fr_fX10_add_B65 (x0 : Int) (x8 : Int) : ∀ r65 : Int → zX, (∀ s, zFr W_fX10_add (r65 s)) → ∀ s, zFr W_fX10_add (fX10_add_B65 x0 x8 r65 s) := by
  intro r65 hr65 x9
  unfold fX10_add_B65
  exact (fr_ite (fr_ret _) (fr_gf fun v4 => (fr_al fun v5 => (fr_pf (by decide) (fr_lt fun v6 => (hr65 v6))))))
theorem fr_fX10_add (x0 : Int) (x1 : Int) (x2 : Int) (x4 : Int) (x6 : Int) : zFr W_fX10_add (fX10_add x0 x1 x2 x4 x6) :=
  (fr_gf fun v1 => (fr_lt fun v2 => (fr_as (by decide) (fr_as (by decide) (fr_as (by decide) (fr_as (by decide) (fr_gf fun v3 => (fr_pf (by decide) (fr_lp (fr_fX10_add_B65 x0 v2) zBIG 0)))))))))
abbrev W_fX8_event : List Nat := [1100, 1101, 1102]
theorem fr_fX8_event (x0 : Int) (x1 : Int) (x2 : Int) (x4 : Int) (x6 : Int) : zFr W_fX8_event (fX8_event x0 x1 x2 x4 x6) :=
  (fr_cl (fr_mono (by decide) (fr_fX10_add x0 x1 x2 x4 x6)) fun _ => (fr_ret _))
abbrev W_fX9_copy : List Nat := [1000, 1001, 1002, 1003, 1004, 1005, 1006, 1007, 1008, 1009, 1010]
theorem fr_fX9_copy_J78 (x0 : Int) (x1 : Int) : zFr W_fX9_copy (fX9_copy_J78 x0 x1) :=
  (fr_nn (fr_gf fun v5 => (fr_gf fun v6 => (fr_gf fun v7 => (fr_cl (fr_mono (by decide) (fr_fX9_go x0 v5 v6 v7)) fun _ => (fr_gf fun v9 => (fr_pb (by decide) (fr_gf fun v11 => (fr_pb (by decide) (fr_ret _))))))))))
theorem fr_fX9_copy_B43 (x0 : Int) (x1 : Int) : ∀ r43 : Int → zX, (∀ s, zFr W_fX9_copy (r43 s)) → ∀ s, zFr W_fX9_copy (fX9_copy_B43 x0 x1 r43 s) := by
  intro r43 hr43 x2
  unfold fX9_copy_B43
  exact (fr_ite (fr_fX9_copy_J78 x0 x1) (fr_nn (fr_al fun v14 => (fr_al fun v15 => (fr_al fun v16 => (fr_cl (fr_mono (by decide) (fr_fX9_point x0 x2 v14 v15 v16)) fun _ => (fr_lt fun v18 => (hr43 v18))))))))
theorem fr_fX9_copy_J41 (x0 : Int) (x1 : Int) : zFr W_fX9_copy (fX9_copy_J41 x0 x1) :=
  (fr_lp (fr_fX9_copy_B43 x0 x1) zBIG 0)
theorem fr_fX9_copy_B18 (x0 : Int) (x1 : Int) : ∀ r18 : Int → zX, (∀ s, zFr W_fX9_copy (r18 s)) → ∀ s, zFr W_fX9_copy (fX9_copy_B18 x0 x1 r18 s) := by
  intro r18 hr18 x2
  unfold fX9_copy_B18
  exact (fr_ite (fr_fX9_copy_J41 x0 x1) (fr_nn (fr_al fun v20 => (fr_as (by decide) (fr_lt fun v21 => (hr18 v21))))))
theorem fr_fX9_copy (x0 : Int) (x1 : Int) : zFr W_fX9_copy (fX9_copy x0 x1) :=
  (fr_nn (fr_gf fun v2 => (fr_pf (by decide) (fr_gf fun v3 => (fr_pf (by decide) (fr_lp (fr_fX9_copy_B18 x0 x1) zBIG 0))))))
abbrev W_fX0_pointerWord : List Nat := []
theorem fr_fX0_pointerWord (x0 : Int) (x1 : Int) (x2 : Int) : zFr W_fX0_pointerWord (fX0_pointerWord x0 x1 x2) :=
  (fr_ret _)
abbrev W_fX8_fault : List Nat := [903, 910, 1000, 1001, 1002, 1003, 1004, 1005, 1006, 1007, 1008, 1009, 1010, 1100, 1101, 1102]
theorem fr_fX8_fault_J40 (x0 : Int) : zFr W_fX8_fault (fX8_fault_J40 x0) :=
  (fr_pf (by decide) (fr_cl (fr_mono (by decide) (fr_fX8_event x0 9 0 0 0)) fun _ => (fr_ret _)))
theorem fr_fX8_fault (x0 : Int) (x1 : Int) (x2 : Int) (x3 : Int) (x4 : Int) : zFr W_fX8_fault (fX8_fault x0 x1 x2 x3 x4) :=
  (fr_cl (fr_mono (by decide) (fr_fX8_event x0 2 x1 x2 x3)) fun _ => (fr_gf fun v2 => (fr_ite (fr_fX8_fault_J40 x0) (fr_gf fun v4 => (fr_gf fun v5 => (fr_ite (fr_fX8_fault_J40 x0) (fr_gf fun v6 => (fr_ite (fr_gf fun v7 => (fr_ib (fr_cl (fr_mono (by decide) (fr_fX9_copy (4 * x0 + 8 + v7) x0)) fun _ => (fr_gf fun v11 => (fr_pf (by decide) (fr_pf (by decide) (fr_cl (fr_mono (by decide) (fr_fX0_pointerWord x2 x3 x4)) fun v12 => (fr_pf (by decide) (fr_gf fun v13 => (fr_gf fun v14 => (fr_gf fun v15 => (fr_cl (fr_mono (by decide) (fr_fX9_go x0 v13 v14 v15)) fun _ => (fr_ret _))))))))))))) (fr_fX8_fault_J40 x0)))))))))
abbrev W_fX12_refuse : List Nat := [903, 910, 1000, 1001, 1002, 1003, 1004, 1005, 1006, 1007, 1008, 1009, 1010, 1100, 1101, 1102]
theorem fr_fX12_refuse (x1 : Int) (x2 : Int) (x3 : Int) (x4 : Int) : zFr W_fX12_refuse (fX12_refuse x1 x2 x3 x4) :=
  (fr_gf fun v1 => (fr_nn (fr_cl (fr_mono (by decide) (fr_fX8_fault v1 x1 x2 x3 x4)) fun _ => (fr_ret _))))
abbrev W_fX12_isThere : List Nat := [903, 910, 1000, 1001, 1002, 1003, 1004, 1005, 1006, 1007, 1008, 1009, 1010, 1100, 1101, 1102]
theorem fr_fX12_isThere (x1 : Int) (x2 : Int) (x3 : Int) : zFr W_fX12_isThere (fX12_isThere x1 x2 x3) :=
  (fr_ite (fr_gf fun v1 => (fr_nn (fr_al fun v3 => (fr_ite (fr_cl (fr_mono (by decide) (fr_fX12_refuse 1 x1 x2 x3)) fun v5 => (fr_rb _)) (fr_gf fun v6 => (fr_ite (fr_ret _) (fr_cl (fr_mono (by decide) (fr_fX12_refuse 2 x1 x2 x3)) fun v7 => (fr_ite (fr_ret _) (fr_ret _))))))))) (fr_ite (fr_ret _) (fr_cl (fr_mono (by decide) (fr_fX12_refuse 2 x1 x2 x3)) fun v8 => (fr_ite (fr_ret _) (fr_ret _)))))
abbrev W_fX8_rightsOf : List Nat := [1200, 1201, 1202, 1203]
theorem fr_fX8_rightsOf_J90 (x2 : Int) (s0 : Int) (s1 : Int) : zFr W_fX8_rightsOf (fX8_rightsOf_J90 x2 s0 s1) :=
  (fr_nn (fr_pb (by decide) (fr_ret _)))
theorem fr_fX8_rightsOf (x0 : Int) (x1 : Int) : zFr W_fX8_rightsOf (fX8_rightsOf x0 x1) :=
  (fr_ib (fr_lt fun v3 => (fr_gf fun v4 => (fr_gf fun v5 => (fr_ite (fr_ret _) (fr_al fun v6 => (fr_gf fun v7 => (fr_pf (by decide) (fr_nn (fr_gf fun v9 => (fr_gf fun v10 => (fr_cl (fr_mono (by decide) (fr_fX5_of (3 * v6) v9 v10)) fun v11 => (fr_pf (by decide) (fr_gf fun v12 => (fr_gf fun v13 => (fr_cl (fr_mono (by decide) (fr_fX0_dominates v12 v13)) fun v14 => (fr_pb (by decide) (fr_gf fun v16 => (fr_gf fun v17 => (fr_ite (fr_fX8_rightsOf_J90 v3 v3 0) (fr_fX8_rightsOf_J90 v3 v3 1)))))))))))))))))))))
abbrev W_fX8_refusal : List Nat := [1200, 1201, 1202, 1203]
theorem fr_fX8_refusal_J120 (s0 : Int) : zFr W_fX8_refusal (fX8_refusal_J120 s0) :=
  (fr_ite (fr_ret _) (fr_ret _))
theorem fr_fX8_refusal_J119 : zFr W_fX8_refusal (fX8_refusal_J119) :=
  (fr_fX8_refusal_J120 0)
theorem fr_fX8_refusal_J53 (x2 : Int) (x3 : Int) (x4 : Int) : zFr W_fX8_refusal (fX8_refusal_J53 x2 x3 x4) :=
  (fr_ite (fr_ite (fr_nn (fr_gf fun v7 => (fr_ite fr_fX8_refusal_J119 (fr_gf fun v8 => (fr_ite fr_fX8_refusal_J119 (fr_fX8_refusal_J120 1)))))) (fr_nn (fr_gf fun v10 => (fr_ite (fr_fX8_refusal_J120 0) (fr_fX8_refusal_J120 1))))) (fr_nn (fr_gf fun v12 => (fr_ite (fr_fX8_refusal_J120 0) (fr_fX8_refusal_J120 1)))))
theorem fr_fX8_refusal (x0 : Int) (x1 : Int) (x2 : Int) (x3 : Int) : zFr W_fX8_refusal (fX8_refusal x0 x1 x2 x3) :=
  (fr_al fun v1 => (fr_cl (fr_mono (by decide) (fr_fX8_rightsOf x0 x1)) fun v2 => (fr_nn (fr_gf fun v4 => (fr_ite (fr_ite (fr_gf fun v5 => (fr_ite (fr_fX8_refusal_J53 x2 x3 v1) (fr_ret _))) (fr_gf fun v13 => (fr_ite (fr_fX8_refusal_J53 x2 x3 v1) (fr_ret _)))) (fr_ret _))))))
abbrev W_fX13_add : List Nat := [1400, 1401]
theorem fr_fX13_add (x1 : Int) (x2 : Int) (x3 : Int) (x4 : Int) : zFr W_fX13_add (fX13_add x1 x2 x3 x4) :=
  (fr_gf fun v1 => (fr_lt fun v2 => (fr_as (by decide) (fr_as (by decide) (fr_as (by decide) (fr_as (by decide) (fr_gf fun v3 => (fr_pf (by decide) (fr_ret _)))))))))
abbrev W_fX12_deny : List Nat := [512, 1400, 1401]
theorem fr_fX12_deny (x1 : Int) (x2 : Int) : zFr W_fX12_deny (fX12_deny x1 x2) :=
  (fr_nn (fr_gf fun v2 => (fr_pf (by decide) (fr_gf fun v3 => (fr_nn (fr_cl (fr_mono (by decide) (fr_fX13_add v3 1 x1 x2)) fun _ => (fr_ret _)))))))
abbrev W_fX12_may : List Nat := [512, 903, 910, 1000, 1001, 1002, 1003, 1004, 1005, 1006, 1007, 1008, 1009, 1010, 1100, 1101, 1102, 1200, 1201, 1202, 1203, 1400, 1401]
theorem fr_fX12_may (x1 : Int) (x2 : Int) (x3 : Int) (x4 : Int) : zFr W_fX12_may (fX12_may x1 x2 x3 x4) :=
  (fr_cl (fr_mono (by decide) (fr_fX12_isThere x1 x2 x3)) fun v1 => (fr_ite (fr_ite (fr_gf fun v2 => (fr_nn (fr_cl (fr_mono (by decide) (fr_fX8_refusal v2 x1 x3 x4)) fun v4 => (fr_ite (fr_gf fun v5 => (fr_nn (fr_al fun v7 => (fr_cl (fr_mono (by decide) (fr_fX12_deny v7 v4)) fun _ => (fr_cl (fr_mono (by decide) (fr_fX12_refuse v4 x1 x2 x3)) fun v9 => (fr_rb _)))))) (fr_ret _))))) (fr_ite (fr_ite (fr_ret _) (fr_cl (fr_mono (by decide) (fr_fX12_refuse 5 x1 x2 x3)) fun v10 => (fr_ite (fr_ret _) (fr_ret _)))) (fr_cl (fr_mono (by decide) (fr_fX12_refuse 3 x1 x2 x3)) fun v11 => (fr_rb _)))) (fr_ret _)))
abbrev W_fX12_load : List Nat := []
theorem fr_fX12_load (x1 : Int) (x2 : Int) : zFr W_fX12_load (fX12_load x1 x2) :=
  (fr_ite (fr_gf fun v1 => (fr_nn (fr_al fun v3 => (fr_cl (fr_mono (by decide) (fr_fX1_get v3 x2)) fun v4 => (fr_ret _))))) (fr_gf fun v5 => (fr_nn (fr_al fun v7 => (fr_ret _)))))
abbrev W_fX14_takesMode : List Nat := []
theorem fr_fX14_takesMode (x0 : Int) (x1 : Int) : zFr W_fX14_takesMode (fX14_takesMode x0 x1) :=
  (fr_ite (fr_ite (fr_ite (fr_ret _) (fr_ite (fr_ret _) (fr_ret _))) (fr_ite (fr_ret _) (fr_ite (fr_ret _) (fr_ite (fr_ret _) (fr_ret _))))) (fr_ret _))
abbrev W_fX7_take : List Nat := [800, 801, 802, 803, 804, 805, 806]
theorem fr_fX7_take_J148 (s0 : Int) (s1 : Int) : zFr W_fX7_take (fX7_take_J148 s0 s1) :=
  (fr_nn (fr_pf (by decide) (fr_ret _)))
theorem fr_fX7_take_J147 (s0 : Int) : zFr W_fX7_take (fX7_take_J147 s0) :=
  (fr_fX7_take_J148 s0 (-1))
theorem fr_fX7_take_J142 (x5 : Int) (s0 : Int) : zFr W_fX7_take (fX7_take_J142 x5 s0) :=
  (fr_fX7_take_J148 s0 x5)
theorem fr_fX7_take_J114 (x0 : Int) (x5 : Int) (s0 : Int) (s1 : Int) : zFr W_fX7_take (fX7_take_J114 x0 x5 s0 s1) :=
  (fr_ite (fr_fX7_take_J147 s0) (fr_gf fun v6 => (fr_ite (fr_fX7_take_J147 s0) (fr_nn (fr_ite (fr_fX7_take_J142 x5 s0) (fr_gf fun v8 => (fr_ite (fr_fX7_take_J147 s0) (fr_fX7_take_J142 x5 s0))))))))
theorem fr_fX7_take_J89 (x0 : Int) (s0 : Int) : zFr W_fX7_take (fX7_take_J89 x0 s0) :=
  (fr_ite (fr_fX7_take_J147 x0) (fr_ite (fr_fX7_take_J142 s0 x0) (fr_gf fun v4 => (fr_cl (fr_mono (by decide) (fr_fX14_takesMode s0 v4)) fun v5 => (fr_fX7_take_J114 x0 s0 x0 v5)))))
theorem fr_fX7_take (x0 : Int) (x1 : Int) : zFr W_fX7_take (fX7_take x0 x1) :=
  (fr_pf (by decide) (fr_lt fun v1 => (fr_pf (by decide) (fr_pf (by decide) (fr_pf (by decide) (fr_pf (by decide) (fr_pf (by decide) (fr_ite (fr_fX7_take_J89 x0 (-1)) (fr_ib (fr_fX7_take_J89 x0 v1))))))))))
abbrev W_fX12_decode : List Nat := [800, 801, 802, 803, 804, 805, 806]
theorem fr_fX12_decode (x1 : Int) : zFr W_fX12_decode (fX12_decode x1) :=
  (fr_ib (fr_lt fun v3 => (fr_gf fun v4 => (fr_ite (fr_ret _) (fr_cl (fr_mono (by decide) (fr_fX7_take v3 x1)) fun _ => (fr_ret _))))))
abbrev W_fX12_refuseHere : List Nat := [903, 910, 1000, 1001, 1002, 1003, 1004, 1005, 1006, 1007, 1008, 1009, 1010, 1100, 1101, 1102]
theorem fr_fX12_refuseHere (x1 : Int) : zFr W_fX12_refuseHere (fX12_refuseHere x1) :=
  (fr_gf fun v1 => (fr_nn (fr_gf fun v3 => (fr_gf fun v4 => (fr_gf fun v5 => (fr_cl (fr_mono (by decide) (fr_fX12_refuse x1 v3 v4 v5)) fun v6 => (fr_rb _)))))))
abbrev W_fX8_end : List Nat := [903, 1100, 1101, 1102]
theorem fr_fX8_end (x0 : Int) : zFr W_fX8_end (fX8_end x0) :=
  (fr_pf (by decide) (fr_cl (fr_mono (by decide) (fr_fX8_event x0 6 0 0 0)) fun _ => (fr_ret _)))
abbrev W_fX15_run_0 : List Nat := [903, 1100, 1101, 1102]
theorem fr_fX15_run_0 (x2 : Int) (x3 : Int) : zFr W_fX15_run_0 (fX15_run_0 x2 x3) :=
  (fr_gf fun v1 => (fr_nn (fr_cl (fr_mono (by decide) (fr_fX8_end v1)) fun _ => (fr_ret _))))
abbrev W_fX15_run_1 : List Nat := []
theorem fr_fX15_run_1 (x2 : Int) (x3 : Int) : zFr W_fX15_run_1 (fX15_run_1 x2 x3) :=
  (fr_ret _)
abbrev W_fX12_value : List Nat := [512, 903, 910, 1000, 1001, 1002, 1003, 1004, 1005, 1006, 1007, 1008, 1009, 1010, 1100, 1101, 1102, 1200, 1201, 1202, 1203, 1311, 1400, 1401]
theorem fr_fX12_value_J39 (s1 : Int) : zFr W_fX12_value (fX12_value_J39 s1) :=
  (fr_pf (by decide) (fr_ret _))
theorem fr_fX12_value : zFr W_fX12_value (fX12_value) :=
  (fr_gf fun v1 => (fr_ite (fr_gf fun v2 => (fr_gf fun v3 => (fr_gf fun v4 => (fr_cl (fr_mono (by decide) (fr_fX12_may v2 v3 v4 1)) fun v5 => (fr_ite (fr_gf fun v6 => (fr_gf fun v7 => (fr_cl (fr_mono (by decide) (fr_fX12_load v6 v7)) fun v8 => (fr_pf (by decide) (fr_ret _))))) (fr_ret _)))))) (fr_gf fun v9 => (fr_ite (fr_gf fun v10 => (fr_fX12_value_J39 ((zl (v10 - 262144)) % 68719476736))) (fr_gf fun v11 => (fr_fX12_value_J39 v11))))))
abbrev W_fX9_tell : List Nat := [1009, 1010]
theorem fr_fX9_tell_J30 (s0 : Int) (s1 : Int) : zFr W_fX9_tell (fX9_tell_J30 s0 s1) :=
  (fr_nn (fr_pb (by decide) (fr_ret _)))
theorem fr_fX9_tell_J12 (x0 : Int) (x1 : Int) (s0 : Int) (s1 : Int) : zFr W_fX9_tell (fX9_tell_J12 x0 x1 s0 s1) :=
  (fr_nn (fr_pb (by decide) (fr_ite (fr_fX9_tell_J30 x0 0) (fr_fX9_tell_J30 x0 1))))
theorem fr_fX9_tell (x0 : Int) (x1 : Int) : zFr W_fX9_tell (fX9_tell x0 x1) :=
  (fr_ite (fr_fX9_tell_J12 x0 x1 x0 0) (fr_fX9_tell_J12 x0 x1 x0 1))
abbrev W_fX16_run_2 : List Nat := [512, 903, 910, 1000, 1001, 1002, 1003, 1004, 1005, 1006, 1007, 1008, 1009, 1010, 1100, 1101, 1102, 1200, 1201, 1202, 1203, 1311, 1400, 1401]
theorem fr_fX16_run_2_J35 (x3 : Int) : zFr W_fX16_run_2 (fX16_run_2_J35 x3) :=
  (fr_gf fun v4 => (fr_nn (fr_cl (fr_mono (by decide) (fr_fX9_tell x3 v4)) fun _ => (fr_ret _))))
theorem fr_fX16_run_2 (x2 : Int) (x3 : Int) : zFr W_fX16_run_2 (fX16_run_2 x2 x3) :=
  (fr_cl (fr_mono (by decide) fr_fX12_value) fun v1 => (fr_ite (fr_gf fun v2 => (fr_nn (fr_pf (by decide) (fr_fX16_run_2_J35 x3)))) (fr_ret _)))
abbrev W_fX16_run_3 : List Nat := [512, 903, 910, 1000, 1001, 1002, 1003, 1004, 1005, 1006, 1007, 1008, 1009, 1010, 1100, 1101, 1102, 1200, 1201, 1202, 1203, 1311, 1400, 1401]
theorem fr_fX16_run_3_J35 (x3 : Int) : zFr W_fX16_run_3 (fX16_run_3_J35 x3) :=
  (fr_gf fun v4 => (fr_nn (fr_cl (fr_mono (by decide) (fr_fX9_tell x3 v4)) fun _ => (fr_ret _))))
theorem fr_fX16_run_3 (x2 : Int) (x3 : Int) : zFr W_fX16_run_3 (fX16_run_3 x2 x3) :=
  (fr_cl (fr_mono (by decide) fr_fX12_value) fun v1 => (fr_ite (fr_gf fun v2 => (fr_nn (fr_pf (by decide) (fr_fX16_run_3_J35 x3)))) (fr_ret _)))
abbrev W_fX18_reckon_4 : List Nat := []
theorem fr_fX18_reckon_4 (x1 : Int) (x3 : Int) : zFr W_fX18_reckon_4 (fX18_reckon_4 x1 x3) :=
  (fr_ret _)
abbrev W_fX17_run_4 : List Nat := [512, 903, 910, 1000, 1001, 1002, 1003, 1004, 1005, 1006, 1007, 1008, 1009, 1010, 1100, 1101, 1102, 1200, 1201, 1202, 1203, 1311, 1400, 1401]
theorem fr_fX17_run_4 (x2 : Int) (x3 : Int) : zFr W_fX17_run_4 (fX17_run_4 x2 x3) :=
  (fr_cl (fr_mono (by decide) fr_fX12_value) fun v1 => (fr_ite (fr_nn (fr_gf fun v3 => (fr_gf fun v4 => (fr_cl (fr_mono (by decide) (fr_fX18_reckon_4 v3 v4)) fun v5 => (fr_pf (by decide) (fr_gf fun v6 => (fr_cl (fr_mono (by decide) (fr_fX9_tell x3 v6)) fun _ => (fr_ret _)))))))) (fr_ret _)))
abbrev W_fX18_reckon_5 : List Nat := []
theorem fr_fX18_reckon_5 (x1 : Int) (x3 : Int) : zFr W_fX18_reckon_5 (fX18_reckon_5 x1 x3) :=
  (fr_ret _)
abbrev W_fX17_run_5 : List Nat := [512, 903, 910, 1000, 1001, 1002, 1003, 1004, 1005, 1006, 1007, 1008, 1009, 1010, 1100, 1101, 1102, 1200, 1201, 1202, 1203, 1311, 1400, 1401]
theorem fr_fX17_run_5 (x2 : Int) (x3 : Int) : zFr W_fX17_run_5 (fX17_run_5 x2 x3) :=
  (fr_cl (fr_mono (by decide) fr_fX12_value) fun v1 => (fr_ite (fr_nn (fr_gf fun v3 => (fr_gf fun v4 => (fr_cl (fr_mono (by decide) (fr_fX18_reckon_5 v3 v4)) fun v5 => (fr_pf (by decide) (fr_gf fun v6 => (fr_cl (fr_mono (by decide) (fr_fX9_tell x3 v6)) fun _ => (fr_ret _)))))))) (fr_ret _)))
abbrev W_fX19_reckon_6 : List Nat := []
theorem fr_fX19_reckon_6 (x1 : Int) (x3 : Int) : zFr W_fX19_reckon_6 (fX19_reckon_6 x1 x3) :=
  (fr_ret _)
abbrev W_fX17_run_6 : List Nat := [512, 903, 910, 1000, 1001, 1002, 1003, 1004, 1005, 1006, 1007, 1008, 1009, 1010, 1100, 1101, 1102, 1200, 1201, 1202, 1203, 1311, 1400, 1401]
theorem fr_fX17_run_6 (x2 : Int) (x3 : Int) : zFr W_fX17_run_6 (fX17_run_6 x2 x3) :=
  (fr_cl (fr_mono (by decide) fr_fX12_value) fun v1 => (fr_ite (fr_nn (fr_gf fun v3 => (fr_gf fun v4 => (fr_cl (fr_mono (by decide) (fr_fX19_reckon_6 v3 v4)) fun v5 => (fr_pf (by decide) (fr_gf fun v6 => (fr_cl (fr_mono (by decide) (fr_fX9_tell x3 v6)) fun _ => (fr_ret _)))))))) (fr_ret _)))
abbrev W_fX0_signed : List Nat := []
theorem fr_fX0_signed (x0 : Int) : zFr W_fX0_signed (fX0_signed x0) :=
  (fr_ite (fr_ret _) (fr_ret _))
abbrev W_fX20_run_7 : List Nat := [512, 903, 910, 1000, 1001, 1002, 1003, 1004, 1005, 1006, 1007, 1008, 1009, 1010, 1100, 1101, 1102, 1200, 1201, 1202, 1203, 1311, 1400, 1401]
theorem fr_fX20_run_7 (x2 : Int) (x3 : Int) : zFr W_fX20_run_7 (fX20_run_7 x2 x3) :=
  (fr_cl (fr_mono (by decide) fr_fX12_value) fun v1 => (fr_ite (fr_gf fun v2 => (fr_ite (fr_nn (fr_gf fun v4 => (fr_cl (fr_mono (by decide) (fr_fX0_signed v4)) fun v5 => (fr_gf fun v6 => (fr_cl (fr_mono (by decide) (fr_fX0_signed v6)) fun v7 => (fr_ne (fr_pf (by decide) (fr_ne (fr_pf (by decide) (fr_gf fun v10 => (fr_cl (fr_mono (by decide) (fr_fX9_tell x3 v10)) fun _ => (fr_ret _)))))))))))) (fr_cl (fr_mono (by decide) (fr_fX12_refuseHere 12)) fun v12 => (fr_rb _)))) (fr_ret _)))
abbrev W_fX21_reckon_8 : List Nat := []
theorem fr_fX21_reckon_8 (x1 : Int) (x3 : Int) : zFr W_fX21_reckon_8 (fX21_reckon_8 x1 x3) :=
  (fr_ret _)
abbrev W_fX17_run_8 : List Nat := [512, 903, 910, 1000, 1001, 1002, 1003, 1004, 1005, 1006, 1007, 1008, 1009, 1010, 1100, 1101, 1102, 1200, 1201, 1202, 1203, 1311, 1400, 1401]
theorem fr_fX17_run_8 (x2 : Int) (x3 : Int) : zFr W_fX17_run_8 (fX17_run_8 x2 x3) :=
  (fr_cl (fr_mono (by decide) fr_fX12_value) fun v1 => (fr_ite (fr_nn (fr_gf fun v3 => (fr_gf fun v4 => (fr_cl (fr_mono (by decide) (fr_fX21_reckon_8 v3 v4)) fun v5 => (fr_pf (by decide) (fr_gf fun v6 => (fr_cl (fr_mono (by decide) (fr_fX9_tell x3 v6)) fun _ => (fr_ret _)))))))) (fr_ret _)))
abbrev W_fX21_reckon_9 : List Nat := []
theorem fr_fX21_reckon_9 (x1 : Int) (x3 : Int) : zFr W_fX21_reckon_9 (fX21_reckon_9 x1 x3) :=
  (fr_ret _)
abbrev W_fX17_run_9 : List Nat := [512, 903, 910, 1000, 1001, 1002, 1003, 1004, 1005, 1006, 1007, 1008, 1009, 1010, 1100, 1101, 1102, 1200, 1201, 1202, 1203, 1311, 1400, 1401]
theorem fr_fX17_run_9 (x2 : Int) (x3 : Int) : zFr W_fX17_run_9 (fX17_run_9 x2 x3) :=
  (fr_cl (fr_mono (by decide) fr_fX12_value) fun v1 => (fr_ite (fr_nn (fr_gf fun v3 => (fr_gf fun v4 => (fr_cl (fr_mono (by decide) (fr_fX21_reckon_9 v3 v4)) fun v5 => (fr_pf (by decide) (fr_gf fun v6 => (fr_cl (fr_mono (by decide) (fr_fX9_tell x3 v6)) fun _ => (fr_ret _)))))))) (fr_ret _)))
abbrev W_fX21_reckon_10 : List Nat := []
theorem fr_fX21_reckon_10 (x1 : Int) (x3 : Int) : zFr W_fX21_reckon_10 (fX21_reckon_10 x1 x3) :=
  (fr_ret _)
abbrev W_fX17_run_10 : List Nat := [512, 903, 910, 1000, 1001, 1002, 1003, 1004, 1005, 1006, 1007, 1008, 1009, 1010, 1100, 1101, 1102, 1200, 1201, 1202, 1203, 1311, 1400, 1401]
theorem fr_fX17_run_10 (x2 : Int) (x3 : Int) : zFr W_fX17_run_10 (fX17_run_10 x2 x3) :=
  (fr_cl (fr_mono (by decide) fr_fX12_value) fun v1 => (fr_ite (fr_nn (fr_gf fun v3 => (fr_gf fun v4 => (fr_cl (fr_mono (by decide) (fr_fX21_reckon_10 v3 v4)) fun v5 => (fr_pf (by decide) (fr_gf fun v6 => (fr_cl (fr_mono (by decide) (fr_fX9_tell x3 v6)) fun _ => (fr_ret _)))))))) (fr_ret _)))
abbrev W_fX22_run_11 : List Nat := [512, 903, 910, 1000, 1001, 1002, 1003, 1004, 1005, 1006, 1007, 1008, 1009, 1010, 1100, 1101, 1102, 1200, 1201, 1202, 1203, 1311, 1400, 1401]
theorem fr_fX22_run_11_J58 (s0 : Int) (s1 : Int) : zFr W_fX22_run_11 (fX22_run_11_J58 s0 s1) :=
  (fr_nn (fr_pb (by decide) (fr_ret _)))
theorem fr_fX22_run_11_J41 (x3 : Int) (x4 : Int) (x6 : Int) (s0 : Int) (s1 : Int) : zFr W_fX22_run_11 (fX22_run_11_J41 x3 x4 x6 s0 s1) :=
  (fr_nn (fr_pb (by decide) (fr_ite (fr_fX22_run_11_J58 x3 0) (fr_fX22_run_11_J58 x3 1))))
theorem fr_fX22_run_11 (x2 : Int) (x3 : Int) : zFr W_fX22_run_11 (fX22_run_11 x2 x3) :=
  (fr_cl (fr_mono (by decide) fr_fX12_value) fun v1 => (fr_ite (fr_nn (fr_gf fun v3 => (fr_cl (fr_mono (by decide) (fr_fX0_signed v3)) fun v4 => (fr_gf fun v5 => (fr_cl (fr_mono (by decide) (fr_fX0_signed v5)) fun v6 => (fr_ite (fr_fX22_run_11_J41 x3 v4 v6 x3 0) (fr_fX22_run_11_J41 x3 v4 v6 x3 1))))))) (fr_ret _)))
abbrev W_fX9_tellHalf : List Nat := [1009, 1010]
theorem fr_fX9_tellHalf_J27 (s0 : Int) (s1 : Int) : zFr W_fX9_tellHalf (fX9_tellHalf_J27 s0 s1) :=
  (fr_nn (fr_pb (by decide) (fr_ret _)))
theorem fr_fX9_tellHalf_J10 (x0 : Int) (x1 : Int) (s0 : Int) (s1 : Int) : zFr W_fX9_tellHalf (fX9_tellHalf_J10 x0 x1 s0 s1) :=
  (fr_nn (fr_pb (by decide) (fr_ite (fr_fX9_tellHalf_J27 x0 0) (fr_fX9_tellHalf_J27 x0 1))))
theorem fr_fX9_tellHalf (x0 : Int) (x1 : Int) : zFr W_fX9_tellHalf (fX9_tellHalf x0 x1) :=
  (fr_ite (fr_fX9_tellHalf_J10 x0 x1 x0 0) (fr_fX9_tellHalf_J10 x0 x1 x0 1))
abbrev W_fX23_run_12 : List Nat := [512, 903, 910, 1000, 1001, 1002, 1003, 1004, 1005, 1006, 1007, 1008, 1009, 1010, 1100, 1101, 1102, 1200, 1201, 1202, 1203, 1311, 1400, 1401]
theorem fr_fX23_run_12_J55 (x2 : Int) (x3 : Int) (s0 : Int) (s1 : Int) (s2 : Int) : zFr W_fX23_run_12 (fX23_run_12_J55 x2 x3 s0 s1 s2) :=
  (fr_as (by decide) (fr_nn (fr_nn (fr_gf fun v9 => (fr_al fun v10 => (fr_cl (fr_mono (by decide) (fr_fX9_tellHalf x3 v10)) fun _ => (fr_ret _)))))))
theorem fr_fX23_run_12 (x2 : Int) (x3 : Int) : zFr W_fX23_run_12 (fX23_run_12 x2 x3) :=
  (fr_cl (fr_mono (by decide) fr_fX12_value) fun v1 => (fr_ite (fr_gf fun v2 => (fr_lt fun v3 => (fr_nn (fr_nn (fr_gf fun v6 => (fr_fX23_run_12_J55 x2 x3 x3 v6 v3)))))) (fr_ret _)))
abbrev W_fX23_run_13 : List Nat := [512, 903, 910, 1000, 1001, 1002, 1003, 1004, 1005, 1006, 1007, 1008, 1009, 1010, 1100, 1101, 1102, 1200, 1201, 1202, 1203, 1311, 1400, 1401]
theorem fr_fX23_run_13_J55 (x2 : Int) (x3 : Int) (s0 : Int) (s1 : Int) (s2 : Int) : zFr W_fX23_run_13 (fX23_run_13_J55 x2 x3 s0 s1 s2) :=
  (fr_as (by decide) (fr_nn (fr_nn (fr_gf fun v11 => (fr_al fun v12 => (fr_cl (fr_mono (by decide) (fr_fX9_tellHalf x3 v12)) fun _ => (fr_ret _)))))))
theorem fr_fX23_run_13 (x2 : Int) (x3 : Int) : zFr W_fX23_run_13 (fX23_run_13 x2 x3) :=
  (fr_cl (fr_mono (by decide) fr_fX12_value) fun v1 => (fr_ite (fr_gf fun v2 => (fr_lt fun v3 => (fr_nn (fr_nn (fr_gf fun v6 => (fr_gf fun v7 => (fr_al fun v8 => (fr_fX23_run_13_J55 x2 x3 x3 v6 ((zi (v8 + v3)) % 262144))))))))) (fr_ret _)))
abbrev W_fX12_store : List Nat := [400, 915]
theorem fr_fX12_store (x1 : Int) (x2 : Int) (x3 : Int) : zFr W_fX12_store (fX12_store x1 x2 x3) :=
  (fr_ite (fr_gf fun v1 => (fr_nn (fr_al fun v3 => (fr_cl (fr_mono (by decide) (fr_fX1_put v3 x2 x3)) fun _ => (fr_ret _))))) (fr_gf fun v5 => (fr_nn (fr_as (by decide) (fr_ret _)))))
abbrev W_fX24_run_14 : List Nat := [400, 512, 903, 910, 915, 1000, 1001, 1002, 1003, 1004, 1005, 1006, 1007, 1008, 1009, 1010, 1100, 1101, 1102, 1200, 1201, 1202, 1203, 1400, 1401]
theorem fr_fX24_run_14_J89 (s1 : Int) (s2 : Int) (s3 : Int) : zFr W_fX24_run_14 (fX24_run_14_J89 s1 s2 s3) :=
  (fr_cl (fr_mono (by decide) (fr_fX12_store s1 s2 s3)) fun _ => (fr_ret _))
theorem fr_fX24_run_14 (x2 : Int) (x3 : Int) : zFr W_fX24_run_14 (fX24_run_14 x2 x3) :=
  (fr_gf fun v1 => (fr_gf fun v2 => (fr_gf fun v3 => (fr_cl (fr_mono (by decide) (fr_fX12_may v1 v2 v3 4)) fun v4 => (fr_ite (fr_gf fun v5 => (fr_gf fun v6 => (fr_nn (fr_gf fun v8 => (fr_fX24_run_14_J89 v5 v6 v8))))) (fr_ret _))))))
abbrev W_fX24_run_15 : List Nat := [400, 512, 903, 910, 915, 1000, 1001, 1002, 1003, 1004, 1005, 1006, 1007, 1008, 1009, 1010, 1100, 1101, 1102, 1200, 1201, 1202, 1203, 1400, 1401]
theorem fr_fX24_run_15_J89 (s1 : Int) (s2 : Int) (s3 : Int) : zFr W_fX24_run_15 (fX24_run_15_J89 s1 s2 s3) :=
  (fr_cl (fr_mono (by decide) (fr_fX12_store s1 s2 s3)) fun _ => (fr_ret _))
theorem fr_fX24_run_15 (x2 : Int) (x3 : Int) : zFr W_fX24_run_15 (fX24_run_15 x2 x3) :=
  (fr_gf fun v1 => (fr_gf fun v2 => (fr_gf fun v3 => (fr_cl (fr_mono (by decide) (fr_fX12_may v1 v2 v3 4)) fun v4 => (fr_ite (fr_gf fun v5 => (fr_gf fun v6 => (fr_nn (fr_gf fun v8 => (fr_fX24_run_15_J89 v5 v6 v8))))) (fr_ret _))))))
abbrev W_fX24_run_16 : List Nat := [400, 512, 903, 910, 915, 1000, 1001, 1002, 1003, 1004, 1005, 1006, 1007, 1008, 1009, 1010, 1100, 1101, 1102, 1200, 1201, 1202, 1203, 1400, 1401]
theorem fr_fX24_run_16_J89 (s1 : Int) (s2 : Int) (s3 : Int) : zFr W_fX24_run_16 (fX24_run_16_J89 s1 s2 s3) :=
  (fr_cl (fr_mono (by decide) (fr_fX12_store s1 s2 s3)) fun _ => (fr_ret _))
theorem fr_fX24_run_16 (x2 : Int) (x3 : Int) : zFr W_fX24_run_16 (fX24_run_16 x2 x3) :=
  (fr_gf fun v1 => (fr_gf fun v2 => (fr_gf fun v3 => (fr_cl (fr_mono (by decide) (fr_fX12_may v1 v2 v3 4)) fun v4 => (fr_ite (fr_gf fun v5 => (fr_gf fun v6 => (fr_nn (fr_nn (fr_gf fun v9 => (fr_al fun v10 => (fr_fX24_run_16_J89 v5 v6 v10))))))) (fr_ret _))))))
abbrev W_fX9_pointer : List Nat := []
theorem fr_fX9_pointer (x0 : Int) (x1 : Int) : zFr W_fX9_pointer (fX9_pointer x0 x1) :=
  (fr_al fun v1 => (fr_al fun v2 => (fr_al fun v3 => (fr_cl (fr_mono (by decide) (fr_fX0_pointerWord v1 v2 v3)) fun v4 => (fr_ret _)))))
abbrev W_fX24_run_17 : List Nat := [400, 512, 903, 910, 915, 1000, 1001, 1002, 1003, 1004, 1005, 1006, 1007, 1008, 1009, 1010, 1100, 1101, 1102, 1200, 1201, 1202, 1203, 1400, 1401]
theorem fr_fX24_run_17_J89 (s1 : Int) (s2 : Int) (s3 : Int) : zFr W_fX24_run_17 (fX24_run_17_J89 s1 s2 s3) :=
  (fr_cl (fr_mono (by decide) (fr_fX12_store s1 s2 s3)) fun _ => (fr_ret _))
theorem fr_fX24_run_17 (x2 : Int) (x3 : Int) : zFr W_fX24_run_17 (fX24_run_17 x2 x3) :=
  (fr_gf fun v1 => (fr_gf fun v2 => (fr_gf fun v3 => (fr_cl (fr_mono (by decide) (fr_fX12_may v1 v2 v3 4)) fun v4 => (fr_ite (fr_gf fun v5 => (fr_gf fun v6 => (fr_nn (fr_gf fun v8 => (fr_nn (fr_cl (fr_mono (by decide) (fr_fX9_pointer x3 v8)) fun v10 => (fr_fX24_run_17_J89 v5 v6 v10))))))) (fr_ret _))))))
abbrev W_fX25_run_18 : List Nat := [400, 512, 903, 910, 915, 1000, 1001, 1002, 1003, 1004, 1005, 1006, 1007, 1008, 1009, 1010, 1100, 1101, 1102, 1200, 1201, 1202, 1203, 1400, 1401]
theorem fr_fX25_run_18 (x2 : Int) (x3 : Int) : zFr W_fX25_run_18 (fX25_run_18 x2 x3) :=
  (fr_gf fun v1 => (fr_gf fun v2 => (fr_gf fun v3 => (fr_cl (fr_mono (by decide) (fr_fX12_may v1 v2 v3 1)) fun v4 => (fr_ite (fr_ret _) (fr_gf fun v5 => (fr_gf fun v6 => (fr_gf fun v7 => (fr_cl (fr_mono (by decide) (fr_fX12_may v5 v6 v7 4)) fun v8 => (fr_ite (fr_gf fun v9 => (fr_gf fun v10 => (fr_cl (fr_mono (by decide) (fr_fX12_load v9 v10)) fun v11 => (fr_lt fun v12 => (fr_gf fun v13 => (fr_gf fun v14 => (fr_cl (fr_mono (by decide) (fr_fX12_store v13 v14 v12)) fun _ => (fr_nn (fr_cl (fr_mono (by decide) (fr_fX9_tell x3 v12)) fun _ => (fr_ret _)))))))))) (fr_ret _)))))))))))
abbrev W_fX26_run_19 : List Nat := [400, 512, 903, 910, 915, 1000, 1001, 1002, 1003, 1004, 1005, 1006, 1007, 1008, 1009, 1010, 1100, 1101, 1102, 1200, 1201, 1202, 1203, 1400, 1401]
theorem fr_fX26_run_19 (x2 : Int) (x3 : Int) : zFr W_fX26_run_19 (fX26_run_19 x2 x3) :=
  (fr_gf fun v1 => (fr_gf fun v2 => (fr_gf fun v3 => (fr_cl (fr_mono (by decide) (fr_fX12_may v1 v2 v3 1)) fun v4 => (fr_ite (fr_ret _) (fr_gf fun v5 => (fr_gf fun v6 => (fr_gf fun v7 => (fr_cl (fr_mono (by decide) (fr_fX12_may v5 v6 v7 4)) fun v8 => (fr_ite (fr_gf fun v9 => (fr_gf fun v10 => (fr_cl (fr_mono (by decide) (fr_fX12_load v9 v10)) fun v11 => (fr_gf fun v12 => (fr_gf fun v13 => (fr_nn (fr_gf fun v15 => (fr_cl (fr_mono (by decide) (fr_fX12_store v12 v13 v15)) fun _ => (fr_pf (by decide) (fr_cl (fr_mono (by decide) (fr_fX9_tell x3 v11)) fun _ => (fr_ret _))))))))))) (fr_ret _)))))))))))
abbrev W_fX27_run_20 : List Nat := [1002, 1009, 1010]
theorem fr_fX27_run_20 (x2 : Int) (x3 : Int) : zFr W_fX27_run_20 (fX27_run_20 x2 x3) :=
  (fr_nn (fr_nn (fr_gf fun v3 => (fr_gf fun v4 => (fr_as (by decide) (fr_gf fun v5 => (fr_cl (fr_mono (by decide) (fr_fX9_tellHalf x3 v5)) fun _ => (fr_ret _))))))))
abbrev W_fX27_run_21 : List Nat := [1000, 1009, 1010]
theorem fr_fX27_run_21 (x2 : Int) (x3 : Int) : zFr W_fX27_run_21 (fX27_run_21 x2 x3) :=
  (fr_gf fun v1 => (fr_nn (fr_pf (by decide) (fr_gf fun v3 => (fr_cl (fr_mono (by decide) (fr_fX9_tell x3 v3)) fun _ => (fr_ret _))))))
abbrev W_fX28_run_22 : List Nat := [1000, 1009, 1010]
theorem fr_fX28_run_22_J66 (x3 : Int) (s0 : Int) (s1 : Int) : zFr W_fX28_run_22 (fX28_run_22_J66 x3 s0 s1) :=
  (fr_nn (fr_pf (by decide) (fr_nn (fr_gf fun v7 => (fr_cl (fr_mono (by decide) (fr_fX9_tell x3 v7)) fun _ => (fr_ret _))))))
theorem fr_fX28_run_22_J18 (x3 : Int) (s0 : Int) : zFr W_fX28_run_22 (fX28_run_22_J18 x3 s0) :=
  (fr_nn (fr_gf fun v4 => (fr_fX28_run_22_J66 x3 x3 (zl (v4 * 2 ^ (s0 % 64).toNat)))))
theorem fr_fX28_run_22 (x2 : Int) (x3 : Int) : zFr W_fX28_run_22 (fX28_run_22 x2 x3) :=
  (fr_gf fun v1 => (fr_ite (fr_gf fun v2 => (fr_fX28_run_22_J18 x3 v2)) (fr_fX28_run_22_J18 x3 36)))
abbrev W_fX28_run_23 : List Nat := [1000, 1009, 1010]
theorem fr_fX28_run_23_J66 (x3 : Int) (s0 : Int) (s1 : Int) : zFr W_fX28_run_23 (fX28_run_23_J66 x3 s0 s1) :=
  (fr_nn (fr_pf (by decide) (fr_nn (fr_gf fun v8 => (fr_cl (fr_mono (by decide) (fr_fX9_tell x3 v8)) fun _ => (fr_ret _))))))
theorem fr_fX28_run_23_J18 (x3 : Int) (s0 : Int) : zFr W_fX28_run_23 (fX28_run_23_J18 x3 s0) :=
  (fr_nn (fr_gf fun v4 => (fr_cl (fr_mono (by decide) (fr_fX0_signed v4)) fun v5 => (fr_fX28_run_23_J66 x3 x3 (v5 / 2 ^ (s0 % 64).toNat)))))
theorem fr_fX28_run_23 (x2 : Int) (x3 : Int) : zFr W_fX28_run_23 (fX28_run_23 x2 x3) :=
  (fr_gf fun v1 => (fr_ite (fr_gf fun v2 => (fr_fX28_run_23_J18 x3 v2)) (fr_fX28_run_23_J18 x3 36)))
abbrev W_fX28_run_24 : List Nat := [1000, 1009, 1010]
theorem fr_fX28_run_24_J66 (x3 : Int) (s0 : Int) (s1 : Int) : zFr W_fX28_run_24 (fX28_run_24_J66 x3 s0 s1) :=
  (fr_nn (fr_pf (by decide) (fr_nn (fr_gf fun v7 => (fr_cl (fr_mono (by decide) (fr_fX9_tell x3 v7)) fun _ => (fr_ret _))))))
theorem fr_fX28_run_24_J18 (x3 : Int) (s0 : Int) : zFr W_fX28_run_24 (fX28_run_24_J18 x3 s0) :=
  (fr_nn (fr_gf fun v4 => (fr_fX28_run_24_J66 x3 x3 (v4 / 2 ^ (s0 % 64).toNat))))
theorem fr_fX28_run_24 (x2 : Int) (x3 : Int) : zFr W_fX28_run_24 (fX28_run_24 x2 x3) :=
  (fr_gf fun v1 => (fr_ite (fr_gf fun v2 => (fr_fX28_run_24_J18 x3 v2)) (fr_fX28_run_24_J18 x3 36)))
abbrev W_fX29_run_25 : List Nat := [1003, 1004, 1005]
theorem fr_fX29_run_25 (x2 : Int) (x3 : Int) : zFr W_fX29_run_25 (fX29_run_25 x2 x3) :=
  (fr_nn (fr_gf fun v2 => (fr_gf fun v3 => (fr_gf fun v4 => (fr_gf fun v5 => (fr_nn (fr_cl (fr_mono (by decide) (fr_fX9_point x3 v2 v3 v4 v5)) fun _ => (fr_ret _))))))))
abbrev W_fX29_run_26 : List Nat := [1000]
theorem fr_fX29_run_26 (x2 : Int) (x3 : Int) : zFr W_fX29_run_26 (fX29_run_26 x2 x3) :=
  (fr_gf fun v1 => (fr_gf fun v2 => (fr_gf fun v3 => (fr_cl (fr_mono (by decide) (fr_fX0_pointerWord v1 v2 v3)) fun v4 => (fr_nn (fr_pf (by decide) (fr_ret _)))))))
abbrev W_fX30_goesBy : List Nat := [1002, 1009, 1010]
theorem fr_fX30_goesBy (x0 : Int) (x1 : Int) (x2 : Int) : zFr W_fX30_goesBy (fX30_goesBy x0 x1 x2) :=
  (fr_ite (fr_ret _) (fr_ite (fr_nn (fr_gf fun v4 => (fr_rb _))) (fr_ite (fr_nn (fr_gf fun v7 => (fr_ite (fr_ret _) (fr_ret _)))) (fr_ite (fr_nn (fr_gf fun v10 => (fr_rb _))) (fr_ite (fr_nn (fr_gf fun v13 => (fr_ite (fr_ret _) (fr_ret _)))) (fr_nn (fr_nn (fr_gf fun v16 => (fr_gf fun v17 => (fr_al fun v18 => (fr_as (by decide) (fr_gf fun v19 => (fr_al fun v20 => (fr_cl (fr_mono (by decide) (fr_fX9_tellHalf x2 v20)) fun _ => (fr_gf fun v22 => (fr_al fun v23 => (fr_ite (fr_ret _) (fr_ret _))))))))))))))))))
abbrev W_fX30_run_27 : List Nat := [1002, 1009, 1010, 1312, 1313]
theorem fr_fX30_run_27 (x2 : Int) (x3 : Int) : zFr W_fX30_run_27 (fX30_run_27 x2 x3) :=
  (fr_cl (fr_mono (by decide) (fr_fX30_goesBy 0 x2 x3)) fun v1 => (fr_ite (fr_ret _) (fr_gf fun v2 => (fr_pf (by decide) (fr_gf fun v3 => (fr_pf (by decide) (fr_ret _)))))))
abbrev W_fX30_run_28 : List Nat := [1002, 1009, 1010, 1312, 1313]
theorem fr_fX30_run_28 (x2 : Int) (x3 : Int) : zFr W_fX30_run_28 (fX30_run_28 x2 x3) :=
  (fr_cl (fr_mono (by decide) (fr_fX30_goesBy 1 x2 x3)) fun v1 => (fr_ite (fr_ret _) (fr_gf fun v2 => (fr_pf (by decide) (fr_gf fun v3 => (fr_pf (by decide) (fr_ret _)))))))
abbrev W_fX30_run_29 : List Nat := [1002, 1009, 1010, 1312, 1313]
theorem fr_fX30_run_29 (x2 : Int) (x3 : Int) : zFr W_fX30_run_29 (fX30_run_29 x2 x3) :=
  (fr_cl (fr_mono (by decide) (fr_fX30_goesBy 2 x2 x3)) fun v1 => (fr_ite (fr_ret _) (fr_gf fun v2 => (fr_pf (by decide) (fr_gf fun v3 => (fr_pf (by decide) (fr_ret _)))))))
abbrev W_fX30_run_30 : List Nat := [1002, 1009, 1010, 1312, 1313]
theorem fr_fX30_run_30 (x2 : Int) (x3 : Int) : zFr W_fX30_run_30 (fX30_run_30 x2 x3) :=
  (fr_cl (fr_mono (by decide) (fr_fX30_goesBy 3 x2 x3)) fun v1 => (fr_ite (fr_ret _) (fr_gf fun v2 => (fr_pf (by decide) (fr_gf fun v3 => (fr_pf (by decide) (fr_ret _)))))))
abbrev W_fX30_run_31 : List Nat := [1002, 1009, 1010, 1312, 1313]
theorem fr_fX30_run_31 (x2 : Int) (x3 : Int) : zFr W_fX30_run_31 (fX30_run_31 x2 x3) :=
  (fr_cl (fr_mono (by decide) (fr_fX30_goesBy 4 x2 x3)) fun v1 => (fr_ite (fr_ret _) (fr_gf fun v2 => (fr_pf (by decide) (fr_gf fun v3 => (fr_pf (by decide) (fr_ret _)))))))
abbrev W_fX30_run_32 : List Nat := [1002, 1009, 1010, 1312, 1313]
theorem fr_fX30_run_32 (x2 : Int) (x3 : Int) : zFr W_fX30_run_32 (fX30_run_32 x2 x3) :=
  (fr_cl (fr_mono (by decide) (fr_fX30_goesBy 5 x2 x3)) fun v1 => (fr_ite (fr_ret _) (fr_gf fun v2 => (fr_pf (by decide) (fr_gf fun v3 => (fr_pf (by decide) (fr_ret _)))))))
abbrev W_fX31_deny_33 : List Nat := [512, 903, 910, 1000, 1001, 1002, 1003, 1004, 1005, 1006, 1007, 1008, 1009, 1010, 1100, 1101, 1102, 1400, 1401]
theorem fr_fX31_deny_33 (x2 : Int) (x3 : Int) : zFr W_fX31_deny_33 (fX31_deny_33 x2 x3) :=
  (fr_cl (fr_mono (by decide) (fr_fX12_deny x2 x3)) fun _ => (fr_gf fun v2 => (fr_gf fun v3 => (fr_gf fun v4 => (fr_cl (fr_mono (by decide) (fr_fX12_refuse x3 v2 v3 v4)) fun v5 => (fr_ret _))))))
abbrev W_fX31_newRing_33 : List Nat := [512, 903, 910, 1000, 1001, 1002, 1003, 1004, 1005, 1006, 1007, 1008, 1009, 1010, 1100, 1101, 1102, 1200, 1201, 1202, 1203, 1400, 1401]
theorem fr_fX31_newRing_33_J90 (x2 : Int) (x3 : Int) : zFr W_fX31_newRing_33 (fX31_newRing_33_J90 x2 x3) :=
  (fr_cl (fr_mono (by decide) (fr_fX31_deny_33 x2 x3)) fun _ => (fr_ret _))
theorem fr_fX31_newRing_33 : zFr W_fX31_newRing_33 (fX31_newRing_33) :=
  (fr_gf fun v1 => (fr_gf fun v2 => (fr_gf fun v3 => (fr_cl (fr_mono (by decide) (fr_fX12_isThere v1 v2 v3)) fun v4 => (fr_ite (fr_gf fun v5 => (fr_ite (fr_gf fun v6 => (fr_nn (fr_gf fun v8 => (fr_al fun v9 => (fr_gf fun v10 => (fr_gf fun v11 => (fr_gf fun v12 => (fr_nn (fr_cl (fr_mono (by decide) (fr_fX8_refusal v10 v11 v12 2)) fun v14 => (fr_ite (fr_fX31_newRing_33_J90 v9 v14) (fr_ite (fr_gf fun v16 => (fr_nn (fr_gf fun v18 => (fr_ite (fr_gf fun v19 => (fr_gf fun v20 => (fr_ite (fr_gf fun v21 => (fr_gf fun v22 => (fr_ite (fr_gf fun v23 => (fr_gf fun v24 => (fr_ite (fr_gf fun v25 => (fr_ret _)) (fr_gf fun v26 => (fr_nn (fr_cl (fr_mono (by decide) (fr_fX13_add v26 1 v9 6)) fun _ => (fr_gf fun v29 => (fr_gf fun v30 => (fr_gf fun v31 => (fr_cl (fr_mono (by decide) (fr_fX12_refuse 6 v29 v30 v31)) fun v32 => (fr_ret _))))))))))) (fr_cl (fr_mono (by decide) (fr_fX31_deny_33 v9 5)) fun _ => (fr_ret _))))) (fr_gf fun v34 => (fr_ret _))))) (fr_gf fun v35 => (fr_nn (fr_cl (fr_mono (by decide) (fr_fX13_add v35 1 v9 7)) fun _ => (fr_gf fun v38 => (fr_gf fun v39 => (fr_gf fun v40 => (fr_cl (fr_mono (by decide) (fr_fX12_refuse 7 v38 v39 v40)) fun v41 => (fr_ret _)))))))))))) (fr_fX31_newRing_33_J90 v9 v14)))))))))))) (fr_gf fun v42 => (fr_gf fun v43 => (fr_gf fun v44 => (fr_cl (fr_mono (by decide) (fr_fX12_refuse 3 v42 v43 v44)) fun v45 => (fr_ret _))))))) (fr_ret _))))))
abbrev W_fX12_cross : List Nat := [1008, 1100, 1101, 1102, 1312, 1313]
theorem fr_fX12_cross_J64 (x1 : Int) (x2 : Int) : zFr W_fX12_cross (fX12_cross_J64 x1 x2) :=
  (fr_nn (fr_pf (by decide) (fr_ret _)))
theorem fr_fX12_cross_J49 (x1 : Int) (x2 : Int) (s0 : Int) (s1 : Int) : zFr W_fX12_cross (fX12_cross_J49 x1 x2 s0 s1) :=
  (fr_gf fun v9 => (fr_gf fun v10 => (fr_nn (fr_cl (fr_mono (by decide) (fr_fX8_event s0 s1 x1 v9 v10)) fun _ => (fr_fX12_cross_J64 x1 x2)))))
theorem fr_fX12_cross (x1 : Int) : zFr W_fX12_cross (fX12_cross x1) :=
  (fr_gf fun v1 => (fr_nn (fr_gf fun v3 => (fr_pf (by decide) (fr_gf fun v4 => (fr_pf (by decide) (fr_gf fun v5 => (fr_ite (fr_fX12_cross_J64 x1 v1) (fr_gf fun v7 => (fr_gf fun v8 => (fr_ite (fr_fX12_cross_J49 x1 v1 v7 4) (fr_fX12_cross_J49 x1 v1 v7 3))))))))))))
abbrev W_fX31_run_33 : List Nat := [512, 903, 910, 1000, 1001, 1002, 1003, 1004, 1005, 1006, 1007, 1008, 1009, 1010, 1100, 1101, 1102, 1200, 1201, 1202, 1203, 1312, 1313, 1400, 1401]
theorem fr_fX31_run_33 (x2 : Int) (x3 : Int) : zFr W_fX31_run_33 (fX31_run_33 x2 x3) :=
  (fr_cl (fr_mono (by decide) fr_fX31_newRing_33) fun v1 => (fr_ite (fr_nn (fr_gf fun v3 => (fr_gf fun v4 => (fr_gf fun v5 => (fr_cl (fr_mono (by decide) (fr_fX9_point x3 7 v3 ((zi (v4 + 1)) % 262144) v5)) fun _ => (fr_cl (fr_mono (by decide) (fr_fX9_point x3 6 v1 0 v1)) fun _ => (fr_cl (fr_mono (by decide) (fr_fX12_cross v1)) fun _ => (fr_ret _)))))))) (fr_ret _)))
abbrev W_fX32_run_34 : List Nat := [1008, 1100, 1101, 1102, 1312, 1313]
theorem fr_fX32_run_34 (x2 : Int) (x3 : Int) : zFr W_fX32_run_34 (fX32_run_34 x2 x3) :=
  (fr_gf fun v1 => (fr_cl (fr_mono (by decide) (fr_fX12_cross v1)) fun _ => (fr_ret _)))
abbrev W_fX37_run_0 : List Nat := [1100, 1101, 1102]
theorem fr_fX37_run_0 (x2 : Int) (x3 : Int) : zFr W_fX37_run_0 (fX37_run_0 x2 x3) :=
  (fr_nn (fr_gf fun v2 => (fr_nn (fr_cl (fr_mono (by decide) (fr_fX8_event x2 1 v2 0 0)) fun _ => (fr_ret _)))))
abbrev W_fX8_refusal_2 : List Nat := []
theorem fr_fX8_refusal_2_J82 (s0 : Int) (s1 : Int) : zFr W_fX8_refusal_2 (fX8_refusal_2_J82 s0 s1) :=
  (fr_ite (fr_ret _) (fr_ret _))
theorem fr_fX8_refusal_2_J59 (x0 : Int) (x1 : Int) (x2 : Int) : zFr W_fX8_refusal_2 (fX8_refusal_2_J59 x0 x1 x2) :=
  (fr_gf fun v7 => (fr_ite (fr_nn (fr_gf fun v9 => (fr_fX8_refusal_2_J82 v7 v9))) (fr_nn (fr_gf fun v11 => (fr_fX8_refusal_2_J82 v7 v11)))))
theorem fr_fX8_refusal_2 (x0 : Int) (x1 : Int) (x2 : Int) : zFr W_fX8_refusal_2 (fX8_refusal_2 x0 x1 x2) :=
  (fr_nn (fr_gf fun v2 => (fr_gf fun v3 => (fr_cl (fr_mono (by decide) (fr_fX5_of (3 * x1) v2 v3)) fun v4 => (fr_ite (fr_ite (fr_gf fun v5 => (fr_gf fun v6 => (fr_ite (fr_fX8_refusal_2_J59 x0 x1 x2) (fr_ret _)))) (fr_gf fun v12 => (fr_gf fun v13 => (fr_cl (fr_mono (by decide) (fr_fX0_dominates v12 v13)) fun v14 => (fr_ite (fr_fX8_refusal_2_J59 x0 x1 x2) (fr_ret _)))))) (fr_ret _))))))
abbrev W_fX39_on_1 : List Nat := [920]
theorem fr_fX39_on_1 (x2 : Int) (x3 : Int) (x4 : Int) : zFr W_fX39_on_1 (fX39_on_1 x2 x3 x4) :=
  (fr_nn (fr_cl (fr_mono (by decide) (fr_fX4_isDirectory x2)) fun v2 => (fr_ite (fr_nn (fr_gf fun v4 => (fr_gf fun v5 => (fr_cl (fr_mono (by decide) (fr_fX0_dominates v4 v5)) fun v6 => (fr_ite (fr_pf (by decide) (fr_ret _)) (fr_ret _)))))) (fr_ret _))))
abbrev W_fX38_run_1 : List Nat := [920, 1306]
theorem fr_fX38_run_1 (x2 : Int) (x3 : Int) : zFr W_fX38_run_1 (fX38_run_1 x2 x3) :=
  (fr_nn (fr_gf fun v2 => (fr_pf (by decide) (fr_gf fun v3 => (fr_cl (fr_mono (by decide) (fr_fX8_refusal_2 x2 v3 1)) fun v4 => (fr_ite (fr_nn (fr_gf fun v6 => (fr_cl (fr_mono (by decide) (fr_fX0_isName v6)) fun v7 => (fr_ite (fr_gf fun v8 => (fr_gf fun v9 => (fr_cl (fr_mono (by decide) (fr_fX2_find v8 v9)) fun v10 => (fr_pf (by decide) (fr_ite (fr_ret _) (fr_cl (fr_mono (by decide) (fr_fX39_on_1 v10 x2 x3)) fun v12 => (fr_ret _))))))) (fr_ret _))))) (fr_ret _)))))))
abbrev W_fX40_run_2 : List Nat := [920]
theorem fr_fX40_run_2_J48 (s0 : Int) (s1 : Int) : zFr W_fX40_run_2 (fX40_run_2_J48 s0 s1) :=
  (fr_nn (fr_pf (by decide) (fr_ret _)))
theorem fr_fX40_run_2_J23 (x2 : Int) : zFr W_fX40_run_2 (fX40_run_2_J23 x2) :=
  (fr_nn (fr_gf fun v4 => (fr_nn (fr_gf fun v6 => (fr_fX40_run_2_J48 x2 v6)))))
theorem fr_fX40_run_2 (x2 : Int) (x3 : Int) : zFr W_fX40_run_2 (fX40_run_2 x2 x3) :=
  (fr_nn (fr_gf fun v2 => (fr_ite (fr_fX40_run_2_J23 x2) (fr_ret _))))
abbrev W_fX40_run_3 : List Nat := [920]
theorem fr_fX40_run_3_J48 (s0 : Int) (s1 : Int) : zFr W_fX40_run_3 (fX40_run_3_J48 s0 s1) :=
  (fr_nn (fr_pf (by decide) (fr_ret _)))
theorem fr_fX40_run_3_J23 (x2 : Int) : zFr W_fX40_run_3 (fX40_run_3_J23 x2) :=
  (fr_fX40_run_3_J48 x2 0)
theorem fr_fX40_run_3 (x2 : Int) (x3 : Int) : zFr W_fX40_run_3 (fX40_run_3 x2 x3) :=
  (fr_fX40_run_3_J23 x2)
abbrev W_fX8_numberFor : List Nat := [916, 1200]
theorem fr_fX8_numberFor_J44 (x0 : Int) (x1 : Int) (x2 : Int) : zFr W_fX8_numberFor (fX8_numberFor_J44 x0 x1 x2) :=
  (fr_ite (fr_ret _) (fr_cl (fr_mono (by decide) (fr_fX8_know x0 x2 x1)) fun _ => (fr_ret _)))
theorem fr_fX8_numberFor_J37 {r5 : Int × Int → zX} (hr5 : ∀ s, zFr W_fX8_numberFor (r5 s)) (x0 : Int) (x1 : Int) (x3 : Int) (s0 : Int) : zFr W_fX8_numberFor (fX8_numberFor_J37 r5 x0 x1 x3 s0) :=
  (fr_lt fun v5 => (hr5 (s0, v5)))
theorem fr_fX8_numberFor_B5 (x0 : Int) (x1 : Int) : ∀ r5 : Int × Int → zX, (∀ s, zFr W_fX8_numberFor (r5 s)) → ∀ s, zFr W_fX8_numberFor (fX8_numberFor_B5 x0 x1 r5 s) := by
  intro r5 hr5 s
  obtain ⟨x2, x3⟩ := s
  unfold fX8_numberFor_B5
  exact (fr_ite (fr_fX8_numberFor_J44 x0 x1 x2) (fr_al fun v2 => (fr_ite (fr_al fun v3 => (fr_ite (fr_fX8_numberFor_J37 hr5 x0 x1 x3 x3) (fr_fX8_numberFor_J37 hr5 x0 x1 x3 x2))) (fr_ret _))))
theorem fr_fX8_numberFor (x0 : Int) (x1 : Int) : zFr W_fX8_numberFor (fX8_numberFor x0 x1) :=
  (fr_lp (fr_fX8_numberFor_B5 x0 x1) zBIG ((-1), 31))
abbrev W_fX41_on_4 : List Nat := [916, 1001, 1200]
theorem fr_fX41_on_4 (x2 : Int) (x3 : Int) (x4 : Int) : zFr W_fX41_on_4 (fX41_on_4 x2 x3 x4) :=
  (fr_nn (fr_cl (fr_mono (by decide) (fr_fX4_isSegment x2)) fun v2 => (fr_ite (fr_nn (fr_gf fun v4 => (fr_gf fun v5 => (fr_cl (fr_mono (by decide) (fr_fX5_of (3 * x2) v4 v5)) fun v6 => (fr_ite (fr_cl (fr_mono (by decide) (fr_fX8_numberFor x3 x2)) fun v7 => (fr_ite (fr_nn (fr_pf (by decide) (fr_ret _))) (fr_ret _))) (fr_ret _)))))) (fr_ret _))))
abbrev W_fX38_run_4 : List Nat := [916, 1001, 1200, 1306]
theorem fr_fX38_run_4 (x2 : Int) (x3 : Int) : zFr W_fX38_run_4 (fX38_run_4 x2 x3) :=
  (fr_nn (fr_gf fun v2 => (fr_pf (by decide) (fr_gf fun v3 => (fr_cl (fr_mono (by decide) (fr_fX8_refusal_2 x2 v3 1)) fun v4 => (fr_ite (fr_nn (fr_gf fun v6 => (fr_cl (fr_mono (by decide) (fr_fX0_isName v6)) fun v7 => (fr_ite (fr_gf fun v8 => (fr_gf fun v9 => (fr_cl (fr_mono (by decide) (fr_fX2_find v8 v9)) fun v10 => (fr_pf (by decide) (fr_ite (fr_ret _) (fr_cl (fr_mono (by decide) (fr_fX41_on_4 v10 x2 x3)) fun v12 => (fr_ret _))))))) (fr_ret _))))) (fr_ret _)))))))
abbrev W_fX12_isKnown : List Nat := []
theorem fr_fX12_isKnown (x0 : Int) (x1 : Int) : zFr W_fX12_isKnown (fX12_isKnown x0 x1) :=
  (fr_cl (fr_mono (by decide) (fr_fX0_isIn x1 8 31)) fun v1 => (fr_ite (fr_ret _) (fr_nn (fr_al fun v3 => (fr_ite (fr_ret _) (fr_ret _))))))
abbrev W_fX42_run_5 : List Nat := [916, 918]
theorem fr_fX42_run_5 (x2 : Int) (x3 : Int) : zFr W_fX42_run_5 (fX42_run_5 x2 x3) :=
  (fr_nn (fr_gf fun v2 => (fr_cl (fr_mono (by decide) (fr_fX12_isKnown x2 v2)) fun v3 => (fr_ite (fr_gf fun v4 => (fr_nn (fr_cl (fr_mono (by decide) (fr_fX8_forget x2 (zi v4))) fun _ => (fr_ret _)))) (fr_ret _)))))
abbrev W_fX43_run_6 : List Nat := [1001, 1306]
theorem fr_fX43_run_6_J70 (x3 : Int) (x5 : Int) : zFr W_fX43_run_6 (fX43_run_6_J70 x3 x5) :=
  (fr_ite (fr_ret _) (fr_gf fun v11 => (fr_nn (fr_pf (by decide) (fr_ret _)))))
theorem fr_fX43_run_6_B42 (x3 : Int) : ∀ r42 : Int × Int → zX, (∀ s, zFr W_fX43_run_6 (r42 s)) → ∀ s, zFr W_fX43_run_6 (fX43_run_6_B42 x3 r42 s) := by
  intro r42 hr42 s
  obtain ⟨x5, x6⟩ := s
  unfold fX43_run_6_B42
  exact (fr_ite (fr_fX43_run_6_J70 x3 x5) (fr_ite (fr_fX43_run_6_J70 x3 x5) (fr_gf fun v14 => (fr_lt fun v15 => (hr42 (v14, v15))))))
theorem fr_fX43_run_6 (x2 : Int) (x3 : Int) : zFr W_fX43_run_6 (fX43_run_6 x2 x3) :=
  (fr_nn (fr_gf fun v2 => (fr_pf (by decide) (fr_gf fun v3 => (fr_cl (fr_mono (by decide) (fr_fX8_refusal_2 x2 v3 1)) fun v4 => (fr_ite (fr_gf fun v5 => (fr_nn (fr_gf fun v7 => (fr_nn (fr_gf fun v9 => (fr_lp (fr_fX43_run_6_B42 x3) zBIG (v7, v9))))))) (fr_ret _)))))))
abbrev W_fX44_on_7 : List Nat := [1001]
theorem fr_fX44_on_7 (x2 : Int) (x3 : Int) (x4 : Int) : zFr W_fX44_on_7 (fX44_on_7 x2 x3 x4) :=
  (fr_nn (fr_gf fun v2 => (fr_gf fun v3 => (fr_gf fun v4 => (fr_gf fun v5 => (fr_gf fun v6 => (fr_gf fun v7 => (fr_nn (fr_pf (by decide) (fr_ret _))))))))))
abbrev W_fX38_run_7 : List Nat := [1001, 1306]
theorem fr_fX38_run_7 (x2 : Int) (x3 : Int) : zFr W_fX38_run_7 (fX38_run_7 x2 x3) :=
  (fr_nn (fr_gf fun v2 => (fr_pf (by decide) (fr_gf fun v3 => (fr_cl (fr_mono (by decide) (fr_fX8_refusal_2 x2 v3 1)) fun v4 => (fr_ite (fr_nn (fr_gf fun v6 => (fr_cl (fr_mono (by decide) (fr_fX0_isName v6)) fun v7 => (fr_ite (fr_gf fun v8 => (fr_gf fun v9 => (fr_cl (fr_mono (by decide) (fr_fX2_find v8 v9)) fun v10 => (fr_pf (by decide) (fr_ite (fr_ret _) (fr_cl (fr_mono (by decide) (fr_fX44_on_7 v10 x2 x3)) fun v12 => (fr_ret _))))))) (fr_ret _))))) (fr_ret _)))))))
abbrev W_fX45_isRight_8 : List Nat := []
theorem fr_fX45_isRight_8 (x1 : Int) (x2 : Int) : zFr W_fX45_isRight_8 (fX45_isRight_8 x1 x2) :=
  (fr_nn (fr_gf fun v2 => (fr_cl (fr_mono (by decide) (fr_fX0_isName v2)) fun v3 => (fr_ite (fr_gf fun v4 => (fr_ite (fr_ret _) (fr_ret _))) (fr_ret _)))))
abbrev W_fX45_run_8 : List Nat := [204, 206, 207, 300, 400, 401, 402, 501, 502, 503, 504, 505, 506, 507, 509, 510, 511, 512, 513, 514, 515, 516, 517, 520, 521, 522, 523, 600, 601, 602, 702, 1306]
theorem fr_fX45_run_8_J113 (x2 : Int) (x3 : Int) (s0 : Int) : zFr W_fX45_run_8 (fX45_run_8_J113 x2 x3 s0) :=
  (fr_ite (fr_ib (fr_nn (fr_gf fun v14 => (fr_gf fun v15 => (fr_gf fun v16 => (fr_cl (fr_mono (by decide) (fr_fX4_setBrackets s0 v14 v15 v16)) fun _ => (fr_cl (fr_mono (by decide) (fr_fX5_clear (3 * s0))) fun _ => (fr_nn (fr_gf fun v20 => (fr_gf fun v21 => (fr_cl (fr_mono (by decide) (fr_fX5_set (3 * s0) v20 v21 7)) fun v22 => (fr_gf fun v23 => (fr_nn (fr_cl (fr_mono (by decide) (fr_fX4_initial v23 2)) fun v25 => (fr_cl (fr_mono (by decide) (fr_fX5_take (3 * s0) v25)) fun _ => (fr_gf fun v27 => (fr_pf (by decide) (fr_ret _)))))))))))))))))) (fr_ret _))
theorem fr_fX45_run_8 (x2 : Int) (x3 : Int) : zFr W_fX45_run_8 (fX45_run_8 x2 x3) :=
  (fr_nn (fr_gf fun v2 => (fr_pf (by decide) (fr_gf fun v3 => (fr_cl (fr_mono (by decide) (fr_fX8_refusal_2 x2 v3 4)) fun v4 => (fr_ite (fr_cl (fr_mono (by decide) (fr_fX45_isRight_8 x2 x3)) fun v5 => (fr_ite (fr_gf fun v6 => (fr_nn (fr_gf fun v8 => (fr_gf fun v9 => (fr_cl (fr_mono (by decide) (fr_fX12_newSegment v6 v8 (zi v9))) fun v10 => (fr_fX45_run_8_J113 x2 x3 v10)))))) (fr_ret _))) (fr_ret _)))))))
abbrev W_fX45_isRight_9 : List Nat := []
theorem fr_fX45_isRight_9 (x1 : Int) (x2 : Int) : zFr W_fX45_isRight_9 (fX45_isRight_9 x1 x2) :=
  (fr_nn (fr_gf fun v2 => (fr_cl (fr_mono (by decide) (fr_fX0_isName v2)) fun v3 => (fr_ite (fr_gf fun v4 => (fr_cl (fr_mono (by decide) (fr_fX0_isLabel v4)) fun v5 => (fr_ite (fr_ret _) (fr_gf fun v6 => (fr_nn (fr_gf fun v8 => (fr_nn (fr_gf fun v10 => (fr_al fun v11 => (fr_cl (fr_mono (by decide) (fr_fX0_isRightLimit (zi v6) v10 v11)) fun v12 => (fr_ite (fr_ret _) (fr_ret _)))))))))))) (fr_ret _)))))
abbrev W_fX45_run_9 : List Nat := [204, 206, 207, 300, 501, 502, 503, 504, 505, 506, 507, 509, 510, 511, 512, 513, 514, 515, 516, 517, 520, 521, 522, 600, 601, 602, 702, 1306]
theorem fr_fX45_run_9_J113 (x2 : Int) (x3 : Int) (s0 : Int) : zFr W_fX45_run_9 (fX45_run_9_J113 x2 x3 s0) :=
  (fr_ite (fr_ib (fr_nn (fr_gf fun v15 => (fr_gf fun v16 => (fr_gf fun v17 => (fr_cl (fr_mono (by decide) (fr_fX4_setBrackets s0 v15 v16 v17)) fun _ => (fr_cl (fr_mono (by decide) (fr_fX5_clear (3 * s0))) fun _ => (fr_nn (fr_gf fun v21 => (fr_gf fun v22 => (fr_cl (fr_mono (by decide) (fr_fX5_set (3 * s0) v21 v22 7)) fun v23 => (fr_gf fun v24 => (fr_nn (fr_cl (fr_mono (by decide) (fr_fX4_initial v24 1)) fun v26 => (fr_cl (fr_mono (by decide) (fr_fX5_take (3 * s0) v26)) fun _ => (fr_gf fun v28 => (fr_pf (by decide) (fr_ret _)))))))))))))))))) (fr_ret _))
theorem fr_fX45_run_9 (x2 : Int) (x3 : Int) : zFr W_fX45_run_9 (fX45_run_9 x2 x3) :=
  (fr_nn (fr_gf fun v2 => (fr_pf (by decide) (fr_gf fun v3 => (fr_cl (fr_mono (by decide) (fr_fX8_refusal_2 x2 v3 4)) fun v4 => (fr_ite (fr_cl (fr_mono (by decide) (fr_fX45_isRight_9 x2 x3)) fun v5 => (fr_ite (fr_gf fun v6 => (fr_nn (fr_gf fun v8 => (fr_gf fun v9 => (fr_al fun v10 => (fr_cl (fr_mono (by decide) (fr_fX12_newDirectory v6 v8 (zi v9) v10)) fun v11 => (fr_fX45_run_9_J113 x2 x3 v11))))))) (fr_ret _))) (fr_ret _)))))))
abbrev W_fX4_isUpgraded : List Nat := []
theorem fr_fX4_isUpgraded (x0 : Int) : zFr W_fX4_isUpgraded (fX4_isUpgraded x0) :=
  (fr_gf fun v1 => (fr_ite (fr_ret _) (fr_gf fun v3 => (fr_gf fun v4 => (fr_nn (fr_gf fun v6 => (fr_ite (fr_ret _) (fr_ret _))))))))
abbrev W_fX46_on_10 : List Nat := [203, 204, 206, 207, 300, 400, 401, 402, 501, 505, 506, 507, 513, 514, 515, 517, 522, 523, 916, 918, 920, 921]
theorem fr_fX46_on_10 (x2 : Int) (x3 : Int) (x4 : Int) : zFr W_fX46_on_10 (fX46_on_10 x2 x3 x4) :=
  (fr_nn (fr_cl (fr_mono (by decide) (fr_fX4_isUpgraded x2)) fun v2 => (fr_ite (fr_nn (fr_gf fun v4 => (fr_gf fun v5 => (fr_ite (fr_gf fun v6 => (fr_ite (fr_cl (fr_mono (by decide) (fr_fX1_remove 300 x2)) fun v7 => (fr_ret _)) (fr_ret _))) (fr_ret _))))) (fr_ret _))))
abbrev W_fX38_run_10 : List Nat := [203, 204, 206, 207, 300, 400, 401, 402, 501, 505, 506, 507, 513, 514, 515, 517, 522, 523, 916, 918, 920, 921, 1306]
theorem fr_fX38_run_10 (x2 : Int) (x3 : Int) : zFr W_fX38_run_10 (fX38_run_10 x2 x3) :=
  (fr_nn (fr_gf fun v2 => (fr_pf (by decide) (fr_gf fun v3 => (fr_cl (fr_mono (by decide) (fr_fX8_refusal_2 x2 v3 2)) fun v4 => (fr_ite (fr_nn (fr_gf fun v6 => (fr_cl (fr_mono (by decide) (fr_fX0_isName v6)) fun v7 => (fr_ite (fr_gf fun v8 => (fr_gf fun v9 => (fr_cl (fr_mono (by decide) (fr_fX2_find v8 v9)) fun v10 => (fr_pf (by decide) (fr_ite (fr_ret _) (fr_cl (fr_mono (by decide) (fr_fX46_on_10 v10 x2 x3)) fun v12 => (fr_ret _))))))) (fr_ret _))))) (fr_ret _)))))))
abbrev W_fX47_on_11 : List Nat := [300, 502, 507]
theorem fr_fX47_on_11_J64 (x2 : Int) (x4 : Int) : zFr W_fX47_on_11 (fX47_on_11_J64 x2 x4) :=
  (fr_nn (fr_gf fun v13 => (fr_cl (fr_mono (by decide) (fr_fX1_rename x2 v13)) fun _ => (fr_ret _))))
theorem fr_fX47_on_11 (x2 : Int) (x3 : Int) (x4 : Int) : zFr W_fX47_on_11 (fX47_on_11 x2 x3 x4) :=
  (fr_nn (fr_gf fun v2 => (fr_cl (fr_mono (by decide) (fr_fX0_isName v2)) fun v3 => (fr_ite (fr_gf fun v4 => (fr_nn (fr_gf fun v6 => (fr_ite (fr_nn (fr_gf fun v8 => (fr_gf fun v9 => (fr_cl (fr_mono (by decide) (fr_fX2_find v8 v9)) fun v10 => (fr_ite (fr_fX47_on_11_J64 x2 x4) (fr_ite (fr_fX47_on_11_J64 x2 x4) (fr_ret _))))))) (fr_ret _))))) (fr_ret _)))))
abbrev W_fX38_run_11 : List Nat := [300, 502, 507, 1306]
theorem fr_fX38_run_11 (x2 : Int) (x3 : Int) : zFr W_fX38_run_11 (fX38_run_11 x2 x3) :=
  (fr_nn (fr_gf fun v2 => (fr_pf (by decide) (fr_gf fun v3 => (fr_cl (fr_mono (by decide) (fr_fX8_refusal_2 x2 v3 2)) fun v4 => (fr_ite (fr_nn (fr_gf fun v6 => (fr_cl (fr_mono (by decide) (fr_fX0_isName v6)) fun v7 => (fr_ite (fr_gf fun v8 => (fr_gf fun v9 => (fr_cl (fr_mono (by decide) (fr_fX2_find v8 v9)) fun v10 => (fr_pf (by decide) (fr_ite (fr_ret _) (fr_cl (fr_mono (by decide) (fr_fX47_on_11 v10 x2 x3)) fun v12 => (fr_ret _))))))) (fr_ret _))))) (fr_ret _)))))))
abbrev W_fX48_on_12 : List Nat := [207, 600, 601, 602]
theorem fr_fX48_on_12 (x2 : Int) (x3 : Int) (x4 : Int) : zFr W_fX48_on_12 (fX48_on_12 x2 x3 x4) :=
  (fr_nn (fr_al fun v2 => (fr_ite (fr_ret _) (fr_al fun v3 => (fr_ite (fr_ret _) (fr_al fun v4 => (fr_ite (fr_gf fun v5 => (fr_nn (fr_gf fun v7 => (fr_ite (fr_gf fun v8 => (fr_pf (by decide) (fr_al fun v9 => (fr_al fun v10 => (fr_al fun v11 => (fr_cl (fr_mono (by decide) (fr_fX5_set (3 * x2) v9 v10 v11)) fun v12 => (fr_ret _))))))) (fr_ret _))))) (fr_ret _))))))))
abbrev W_fX38_run_12 : List Nat := [207, 600, 601, 602, 1306]
theorem fr_fX38_run_12 (x2 : Int) (x3 : Int) : zFr W_fX38_run_12 (fX38_run_12 x2 x3) :=
  (fr_nn (fr_gf fun v2 => (fr_pf (by decide) (fr_gf fun v3 => (fr_cl (fr_mono (by decide) (fr_fX8_refusal_2 x2 v3 2)) fun v4 => (fr_ite (fr_nn (fr_gf fun v6 => (fr_cl (fr_mono (by decide) (fr_fX0_isName v6)) fun v7 => (fr_ite (fr_gf fun v8 => (fr_gf fun v9 => (fr_cl (fr_mono (by decide) (fr_fX2_find v8 v9)) fun v10 => (fr_pf (by decide) (fr_ite (fr_ret _) (fr_cl (fr_mono (by decide) (fr_fX48_on_12 v10 x2 x3)) fun v12 => (fr_ret _))))))) (fr_ret _))))) (fr_ret _)))))))
abbrev W_fX49_on_13 : List Nat := [509, 510, 511, 521]
theorem fr_fX49_on_13_J79 (x2 : Int) (x4 : Int) (x5 : Int) (x6 : Int) (x7 : Int) (x8 : Int) (s0 : Int) (s1 : Int) : zFr W_fX49_on_13 (fX49_on_13_J79 x2 x4 x5 x6 x7 x8 s0 s1) :=
  (fr_ite (fr_nn (fr_gf fun v14 => (fr_nn (fr_gf fun v16 => (fr_ite (fr_ret _) (fr_gf fun v17 => (fr_ite (fr_cl (fr_mono (by decide) (fr_fX4_setBrackets x2 x5 x6 x7)) fun _ => (fr_pf (by decide) (fr_ret _))) (fr_ret _)))))))) (fr_ret _))
theorem fr_fX49_on_13 (x2 : Int) (x3 : Int) (x4 : Int) : zFr W_fX49_on_13 (fX49_on_13 x2 x3 x4) :=
  (fr_nn (fr_gf fun v2 => (fr_lt fun v3 => (fr_gf fun v4 => (fr_lt fun v5 => (fr_gf fun v6 => (fr_lt fun v7 => (fr_gf fun v8 => (fr_lt fun v9 => (fr_cl (fr_mono (by decide) (fr_fX0_areBrackets v3 v5 v7)) fun v10 => (fr_ite (fr_ret _) (fr_nn (fr_cl (fr_mono (by decide) (fr_fX4_isSegment x2)) fun v12 => (fr_ite (fr_fX49_on_13_J79 x2 x4 v3 v5 v7 v9 v9 0) (fr_fX49_on_13_J79 x2 x4 v3 v5 v7 v9 v9 63)))))))))))))))
abbrev W_fX38_run_13 : List Nat := [509, 510, 511, 521, 1306]
theorem fr_fX38_run_13 (x2 : Int) (x3 : Int) : zFr W_fX38_run_13 (fX38_run_13 x2 x3) :=
  (fr_nn (fr_gf fun v2 => (fr_pf (by decide) (fr_gf fun v3 => (fr_cl (fr_mono (by decide) (fr_fX8_refusal_2 x2 v3 2)) fun v4 => (fr_ite (fr_nn (fr_gf fun v6 => (fr_cl (fr_mono (by decide) (fr_fX0_isName v6)) fun v7 => (fr_ite (fr_gf fun v8 => (fr_gf fun v9 => (fr_cl (fr_mono (by decide) (fr_fX2_find v8 v9)) fun v10 => (fr_pf (by decide) (fr_ite (fr_ret _) (fr_cl (fr_mono (by decide) (fr_fX49_on_13 v10 x2 x3)) fun v12 => (fr_ret _))))))) (fr_ret _))))) (fr_ret _)))))))
abbrev W_fX50_run_14 : List Nat := [400, 401, 402, 517, 522, 523, 1200, 1201, 1202, 1203, 1306]
theorem fr_fX50_run_14 (x2 : Int) (x3 : Int) : zFr W_fX50_run_14 (fX50_run_14 x2 x3) :=
  (fr_nn (fr_gf fun v2 => (fr_cl (fr_mono (by decide) (fr_fX12_isKnown x2 v2)) fun v3 => (fr_ite (fr_gf fun v4 => (fr_lt fun v5 => (fr_nn (fr_al fun v7 => (fr_pf (by decide) (fr_gf fun v8 => (fr_cl (fr_mono (by decide) (fr_fX8_refusal x2 v5 v8 4)) fun v9 => (fr_ite (fr_gf fun v10 => (fr_ite (fr_al fun v11 => (fr_gf fun v12 => (fr_cl (fr_mono (by decide) (fr_fX12_newLength v11 (zi v12))) fun v13 => (fr_ite (fr_ret _) (fr_ret _))))) (fr_ret _))) (fr_ite (fr_ite (fr_ret _) (fr_ret _)) (fr_ret _)))))))))) (fr_ret _)))))
abbrev W_fX51_on_15 : List Nat := [516, 517]
theorem fr_fX51_on_15 (x2 : Int) (x3 : Int) (x4 : Int) : zFr W_fX51_on_15 (fX51_on_15 x2 x3 x4) :=
  (fr_nn (fr_gf fun v2 => (fr_ite (fr_cl (fr_mono (by decide) (fr_fX4_isUpgraded x2)) fun v3 => (fr_ite (fr_nn (fr_gf fun v5 => (fr_gf fun v6 => (fr_ite (fr_gf fun v7 => (fr_cl (fr_mono (by decide) (fr_fX0_isIn v7 1 255)) fun v8 => (fr_ite (fr_gf fun v9 => (fr_cl (fr_mono (by decide) (fr_fX1_limit x2 (zi v9))) fun v10 => (fr_ite (fr_ret _) (fr_ret _)))) (fr_ret _)))) (fr_ret _))))) (fr_ret _))) (fr_ret _))))
abbrev W_fX38_run_15 : List Nat := [516, 517, 1306]
theorem fr_fX38_run_15 (x2 : Int) (x3 : Int) : zFr W_fX38_run_15 (fX38_run_15 x2 x3) :=
  (fr_nn (fr_gf fun v2 => (fr_pf (by decide) (fr_gf fun v3 => (fr_cl (fr_mono (by decide) (fr_fX8_refusal_2 x2 v3 2)) fun v4 => (fr_ite (fr_nn (fr_gf fun v6 => (fr_cl (fr_mono (by decide) (fr_fX0_isName v6)) fun v7 => (fr_ite (fr_gf fun v8 => (fr_gf fun v9 => (fr_cl (fr_mono (by decide) (fr_fX2_find v8 v9)) fun v10 => (fr_pf (by decide) (fr_ite (fr_ret _) (fr_cl (fr_mono (by decide) (fr_fX51_on_15 v10 x2 x3)) fun v12 => (fr_ret _))))))) (fr_ret _))))) (fr_ret _)))))))
abbrev W_fX52_run_16 : List Nat := [921]
theorem fr_fX52_run_16_J40 (s0 : Int) (s1 : Int) (s2 : Int) : zFr W_fX52_run_16 (fX52_run_16_J40 s0 s1 s2) :=
  (fr_as (by decide) (fr_ret _))
theorem fr_fX52_run_16 (x2 : Int) (x3 : Int) : zFr W_fX52_run_16 (fX52_run_16 x2 x3) :=
  (fr_nn (fr_al fun v2 => (fr_ite (fr_nn (fr_al fun v4 => (fr_gf fun v5 => (fr_ite (fr_gf fun v6 => (fr_fX52_run_16_J40 x2 v4 v6)) (fr_fX52_run_16_J40 x2 v4 (-1)))))) (fr_ret _))))
abbrev W_fX53_run_17 : List Nat := [911, 912, 913, 914]
theorem fr_fX53_run_17_J15 (x2 : Int) (x3 : Int) (s0 : Int) (s1 : Int) : zFr W_fX53_run_17 (fX53_run_17_J15 x2 x3 s0 s1) :=
  (fr_nn (fr_pb (by decide) (fr_nn (fr_al fun v6 => (fr_nn (fr_pf (by decide) (fr_al fun v8 => (fr_pf (by decide) (fr_gf fun v9 => (fr_pf (by decide) (fr_ret _)))))))))))
theorem fr_fX53_run_17 (x2 : Int) (x3 : Int) : zFr W_fX53_run_17 (fX53_run_17 x2 x3) :=
  (fr_nn (fr_gf fun v2 => (fr_ite (fr_fX53_run_17_J15 x2 x3 x2 0) (fr_fX53_run_17_J15 x2 x3 x2 1))))
abbrev W_fX54_run_18 : List Nat := [910, 1000, 1001, 1002, 1003, 1004, 1005, 1006, 1007, 1008, 1009, 1010, 1314]
theorem fr_fX54_run_18_J81 (x2 : Int) (s0 : Int) (s1 : Int) : zFr W_fX54_run_18 (fX54_run_18_J81 x2 s0 s1) :=
  (fr_nn (fr_pf (by decide) (fr_nn (fr_gf fun v16 => (fr_pf (by decide) (fr_pf (by decide) (fr_ret _)))))))
theorem fr_fX54_run_18_J51 (x2 : Int) (x3 : Int) (x4 : Int) (s0 : Int) : zFr W_fX54_run_18 (fX54_run_18_J51 x2 x3 x4 s0) :=
  (fr_nn (fr_cl (fr_mono (by decide) (fr_fX9_copy x3 x4)) fun _ => (fr_ite (fr_gf fun v13 => (fr_fX54_run_18_J81 x2 x3 ((zi (v13 + 1)) % 262144))) (fr_gf fun v17 => (fr_fX54_run_18_J81 x2 x3 v17)))))
theorem fr_fX54_run_18 (x2 : Int) (x3 : Int) : zFr W_fX54_run_18 (fX54_run_18 x2 x3) :=
  (fr_nn (fr_gf fun v2 => (fr_ite (fr_gf fun v3 => (fr_ib (fr_lt fun v6 => (fr_nn (fr_gf fun v8 => (fr_gf fun v9 => (fr_ite (fr_al fun v10 => (fr_ite (fr_fX54_run_18_J51 x2 x3 v6 0) (fr_fX54_run_18_J51 x2 x3 v6 1))) (fr_ret _)))))))) (fr_ret _))))
abbrev W_fX55_run_19 : List Nat := [922, 924]
theorem fr_fX55_run_19 (x2 : Int) (x3 : Int) : zFr W_fX55_run_19 (fX55_run_19 x2 x3) :=
  (fr_nn (fr_al fun v2 => (fr_ite (fr_ret _) (fr_al fun v3 => (fr_ib (fr_gf fun v6 => (fr_ite (fr_ret _) (fr_gf fun v7 => (fr_nn (fr_gf fun v9 => (fr_cl (fr_mono (by decide) (fr_fX0_dominates v7 v9)) fun v10 => (fr_ite (fr_ret _) (fr_cl (fr_mono (by decide) (fr_fX8_isFull v3)) fun v11 => (fr_ite (fr_ret _) (fr_gf fun v12 => (fr_cl (fr_mono (by decide) (fr_fX8_receive v3 v12)) fun _ => (fr_ret _)))))))))))))))))
abbrev W_fX8_take : List Nat := [923, 924]
theorem fr_fX8_take (x0 : Int) : zFr W_fX8_take (fX8_take x0) :=
  (fr_gf fun v1 => (fr_al fun v2 => (fr_gf fun v3 => (fr_pf (by decide) (fr_gf fun v4 => (fr_pf (by decide) (fr_ret _)))))))
abbrev W_fX56_run_20 : List Nat := [903, 923, 924, 1001, 1100, 1101, 1102, 1314]
theorem fr_fX56_run_20 (x2 : Int) (x3 : Int) : zFr W_fX56_run_20 (fX56_run_20 x2 x3) :=
  (fr_nn (fr_gf fun v2 => (fr_ite (fr_cl (fr_mono (by decide) (fr_fX8_take x2)) fun v3 => (fr_nn (fr_pf (by decide) (fr_ret _)))) (fr_pf (by decide) (fr_cl (fr_mono (by decide) (fr_fX8_event x2 7 0 0 0)) fun _ => (fr_pf (by decide) (fr_ret _)))))))
abbrev W_fX57_run_21 : List Nat := [1001]
theorem fr_fX57_run_21_J51 (s0 : Int) (s1 : Int) : zFr W_fX57_run_21 (fX57_run_21_J51 s0 s1) :=
  (fr_nn (fr_pf (by decide) (fr_ret _)))
theorem fr_fX57_run_21 (x2 : Int) (x3 : Int) : zFr W_fX57_run_21 (fX57_run_21 x2 x3) :=
  (fr_nn (fr_gf fun v2 => (fr_fX57_run_21_J51 x3 v2)))
abbrev W_fX57_run_22 : List Nat := [1001]
theorem fr_fX57_run_22_J51 (s0 : Int) (s1 : Int) : zFr W_fX57_run_22 (fX57_run_22_J51 s0 s1) :=
  (fr_nn (fr_pf (by decide) (fr_ret _)))
theorem fr_fX57_run_22 (x2 : Int) (x3 : Int) : zFr W_fX57_run_22 (fX57_run_22 x2 x3) :=
  (fr_nn (fr_gf fun v2 => (fr_gf fun v3 => (fr_gf fun v4 => (fr_nn (fr_gf fun v6 => (fr_fX57_run_22_J51 x3 (zl ((zl ((zl (v2 + (zl (16 * v3)))) + (zl (128 * v4)))) + (zl (4096 * v6)))))))))))
abbrev W_fX58_run_23 : List Nat := [1001, 1200, 1201, 1202, 1203]
theorem fr_fX58_run_23_J130 (x3 : Int) (s0 : Int) : zFr W_fX58_run_23 (fX58_run_23_J130 x3 s0) :=
  (fr_nn (fr_pf (by decide) (fr_ret _)))
theorem fr_fX58_run_23_J103 (x2 : Int) (x3 : Int) (x4 : Int) (s0 : Int) : zFr W_fX58_run_23 (fX58_run_23_J103 x2 x3 x4 s0) :=
  (fr_nn (fr_gf fun v15 => (fr_nn (fr_cl (fr_mono (by decide) (fr_fX8_refusal x2 x4 v15 4)) fun v17 => (fr_ite (fr_fX58_run_23_J130 x3 s0) (fr_fX58_run_23_J130 x3 (zoR s0 4)))))))
theorem fr_fX58_run_23_J76 (x2 : Int) (x3 : Int) (x4 : Int) (s0 : Int) : zFr W_fX58_run_23 (fX58_run_23_J76 x2 x3 x4 s0) :=
  (fr_nn (fr_gf fun v11 => (fr_nn (fr_cl (fr_mono (by decide) (fr_fX8_refusal x2 x4 v11 2)) fun v13 => (fr_ite (fr_fX58_run_23_J103 x2 x3 x4 s0) (fr_fX58_run_23_J103 x2 x3 x4 (zoR s0 2)))))))
theorem fr_fX58_run_23_J32 (s0 : Int) (s1 : Int) : zFr W_fX58_run_23 (fX58_run_23_J32 s0 s1) :=
  (fr_nn (fr_pf (by decide) (fr_ret _)))
theorem fr_fX58_run_23 (x2 : Int) (x3 : Int) : zFr W_fX58_run_23 (fX58_run_23 x2 x3) :=
  (fr_nn (fr_gf fun v2 => (fr_ite (fr_gf fun v3 => (fr_cl (fr_mono (by decide) (fr_fX12_isKnown x2 v3)) fun v4 => (fr_ite (fr_gf fun v5 => (fr_lt fun v6 => (fr_gf fun v7 => (fr_nn (fr_cl (fr_mono (by decide) (fr_fX8_refusal x2 v6 v7 1)) fun v9 => (fr_ite (fr_fX58_run_23_J76 x2 x3 v6 0) (fr_fX58_run_23_J76 x2 x3 v6 1))))))) (fr_ret _)))) (fr_gf fun v19 => (fr_gf fun v20 => (fr_ite (fr_fX58_run_23_J32 x3 0) (fr_fX58_run_23_J32 x3 5)))))))
abbrev W_fX59_run_24 : List Nat := [600, 601, 602, 1306]
theorem fr_fX59_run_24 (x2 : Int) (x3 : Int) : zFr W_fX59_run_24 (fX59_run_24 x2 x3) :=
  (fr_nn (fr_gf fun v2 => (fr_pf (by decide) (fr_gf fun v3 => (fr_cl (fr_mono (by decide) (fr_fX8_refusal_2 x2 v3 2)) fun v4 => (fr_ite (fr_nn (fr_gf fun v6 => (fr_cl (fr_mono (by decide) (fr_fX0_isIn v6 1 2)) fun v7 => (fr_ite (fr_ret _) (fr_al fun v8 => (fr_ite (fr_ret _) (fr_al fun v9 => (fr_ite (fr_ret _) (fr_al fun v10 => (fr_ite (fr_gf fun v11 => (fr_gf fun v12 => (fr_nn (fr_cl (fr_mono (by decide) (fr_fX4_initial v11 (zi v12))) fun v14 => (fr_al fun v15 => (fr_al fun v16 => (fr_al fun v17 => (fr_nn (fr_cl (fr_mono (by decide) (fr_fX5_set v14 v15 v16 v17)) fun v19 => (fr_ret _)))))))))) (fr_ret _))))))))))) (fr_ret _)))))))
abbrev W_fX8_refusalOfBox : List Nat := []
theorem fr_fX8_refusalOfBox (x0 : Int) (x1 : Int) (x2 : Int) : zFr W_fX8_refusalOfBox (fX8_refusalOfBox x0 x1 x2) :=
  (fr_nn (fr_gf fun v2 => (fr_gf fun v3 => (fr_cl (fr_mono (by decide) (fr_fX5_of (3 * x1) v2 v3)) fun v4 => (fr_ite (fr_gf fun v5 => (fr_gf fun v6 => (fr_cl (fr_mono (by decide) (fr_fX0_dominates v5 v6)) fun v7 => (fr_ite (fr_gf fun v8 => (fr_gf fun v9 => (fr_ite (fr_ret _) (fr_ret _)))) (fr_ret _))))) (fr_ret _))))))
abbrev W_fX6_many : List Nat := []
theorem fr_fX6_many_J28 {r4 : Int × Int → zX} (hr4 : ∀ s, zFr W_fX6_many (r4 s)) (x0 : Int) (x1 : Int) (x3 : Int) (s0 : Int) (s1 : Int) : zFr W_fX6_many (fX6_many_J28 r4 x0 x1 x3 s0 s1) :=
  (fr_lt fun v3 => (fr_lt fun v4 => (hr4 (v3, v4))))
theorem fr_fX6_many_B4 (x0 : Int) (x1 : Int) : ∀ r4 : Int × Int → zX, (∀ s, zFr W_fX6_many (r4 s)) → ∀ s, zFr W_fX6_many (fX6_many_B4 x0 x1 r4 s) := by
  intro r4 hr4 s
  obtain ⟨x2, x3⟩ := s
  unfold fX6_many_B4
  exact (fr_gf fun v1 => (fr_ite (fr_ret _) (fr_al fun v2 => (fr_ite (fr_fX6_many_J28 hr4 x0 x1 x3 x2 0) (fr_fX6_many_J28 hr4 x0 x1 x3 x2 1)))))
theorem fr_fX6_many (x0 : Int) (x1 : Int) : zFr W_fX6_many (fX6_many x0 x1) :=
  (fr_lp (fr_fX6_many_B4 x0 x1) zBIG (0, 0))
abbrev W_fX6_post : List Nat := [700, 701, 702]
theorem fr_fX6_post (x0 : Int) (x1 : Int) (x3 : Int) : zFr W_fX6_post (fX6_post x0 x1 x3) :=
  (fr_cl (fr_mono (by decide) (fr_fX6_many x0 x3)) fun v1 => (fr_ite (fr_gf fun v2 => (fr_as (by decide) (fr_gf fun v3 => (fr_as (by decide) (fr_gf fun v4 => (fr_pf (by decide) (fr_ret _))))))) (fr_ret _)))
abbrev W_fX61_with_25 : List Nat := [700, 701, 702]
theorem fr_fX61_with_25 (x1 : Int) (x2 : Int) (x3 : Int) : zFr W_fX61_with_25 (fX61_with_25 x1 x2 x3) :=
  (fr_nn (fr_gf fun v2 => (fr_nn (fr_gf fun v4 => (fr_nn (fr_cl (fr_mono (by decide) (fr_fX6_post x1 v2 v4)) fun v6 => (fr_ite (fr_ret _) (fr_ret _))))))))
abbrev W_fX60_on_25 : List Nat := [700, 701, 702]
theorem fr_fX60_on_25 (x2 : Int) (x3 : Int) (x4 : Int) : zFr W_fX60_on_25 (fX60_on_25 x2 x3 x4) :=
  (fr_nn (fr_cl (fr_mono (by decide) (fr_fX4_isMailbox x2)) fun v2 => (fr_ite (fr_nn (fr_cl (fr_mono (by decide) (fr_fX8_refusalOfBox x3 x2 1)) fun v4 => (fr_ite (fr_gf fun v5 => (fr_cl (fr_mono (by decide) (fr_fX61_with_25 v5 x3 x4)) fun v6 => (fr_ret _))) (fr_ret _)))) (fr_ret _))))
abbrev W_fX38_run_25 : List Nat := [700, 701, 702, 1306]
theorem fr_fX38_run_25 (x2 : Int) (x3 : Int) : zFr W_fX38_run_25 (fX38_run_25 x2 x3) :=
  (fr_nn (fr_gf fun v2 => (fr_pf (by decide) (fr_gf fun v3 => (fr_cl (fr_mono (by decide) (fr_fX8_refusal_2 x2 v3 1)) fun v4 => (fr_ite (fr_nn (fr_gf fun v6 => (fr_cl (fr_mono (by decide) (fr_fX0_isName v6)) fun v7 => (fr_ite (fr_gf fun v8 => (fr_gf fun v9 => (fr_cl (fr_mono (by decide) (fr_fX2_find v8 v9)) fun v10 => (fr_pf (by decide) (fr_ite (fr_ret _) (fr_cl (fr_mono (by decide) (fr_fX60_on_25 v10 x2 x3)) fun v12 => (fr_ret _))))))) (fr_ret _))))) (fr_ret _)))))))
abbrev W_fX6_oldest : List Nat := []
theorem fr_fX6_oldest_B2 (x0 : Int) (x1 : Int) : ∀ r2 : Int → zX, (∀ s, zFr W_fX6_oldest (r2 s)) → ∀ s, zFr W_fX6_oldest (fX6_oldest_B2 x0 x1 r2 s) := by
  intro r2 hr2 x2
  unfold fX6_oldest_B2
  exact (fr_gf fun v1 => (fr_ite (fr_ret _) (fr_al fun v2 => (fr_ite (fr_lt fun v3 => (hr2 v3)) (fr_ret _)))))
theorem fr_fX6_oldest (x0 : Int) (x1 : Int) : zFr W_fX6_oldest (fX6_oldest x0 x1) :=
  (fr_lp (fr_fX6_oldest_B2 x0 x1) zBIG 0)
abbrev W_fX6_take : List Nat := [700, 701, 702]
theorem fr_fX6_take_B20 (x0 : Int) (x2 : Int) : ∀ r20 : Int → zX, (∀ s, zFr W_fX6_take (r20 s)) → ∀ s, zFr W_fX6_take (fX6_take_B20 x0 x2 r20 s) := by
  intro r20 hr20 x4
  unfold fX6_take_B20
  exact (fr_gf fun v3 => (fr_ite (fr_ret _) (fr_al fun v4 => (fr_as (by decide) (fr_al fun v5 => (fr_as (by decide) (fr_lt fun v6 => (hr20 v6))))))))
theorem fr_fX6_take (x0 : Int) (x1 : Int) : zFr W_fX6_take (fX6_take x0 x1) :=
  (fr_al fun v1 => (fr_gf fun v2 => (fr_pf (by decide) (fr_lp (fr_fX6_take_B20 x0 v1) zBIG x1))))
abbrev W_fX62_with_26 : List Nat := [700, 701, 702, 1001]
theorem fr_fX62_with_26 (x1 : Int) (x2 : Int) (x3 : Int) : zFr W_fX62_with_26 (fX62_with_26 x1 x2 x3) :=
  (fr_nn (fr_gf fun v2 => (fr_nn (fr_cl (fr_mono (by decide) (fr_fX6_oldest x1 v2)) fun v4 => (fr_ite (fr_cl (fr_mono (by decide) (fr_fX6_take x1 v4)) fun v5 => (fr_nn (fr_pf (by decide) (fr_ret _)))) (fr_ret _))))))
abbrev W_fX60_on_26 : List Nat := [700, 701, 702, 1001]
theorem fr_fX60_on_26 (x2 : Int) (x3 : Int) (x4 : Int) : zFr W_fX60_on_26 (fX60_on_26 x2 x3 x4) :=
  (fr_nn (fr_cl (fr_mono (by decide) (fr_fX4_isMailbox x2)) fun v2 => (fr_ite (fr_nn (fr_cl (fr_mono (by decide) (fr_fX8_refusalOfBox x3 x2 2)) fun v4 => (fr_ite (fr_gf fun v5 => (fr_cl (fr_mono (by decide) (fr_fX62_with_26 v5 x3 x4)) fun v6 => (fr_ret _))) (fr_ret _)))) (fr_ret _))))
abbrev W_fX38_run_26 : List Nat := [700, 701, 702, 1001, 1306]
theorem fr_fX38_run_26 (x2 : Int) (x3 : Int) : zFr W_fX38_run_26 (fX38_run_26 x2 x3) :=
  (fr_nn (fr_gf fun v2 => (fr_pf (by decide) (fr_gf fun v3 => (fr_cl (fr_mono (by decide) (fr_fX8_refusal_2 x2 v3 1)) fun v4 => (fr_ite (fr_nn (fr_gf fun v6 => (fr_cl (fr_mono (by decide) (fr_fX0_isName v6)) fun v7 => (fr_ite (fr_gf fun v8 => (fr_gf fun v9 => (fr_cl (fr_mono (by decide) (fr_fX2_find v8 v9)) fun v10 => (fr_pf (by decide) (fr_ite (fr_ret _) (fr_cl (fr_mono (by decide) (fr_fX60_on_26 v10 x2 x3)) fun v12 => (fr_ret _))))))) (fr_ret _))))) (fr_ret _)))))))
abbrev W_fX6_seen : List Nat := []
theorem fr_fX6_seen_J38 {r5 : Int × Int → zX} (hr5 : ∀ s, zFr W_fX6_seen (r5 s)) (x0 : Int) (x1 : Int) (x3 : Int) (x4 : Int) : zFr W_fX6_seen (fX6_seen_J38 r5 x0 x1 x3 x4) :=
  (fr_lt fun v4 => (hr5 (x3, v4)))
theorem fr_fX6_seen_B5 (x0 : Int) (x1 : Int) : ∀ r5 : Int × Int → zX, (∀ s, zFr W_fX6_seen (r5 s)) → ∀ s, zFr W_fX6_seen (fX6_seen_B5 x0 x1 r5 s) := by
  intro r5 hr5 s
  obtain ⟨x3, x4⟩ := s
  unfold fX6_seen_B5
  exact (fr_gf fun v1 => (fr_ite (fr_ret _) (fr_al fun v2 => (fr_cl (fr_mono (by decide) (fr_fX0_dominates x1 v2)) fun v3 => (fr_ite (fr_fX6_seen_J38 hr5 x0 x1 x3 x4) (fr_ite (fr_lt fun v5 => (fr_fX6_seen_J38 hr5 x0 x1 v5 x4)) (fr_ret _)))))))
theorem fr_fX6_seen (x0 : Int) (x1 : Int) (x2 : Int) : zFr W_fX6_seen (fX6_seen x0 x1 x2) :=
  (fr_lp (fr_fX6_seen_B5 x0 x1) zBIG (x2, 0))
abbrev W_fX63_with_27 : List Nat := [1001, 1002]
theorem fr_fX63_with_27 (x1 : Int) (x2 : Int) (x3 : Int) : zFr W_fX63_with_27 (fX63_with_27 x1 x2 x3) :=
  (fr_nn (fr_gf fun v2 => (fr_nn (fr_al fun v4 => (fr_nn (fr_cl (fr_mono (by decide) (fr_fX6_seen x1 v2 v4)) fun v6 => (fr_ite (fr_al fun v7 => (fr_pf (by decide) (fr_al fun v8 => (fr_as (by decide) (fr_ret _))))) (fr_ret _))))))))
abbrev W_fX60_on_27 : List Nat := [1001, 1002]
theorem fr_fX60_on_27 (x2 : Int) (x3 : Int) (x4 : Int) : zFr W_fX60_on_27 (fX60_on_27 x2 x3 x4) :=
  (fr_nn (fr_cl (fr_mono (by decide) (fr_fX4_isMailbox x2)) fun v2 => (fr_ite (fr_nn (fr_cl (fr_mono (by decide) (fr_fX8_refusalOfBox x3 x2 4)) fun v4 => (fr_ite (fr_gf fun v5 => (fr_cl (fr_mono (by decide) (fr_fX63_with_27 v5 x3 x4)) fun v6 => (fr_ret _))) (fr_ret _)))) (fr_ret _))))
abbrev W_fX38_run_27 : List Nat := [1001, 1002, 1306]
theorem fr_fX38_run_27 (x2 : Int) (x3 : Int) : zFr W_fX38_run_27 (fX38_run_27 x2 x3) :=
  (fr_nn (fr_gf fun v2 => (fr_pf (by decide) (fr_gf fun v3 => (fr_cl (fr_mono (by decide) (fr_fX8_refusal_2 x2 v3 1)) fun v4 => (fr_ite (fr_nn (fr_gf fun v6 => (fr_cl (fr_mono (by decide) (fr_fX0_isName v6)) fun v7 => (fr_ite (fr_gf fun v8 => (fr_gf fun v9 => (fr_cl (fr_mono (by decide) (fr_fX2_find v8 v9)) fun v10 => (fr_pf (by decide) (fr_ite (fr_ret _) (fr_cl (fr_mono (by decide) (fr_fX60_on_27 v10 x2 x3)) fun v12 => (fr_ret _))))))) (fr_ret _))))) (fr_ret _)))))))
abbrev W_fX45_isRight_28 : List Nat := []
theorem fr_fX45_isRight_28 (x1 : Int) (x2 : Int) : zFr W_fX45_isRight_28 (fX45_isRight_28 x1 x2) :=
  (fr_nn (fr_gf fun v2 => (fr_cl (fr_mono (by decide) (fr_fX0_isName v2)) fun v3 => (fr_ite (fr_ret _) (fr_ret _)))))
abbrev W_fX45_run_28 : List Nat := [204, 206, 207, 300, 501, 502, 503, 504, 505, 506, 507, 509, 510, 511, 512, 513, 514, 515, 516, 517, 520, 521, 522, 600, 601, 602, 702, 1306]
theorem fr_fX45_run_28_J113 (x2 : Int) (x3 : Int) (s0 : Int) : zFr W_fX45_run_28 (fX45_run_28_J113 x2 x3 s0) :=
  (fr_ite (fr_ib (fr_nn (fr_gf fun v13 => (fr_gf fun v14 => (fr_gf fun v15 => (fr_cl (fr_mono (by decide) (fr_fX4_setBrackets s0 v13 v14 v15)) fun _ => (fr_cl (fr_mono (by decide) (fr_fX5_clear (3 * s0))) fun _ => (fr_nn (fr_gf fun v19 => (fr_gf fun v20 => (fr_cl (fr_mono (by decide) (fr_fX5_set (3 * s0) v19 v20 7)) fun v21 => (fr_gf fun v22 => (fr_nn (fr_cl (fr_mono (by decide) (fr_fX4_initial v22 3)) fun v24 => (fr_cl (fr_mono (by decide) (fr_fX5_take (3 * s0) v24)) fun _ => (fr_gf fun v26 => (fr_pf (by decide) (fr_ret _)))))))))))))))))) (fr_ret _))
theorem fr_fX45_run_28 (x2 : Int) (x3 : Int) : zFr W_fX45_run_28 (fX45_run_28 x2 x3) :=
  (fr_nn (fr_gf fun v2 => (fr_pf (by decide) (fr_gf fun v3 => (fr_cl (fr_mono (by decide) (fr_fX8_refusal_2 x2 v3 4)) fun v4 => (fr_ite (fr_cl (fr_mono (by decide) (fr_fX45_isRight_28 x2 x3)) fun v5 => (fr_ite (fr_gf fun v6 => (fr_nn (fr_gf fun v8 => (fr_cl (fr_mono (by decide) (fr_fX12_newMailbox v6 v8)) fun v9 => (fr_fX45_run_28_J113 x2 x3 v9))))) (fr_ret _))) (fr_ret _)))))))
abbrev W_fDisp_36_run : List Nat := [203, 204, 206, 207, 300, 400, 401, 402, 501, 502, 503, 504, 505, 506, 507, 509, 510, 511, 512, 513, 514, 515, 516, 517, 520, 521, 522, 523, 600, 601, 602, 700, 701, 702, 903, 910, 911, 912, 913, 914, 916, 918, 920, 921, 922, 923, 924, 1000, 1001, 1002, 1003, 1004, 1005, 1006, 1007, 1008, 1009, 1010, 1100, 1101, 1102, 1200, 1201, 1202, 1203, 1306, 1314]
theorem fr_fDisp_36_run (x0 : Int) (x2 : Int) (x3 : Int) : zFr W_fDisp_36_run (fDisp_36_run x0 x2 x3) :=
  (fr_ite (fr_mono (by decide) (fr_fX37_run_0 x2 x3)) (fr_ite (fr_mono (by decide) (fr_fX38_run_1 x2 x3)) (fr_ite (fr_mono (by decide) (fr_fX40_run_2 x2 x3)) (fr_ite (fr_mono (by decide) (fr_fX40_run_3 x2 x3)) (fr_ite (fr_mono (by decide) (fr_fX38_run_4 x2 x3)) (fr_ite (fr_mono (by decide) (fr_fX42_run_5 x2 x3)) (fr_ite (fr_mono (by decide) (fr_fX43_run_6 x2 x3)) (fr_ite (fr_mono (by decide) (fr_fX38_run_7 x2 x3)) (fr_ite (fr_mono (by decide) (fr_fX45_run_8 x2 x3)) (fr_ite (fr_mono (by decide) (fr_fX45_run_9 x2 x3)) (fr_ite (fr_mono (by decide) (fr_fX38_run_10 x2 x3)) (fr_ite (fr_mono (by decide) (fr_fX38_run_11 x2 x3)) (fr_ite (fr_mono (by decide) (fr_fX38_run_12 x2 x3)) (fr_ite (fr_mono (by decide) (fr_fX38_run_13 x2 x3)) (fr_ite (fr_mono (by decide) (fr_fX50_run_14 x2 x3)) (fr_ite (fr_mono (by decide) (fr_fX38_run_15 x2 x3)) (fr_ite (fr_mono (by decide) (fr_fX52_run_16 x2 x3)) (fr_ite (fr_mono (by decide) (fr_fX53_run_17 x2 x3)) (fr_ite (fr_mono (by decide) (fr_fX54_run_18 x2 x3)) (fr_ite (fr_mono (by decide) (fr_fX55_run_19 x2 x3)) (fr_ite (fr_mono (by decide) (fr_fX56_run_20 x2 x3)) (fr_ite (fr_mono (by decide) (fr_fX57_run_21 x2 x3)) (fr_ite (fr_mono (by decide) (fr_fX57_run_22 x2 x3)) (fr_ite (fr_mono (by decide) (fr_fX58_run_23 x2 x3)) (fr_ite (fr_mono (by decide) (fr_fX59_run_24 x2 x3)) (fr_ite (fr_mono (by decide) (fr_fX38_run_25 x2 x3)) (fr_ite (fr_mono (by decide) (fr_fX38_run_26 x2 x3)) (fr_ite (fr_mono (by decide) (fr_fX38_run_27 x2 x3)) (fr_ite (fr_mono (by decide) (fr_fX45_run_28 x2 x3)) fr_no)))))))))))))))))))))))))))))
abbrev W_fX12_serve : List Nat := [203, 204, 206, 207, 300, 400, 401, 402, 501, 502, 503, 504, 505, 506, 507, 509, 510, 511, 512, 513, 514, 515, 516, 517, 520, 521, 522, 523, 600, 601, 602, 700, 701, 702, 903, 910, 911, 912, 913, 914, 916, 918, 920, 921, 922, 923, 924, 1000, 1001, 1002, 1003, 1004, 1005, 1006, 1007, 1008, 1009, 1010, 1100, 1101, 1102, 1200, 1201, 1202, 1203, 1306, 1314, 1400, 1401]
theorem fr_fX12_serve_J72 (x2 : Int) (x3 : Int) : zFr W_fX12_serve (fX12_serve_J72 x2 x3) :=
  (fr_ite (fr_ret _) (fr_nn (fr_pf (by decide) (fr_ret _))))
theorem fr_fX12_serve_J66 (x2 : Int) (x3 : Int) (s1 : Int) (s2 : Int) (s3 : Int) : zFr W_fX12_serve (fX12_serve_J66 x2 x3 s1 s2 s3) :=
  (fr_cl (fr_mono (by decide) (fr_fX13_add s1 s2 s3 (zi (1 - x3)))) fun _ => (fr_fX12_serve_J72 x2 x3))
theorem fr_fX12_serve_J23 (x2 : Int) (s0 : Int) : zFr W_fX12_serve (fX12_serve_J23 x2 s0) :=
  (fr_ite (fr_fX12_serve_J72 x2 s0) (fr_ite (fr_fX12_serve_J72 x2 s0) (fr_gf fun v7 => (fr_nn (fr_gf fun v9 => (fr_ite (fr_fX12_serve_J66 x2 s0 v7 2 (-1)) (fr_gf fun v12 => (fr_nn (fr_fX12_serve_J66 x2 s0 v7 2 v12)))))))))
theorem fr_fX12_serve (x1 : Int) : zFr W_fX12_serve (fX12_serve x1) :=
  (fr_gf fun v1 => (fr_nn (fr_pf (by decide) (fr_gf fun v3 => (fr_nn (fr_cl (fr_mono (by decide) (fr_fDisp_36_run x1 v3 v1)) fun v5 => (fr_fX12_serve_J23 v1 v5)))))))
abbrev W_fX33_run_35 : List Nat := [203, 204, 206, 207, 300, 400, 401, 402, 501, 502, 503, 504, 505, 506, 507, 509, 510, 511, 512, 513, 514, 515, 516, 517, 520, 521, 522, 523, 600, 601, 602, 700, 701, 702, 903, 910, 911, 912, 913, 914, 916, 918, 920, 921, 922, 923, 924, 1000, 1001, 1002, 1003, 1004, 1005, 1006, 1007, 1008, 1009, 1010, 1100, 1101, 1102, 1200, 1201, 1202, 1203, 1306, 1314, 1400, 1401]
theorem fr_fX33_run_35_J20 : zFr W_fX33_run_35 (fX33_run_35_J20) :=
  (fr_cl (fr_mono (by decide) (fr_fX12_refuseHere 13)) fun v3 => (fr_rb _))
theorem fr_fX33_run_35 (x2 : Int) (x3 : Int) : zFr W_fX33_run_35 (fX33_run_35 x2 x3) :=
  (fr_nn (fr_gf fun v2 => (fr_ite fr_fX33_run_35_J20 (fr_gf fun v4 => (fr_ite (fr_gf fun v5 => (fr_ib (fr_cl (fr_mono (by decide) (fr_fX12_serve v5)) fun v8 => (fr_rb _)))) fr_fX33_run_35_J20)))))
abbrev W_fX34_run_36 : List Nat := [1000, 1001, 1009, 1010]
theorem fr_fX34_run_36 (x2 : Int) (x3 : Int) : zFr W_fX34_run_36 (fX34_run_36 x2 x3) :=
  (fr_nn (fr_gf fun v2 => (fr_gf fun v3 => (fr_pf (by decide) (fr_pf (by decide) (fr_gf fun v4 => (fr_cl (fr_mono (by decide) (fr_fX9_tell x3 v4)) fun _ => (fr_ret _))))))))
abbrev W_fX35_run_37 : List Nat := [1000, 1009, 1010]
theorem fr_fX35_run_37 (x2 : Int) (x3 : Int) : zFr W_fX35_run_37 (fX35_run_37 x2 x3) :=
  (fr_nn (fr_gf fun v2 => (fr_pf (by decide) (fr_gf fun v3 => (fr_cl (fr_mono (by decide) (fr_fX9_tell x3 v3)) fun _ => (fr_ret _))))))
abbrev W_fDisp_14_run : List Nat := [203, 204, 206, 207, 300, 400, 401, 402, 501, 502, 503, 504, 505, 506, 507, 509, 510, 511, 512, 513, 514, 515, 516, 517, 520, 521, 522, 523, 600, 601, 602, 700, 701, 702, 903, 910, 911, 912, 913, 914, 915, 916, 918, 920, 921, 922, 923, 924, 1000, 1001, 1002, 1003, 1004, 1005, 1006, 1007, 1008, 1009, 1010, 1100, 1101, 1102, 1200, 1201, 1202, 1203, 1306, 1311, 1312, 1313, 1314, 1400, 1401]
theorem fr_fDisp_14_run (x0 : Int) (x2 : Int) (x3 : Int) : zFr W_fDisp_14_run (fDisp_14_run x0 x2 x3) :=
  (fr_ite (fr_mono (by decide) (fr_fX15_run_0 x2 x3)) (fr_ite (fr_mono (by decide) (fr_fX15_run_1 x2 x3)) (fr_ite (fr_mono (by decide) (fr_fX16_run_2 x2 x3)) (fr_ite (fr_mono (by decide) (fr_fX16_run_3 x2 x3)) (fr_ite (fr_mono (by decide) (fr_fX17_run_4 x2 x3)) (fr_ite (fr_mono (by decide) (fr_fX17_run_5 x2 x3)) (fr_ite (fr_mono (by decide) (fr_fX17_run_6 x2 x3)) (fr_ite (fr_mono (by decide) (fr_fX20_run_7 x2 x3)) (fr_ite (fr_mono (by decide) (fr_fX17_run_8 x2 x3)) (fr_ite (fr_mono (by decide) (fr_fX17_run_9 x2 x3)) (fr_ite (fr_mono (by decide) (fr_fX17_run_10 x2 x3)) (fr_ite (fr_mono (by decide) (fr_fX22_run_11 x2 x3)) (fr_ite (fr_mono (by decide) (fr_fX23_run_12 x2 x3)) (fr_ite (fr_mono (by decide) (fr_fX23_run_13 x2 x3)) (fr_ite (fr_mono (by decide) (fr_fX24_run_14 x2 x3)) (fr_ite (fr_mono (by decide) (fr_fX24_run_15 x2 x3)) (fr_ite (fr_mono (by decide) (fr_fX24_run_16 x2 x3)) (fr_ite (fr_mono (by decide) (fr_fX24_run_17 x2 x3)) (fr_ite (fr_mono (by decide) (fr_fX25_run_18 x2 x3)) (fr_ite (fr_mono (by decide) (fr_fX26_run_19 x2 x3)) (fr_ite (fr_mono (by decide) (fr_fX27_run_20 x2 x3)) (fr_ite (fr_mono (by decide) (fr_fX27_run_21 x2 x3)) (fr_ite (fr_mono (by decide) (fr_fX28_run_22 x2 x3)) (fr_ite (fr_mono (by decide) (fr_fX28_run_23 x2 x3)) (fr_ite (fr_mono (by decide) (fr_fX28_run_24 x2 x3)) (fr_ite (fr_mono (by decide) (fr_fX29_run_25 x2 x3)) (fr_ite (fr_mono (by decide) (fr_fX29_run_26 x2 x3)) (fr_ite (fr_mono (by decide) (fr_fX30_run_27 x2 x3)) (fr_ite (fr_mono (by decide) (fr_fX30_run_28 x2 x3)) (fr_ite (fr_mono (by decide) (fr_fX30_run_29 x2 x3)) (fr_ite (fr_mono (by decide) (fr_fX30_run_30 x2 x3)) (fr_ite (fr_mono (by decide) (fr_fX30_run_31 x2 x3)) (fr_ite (fr_mono (by decide) (fr_fX30_run_32 x2 x3)) (fr_ite (fr_mono (by decide) (fr_fX31_run_33 x2 x3)) (fr_ite (fr_mono (by decide) (fr_fX32_run_34 x2 x3)) (fr_ite (fr_mono (by decide) (fr_fX33_run_35 x2 x3)) (fr_ite (fr_mono (by decide) (fr_fX34_run_36 x2 x3)) (fr_ite (fr_mono (by decide) (fr_fX35_run_37 x2 x3)) fr_no))))))))))))))))))))))))))))))))))))))
abbrev W_fX12_at : List Nat := [1308, 1309, 1310]
theorem fr_fX12_at (x1 : Int) (x2 : Int) (x3 : Int) : zFr W_fX12_at (fX12_at x1 x2 x3) :=
  (fr_pf (by decide) (fr_pf (by decide) (fr_pf (by decide) (fr_ret _))))
abbrev W_fX0_isPointer : List Nat := []
theorem fr_fX0_isPointer (x0 : Int) : zFr W_fX0_isPointer (fX0_isPointer x0) :=
  (fr_ite (fr_ret _) (fr_ite (fr_ret _) (fr_ret _)))
abbrev W_fX0_numberOf : List Nat := []
theorem fr_fX0_numberOf (x0 : Int) : zFr W_fX0_numberOf (fX0_numberOf x0) :=
  (fr_ret _)
abbrev W_fX0_placeOf : List Nat := []
theorem fr_fX0_placeOf (x0 : Int) : zFr W_fX0_placeOf (fX0_placeOf x0) :=
  (fr_ret _)
abbrev W_fX0_ringOf : List Nat := []
theorem fr_fX0_ringOf (x0 : Int) : zFr W_fX0_ringOf (fX0_ringOf x0) :=
  (fr_ret _)
abbrev W_fX0_isChained : List Nat := []
theorem fr_fX0_isChained (x0 : Int) : zFr W_fX0_isChained (fX0_isChained x0) :=
  (fr_ite (fr_ret _) (fr_ret _))
abbrev W_fX12_indirect : List Nat := [512, 903, 910, 1000, 1001, 1002, 1003, 1004, 1005, 1006, 1007, 1008, 1009, 1010, 1100, 1101, 1102, 1200, 1201, 1202, 1203, 1308, 1309, 1310, 1400, 1401]
theorem fr_fX12_indirect_J144 : zFr W_fX12_indirect (fX12_indirect_J144) :=
  (fr_gf fun v1 => (fr_gf fun v2 => (fr_gf fun v3 => (fr_cl (fr_mono (by decide) (fr_fX12_refuse 10 v1 v2 v3)) fun v4 => (fr_rb _)))))
theorem fr_fX12_indirect_J99 {r2 : Int → zX} (hr2 : ∀ s, zFr W_fX12_indirect (r2 s)) (x1 : Int) (x2 : Int) (s0 : Int) : zFr W_fX12_indirect (fX12_indirect_J99 r2 x1 x2 s0) :=
  (fr_cl (fr_mono (by decide) (fr_fX0_numberOf x2)) fun v20 => (fr_cl (fr_mono (by decide) (fr_fX0_placeOf x2)) fun v21 => (fr_gf fun v22 => (fr_cl (fr_mono (by decide) (fr_fX0_ringOf x2)) fun v23 => (fr_cl (fr_mono (by decide) (fr_fX12_at v20 v21 (max v22 (max v23 s0)))) fun _ => (fr_cl (fr_mono (by decide) (fr_fX0_isChained x2)) fun v25 => (fr_ite (fr_lt fun v26 => (hr2 v26)) (fr_ret _))))))))
theorem fr_fX12_indirect_J49 : zFr W_fX12_indirect (fX12_indirect_J49) :=
  (fr_gf fun v28 => (fr_gf fun v29 => (fr_gf fun v30 => (fr_cl (fr_mono (by decide) (fr_fX12_refuse 9 v28 v29 v30)) fun v31 => (fr_rb _)))))
theorem fr_fX12_indirect_B2 : ∀ r2 : Int → zX, (∀ s, zFr W_fX12_indirect (r2 s)) → ∀ s, zFr W_fX12_indirect (fX12_indirect_B2 r2 s) := by
  intro r2 hr2 x1
  unfold fX12_indirect_B2
  exact (fr_ite fr_fX12_indirect_J144 (fr_gf fun v5 => (fr_gf fun v6 => (fr_gf fun v7 => (fr_cl (fr_mono (by decide) (fr_fX12_may v5 v6 v7 1)) fun v8 => (fr_ite (fr_gf fun v9 => (fr_gf fun v10 => (fr_cl (fr_mono (by decide) (fr_fX12_load v9 v10)) fun v11 => (fr_cl (fr_mono (by decide) (fr_fX0_isPointer v11)) fun v12 => (fr_ite (fr_gf fun v13 => (fr_ite (fr_gf fun v14 => (fr_nn (fr_gf fun v16 => (fr_al fun v17 => (fr_nn (fr_gf fun v19 => (fr_fX12_indirect_J99 hr2 x1 v11 v19))))))) (fr_gf fun v27 => (fr_fX12_indirect_J99 hr2 x1 v11 v27)))) fr_fX12_indirect_J49))))) (fr_ret _)))))))
theorem fr_fX12_indirect : zFr W_fX12_indirect (fX12_indirect) :=
  (fr_lp fr_fX12_indirect_B2 zBIG 0)
abbrev W_fX12_isObject : List Nat := []
theorem fr_fX12_isObject (x1 : Int) : zFr W_fX12_isObject (fX12_isObject x1) :=
  (fr_nn (fr_gf fun v2 => (fr_ite (fr_ret _) (fr_cl (fr_mono (by decide) (fr_fX1_get x1 0)) fun v3 => (fr_ite (fr_ret _) (fr_ret _))))))
abbrev W_fX12_searched : List Nat := []
theorem fr_fX12_searched_J94 {r2 : Int → zX} (hr2 : ∀ s, zFr W_fX12_searched (r2 s)) (x1 : Int) (x3 : Int) : zFr W_fX12_searched (fX12_searched_J94 r2 x1 x3) :=
  (fr_lt fun v5 => (hr2 v5))
theorem fr_fX12_searched_B2 (x1 : Int) : ∀ r2 : Int → zX, (∀ s, zFr W_fX12_searched (r2 s)) → ∀ s, zFr W_fX12_searched (fX12_searched_B2 x1 r2 s) := by
  intro r2 hr2 x3
  unfold fX12_searched_B2
  exact (fr_ite (fr_ret _) (fr_gf fun v1 => (fr_nn (fr_al fun v3 => (fr_ite (fr_fX12_searched_J94 hr2 x1 x3) (fr_gf fun v6 => (fr_nn (fr_cl (fr_mono (by decide) (fr_fX8_refusal_2 v6 v3 1)) fun v8 => (fr_ite (fr_fX12_searched_J94 hr2 x1 x3) (fr_cl (fr_mono (by decide) (fr_fX2_find v3 x1)) fun v9 => (fr_ite (fr_fX12_searched_J94 hr2 x1 x3) (fr_cl (fr_mono (by decide) (fr_fX4_isSegment v9)) fun v11 => (fr_ite (fr_fX12_searched_J94 hr2 x1 x3) (fr_gf fun v12 => (fr_nn (fr_gf fun v14 => (fr_gf fun v15 => (fr_nn (fr_gf fun v17 => (fr_cl (fr_mono (by decide) (fr_fX5_of (3 * v9) v14 v17)) fun v18 => (fr_ite (fr_fX12_searched_J94 hr2 x1 x3) (fr_ret _))))))))))))))))))))))
theorem fr_fX12_searched (x1 : Int) : zFr W_fX12_searched (fX12_searched x1) :=
  (fr_lp (fr_fX12_searched_B2 x1) zBIG 0)
abbrev W_fX12_definition : List Nat := []
theorem fr_fX12_definition_J88 (x1 : Int) (x6 : Int) (x7 : Int) : zFr W_fX12_definition (fX12_definition_J88 x1 x6 x7) :=
  (fr_cl (fr_mono (by decide) (fr_fX1_get x1 (zi ((zi (x6 + (zi (2 * x7)))) + 1)))) fun v10 => (fr_ret _))
theorem fr_fX12_definition_B43 (x1 : Int) (x2 : Int) (x4 : Int) (x6 : Int) : ∀ r43 : Int → zX, (∀ s, zFr W_fX12_definition (r43 s)) → ∀ s, zFr W_fX12_definition (fX12_definition_B43 x1 x2 x4 x6 r43 s) := by
  intro r43 hr43 x7
  unfold fX12_definition_B43
  exact (fr_ite (fr_ret _) (fr_nn (fr_gf fun v7 => (fr_ite (fr_ret _) (fr_cl (fr_mono (by decide) (fr_fX1_get x1 (zi (x6 + (zi (2 * x7)))))) fun v8 => (fr_ite (fr_lt fun v9 => (hr43 v9)) (fr_fX12_definition_J88 x1 x6 x7)))))))
theorem fr_fX12_definition (x1 : Int) (x2 : Int) : zFr W_fX12_definition (fX12_definition x1 x2) :=
  (fr_cl (fr_mono (by decide) (fr_fX12_isObject x1)) fun v1 => (fr_ite (fr_cl (fr_mono (by decide) (fr_fX1_get x1 1)) fun v2 => (fr_lt fun v3 => (fr_cl (fr_mono (by decide) (fr_fX1_get x1 1)) fun v4 => (fr_lt fun v5 => (fr_lp (fr_fX12_definition_B43 x1 x2 v3 v5) zBIG 0))))) (fr_ret _)))
abbrev W_fX12_bind : List Nat := [916, 918, 919, 1100, 1101, 1102, 1200]
theorem fr_fX12_bind_J138 (x1 : Int) (x2 : Int) (x6 : Int) (s0 : Int) : zFr W_fX12_bind (fX12_bind_J138 x1 x2 x6 s0) :=
  (fr_ite (fr_gf fun v15 => (fr_nn (fr_as (by decide) (fr_gf fun v17 => (fr_nn (fr_as (by decide) (fr_gf fun v19 => (fr_nn (fr_cl (fr_mono (by decide) (fr_fX8_event v19 5 x2 x6 s0)) fun _ => (fr_ret _)))))))))) (fr_ret _))
theorem fr_fX12_bind_J109 (x1 : Int) (x2 : Int) (x3 : Int) (x4 : Int) (x5 : Int) (s0 : Int) : zFr W_fX12_bind (fX12_bind_J109 x1 x2 x3 x4 x5 s0) :=
  (fr_ite (fr_cl (fr_mono (by decide) (fr_fX1_get x3 (zi (x4 + 1)))) fun v13 => (fr_cl (fr_mono (by decide) (fr_fX12_definition x5 v13)) fun v14 => (fr_fX12_bind_J138 x1 x2 s0 v14))) (fr_fX12_bind_J138 x1 x2 s0 (-1)))
theorem fr_fX12_bind (x1 : Int) (x2 : Int) : zFr W_fX12_bind (fX12_bind x1 x2) :=
  (fr_gf fun v1 => (fr_nn (fr_al fun v3 => (fr_cl (fr_mono (by decide) (fr_fX12_isObject v3)) fun v4 => (fr_ite (fr_ret _) (fr_cl (fr_mono (by decide) (fr_fX1_get v3 0)) fun v5 => (fr_ite (fr_cl (fr_mono (by decide) (fr_fX1_get v3 0)) fun v6 => (fr_lt fun v7 => (fr_nn (fr_gf fun v9 => (fr_ite (fr_cl (fr_mono (by decide) (fr_fX1_get v3 v7)) fun v10 => (fr_cl (fr_mono (by decide) (fr_fX12_searched v10)) fun v11 => (fr_ite (fr_fX12_bind_J109 x1 x2 v3 v7 v11 (-1)) (fr_gf fun v22 => (fr_nn (fr_cl (fr_mono (by decide) (fr_fX8_numberFor v22 v11)) fun v24 => (fr_fX12_bind_J109 x1 x2 v3 v7 v11 v24))))))) (fr_ret _)))))) (fr_ret _))))))))
abbrev W_fX12_link : List Nat := [903, 910, 916, 918, 919, 1000, 1001, 1002, 1003, 1004, 1005, 1006, 1007, 1008, 1009, 1010, 1100, 1101, 1102, 1200, 1308, 1309, 1310]
theorem fr_fX12_link_J48 : zFr W_fX12_link (fX12_link_J48) :=
  (fr_cl (fr_mono (by decide) (fr_fX12_refuseHere 11)) fun v5 => (fr_rb _))
theorem fr_fX12_link_J55 (x2 : Int) (x3 : Int) : zFr W_fX12_link (fX12_link_J55 x2 x3) :=
  (fr_gf fun v9 => (fr_nn (fr_al fun v11 => (fr_gf fun v12 => (fr_nn (fr_al fun v14 => (fr_nn (fr_gf fun v16 => (fr_cl (fr_mono (by decide) (fr_fX12_at v11 v14 v16)) fun _ => (fr_ret _))))))))))
theorem fr_fX12_link (x1 : Int) : zFr W_fX12_link (fX12_link x1) :=
  (fr_gf fun v1 => (fr_nn (fr_gf fun v3 => (fr_lt fun v4 => (fr_ite fr_fX12_link_J48 (fr_gf fun v6 => (fr_nn (fr_al fun v8 => (fr_ite (fr_fX12_link_J55 v1 v4) (fr_gf fun v18 => (fr_cl (fr_mono (by decide) (fr_fX12_bind v18 x1)) fun v19 => (fr_ite (fr_fX12_link_J55 v1 v4) fr_fX12_link_J48))))))))))))
abbrev W_fX12_address : List Nat := [512, 903, 910, 916, 918, 919, 1000, 1001, 1002, 1003, 1004, 1005, 1006, 1007, 1008, 1009, 1010, 1100, 1101, 1102, 1200, 1201, 1202, 1203, 1308, 1309, 1310, 1400, 1401]
theorem fr_fX12_address_J169 (x1 : Int) : zFr W_fX12_address (fX12_address_J169 x1) :=
  (fr_nn (fr_gf fun v16 => (fr_ite (fr_ret _) (fr_cl (fr_mono (by decide) fr_fX12_indirect) fun v17 => (fr_ite (fr_ret _) (fr_ret _))))))
theorem fr_fX12_address_J42 (x1 : Int) (x2 : Int) (s0 : Int) : zFr W_fX12_address (fX12_address_J42 x1 x2 s0) :=
  (fr_nn (fr_gf fun v9 => (fr_ite (fr_nn (fr_gf fun v12 => (fr_gf fun v13 => (fr_cl (fr_mono (by decide) (fr_fX12_at v12 s0 v13)) fun _ => (fr_fX12_address_J169 x1))))) (fr_ite (fr_nn (fr_gf fun v20 => (fr_al fun v21 => (fr_gf fun v22 => (fr_al fun v23 => (fr_gf fun v24 => (fr_gf fun v25 => (fr_al fun v26 => (fr_cl (fr_mono (by decide) (fr_fX12_at v21 ((zi (v23 + s0)) % 262144) (max v24 v26))) fun _ => (fr_fX12_address_J169 x1)))))))))) (fr_ite (fr_nn (fr_gf fun v30 => (fr_cl (fr_mono (by decide) (fr_fX12_at (-1) s0 v30)) fun _ => (fr_ret _)))) (fr_ite (fr_nn (fr_gf fun v34 => (fr_gf fun v35 => (fr_cl (fr_mono (by decide) (fr_fX12_at v34 s0 v35)) fun _ => (fr_fX12_address_J169 x1))))) (fr_ite (fr_nn (fr_gf fun v39 => (fr_al fun v40 => (fr_gf fun v41 => (fr_al fun v42 => (fr_gf fun v43 => (fr_gf fun v44 => (fr_al fun v45 => (fr_cl (fr_mono (by decide) (fr_fX12_at v40 ((zi (v42 + s0)) % 262144) (max v43 v45))) fun _ => (fr_fX12_address_J169 x1)))))))))) (fr_cl (fr_mono (by decide) (fr_fX12_link s0)) fun v47 => (fr_ite (fr_fX12_address_J169 x1) (fr_ret _))))))))))
theorem fr_fX12_address (x1 : Int) : zFr W_fX12_address (fX12_address x1) :=
  (fr_gf fun v1 => (fr_nn (fr_nn (fr_gf fun v4 => (fr_ite (fr_gf fun v5 => (fr_gf fun v6 => (fr_al fun v7 => (fr_fX12_address_J42 x1 v1 ((zi (v5 + v7)) % 262144))))) (fr_gf fun v48 => (fr_fX12_address_J42 x1 v1 v48)))))))
abbrev W_fX12_step : List Nat := [203, 204, 206, 207, 300, 400, 401, 402, 501, 502, 503, 504, 505, 506, 507, 509, 510, 511, 512, 513, 514, 515, 516, 517, 520, 521, 522, 523, 600, 601, 602, 700, 701, 702, 800, 801, 802, 803, 804, 805, 806, 903, 907, 910, 911, 912, 913, 914, 915, 916, 918, 919, 920, 921, 922, 923, 924, 1000, 1001, 1002, 1003, 1004, 1005, 1006, 1007, 1008, 1009, 1010, 1100, 1101, 1102, 1200, 1201, 1202, 1203, 1306, 1307, 1308, 1309, 1310, 1311, 1312, 1313, 1314, 1400, 1401]
theorem fr_fX12_step_J129 (x2 : Int) (s0 : Int) : zFr W_fX12_step (fX12_step_J129 x2 s0) :=
  (fr_ite (fr_ret _) (fr_gf fun v20 => (fr_ite (fr_ret _) (fr_gf fun v21 => (fr_nn (fr_pf (by decide) (fr_gf fun v23 => (fr_pf (by decide) (fr_ret _)))))))))
theorem fr_fX12_step_J94 (x2 : Int) (x3 : Int) (x4 : Int) : zFr W_fX12_step (fX12_step_J94 x2 x3 x4) :=
  (fr_nn (fr_gf fun v16 => (fr_pf (by decide) (fr_gf fun v17 => (fr_pf (by decide) (fr_pf (by decide) (fr_nn (fr_cl (fr_mono (by decide) (fr_fDisp_14_run x4 x3 x2)) fun v19 => (fr_fX12_step_J129 x2 v19)))))))))
theorem fr_fX12_step (x1 : Int) : zFr W_fX12_step (fX12_step x1) :=
  (fr_pf (by decide) (fr_nn (fr_gf fun v2 => (fr_pf (by decide) (fr_gf fun v3 => (fr_gf fun v4 => (fr_gf fun v5 => (fr_cl (fr_mono (by decide) (fr_fX12_may v3 v4 v5 2)) fun v6 => (fr_ite (fr_gf fun v7 => (fr_gf fun v8 => (fr_cl (fr_mono (by decide) (fr_fX12_load v7 v8)) fun v9 => (fr_cl (fr_mono (by decide) (fr_fX12_decode v9)) fun v10 => (fr_nn (fr_gf fun v12 => (fr_ite (fr_cl (fr_mono (by decide) (fr_fX12_refuseHere 8)) fun v14 => (fr_ret _)) (fr_ite (fr_fX12_step_J94 x1 v10 v12) (fr_cl (fr_mono (by decide) (fr_fX12_address v10)) fun v24 => (fr_ite (fr_fX12_step_J94 x1 v10 v12) (fr_ret _))))))))))) (fr_ret _))))))))))
abbrev W_fX8_oldest : List Nat := []
theorem fr_fX8_oldest (x0 : Int) : zFr W_fX8_oldest (fX8_oldest x0) :=
  (fr_gf fun v1 => (fr_al fun v2 => (fr_ret _)))
abbrev W_fX12_tickOf : List Nat := [203, 204, 206, 207, 300, 400, 401, 402, 501, 502, 503, 504, 505, 506, 507, 509, 510, 511, 512, 513, 514, 515, 516, 517, 520, 521, 522, 523, 600, 601, 602, 700, 701, 702, 800, 801, 802, 803, 804, 805, 806, 903, 907, 910, 911, 912, 913, 914, 915, 916, 918, 919, 920, 921, 922, 923, 924, 1000, 1001, 1002, 1003, 1004, 1005, 1006, 1007, 1008, 1009, 1010, 1100, 1101, 1102, 1200, 1201, 1202, 1203, 1306, 1307, 1308, 1309, 1310, 1311, 1312, 1313, 1314, 1400, 1401]
theorem fr_fX12_tickOf_J41 (x1 : Int) : zFr W_fX12_tickOf (fX12_tickOf_J41 x1) :=
  (fr_nn (fr_gf fun v5 => (fr_ite (fr_cl (fr_mono (by decide) (fr_fX12_step x1)) fun _ => (fr_ret _)) (fr_ret _))))
theorem fr_fX12_tickOf (x1 : Int) : zFr W_fX12_tickOf (fX12_tickOf x1) :=
  (fr_nn (fr_gf fun v2 => (fr_ite (fr_gf fun v3 => (fr_ite (fr_fX12_tickOf_J41 x1) (fr_gf fun v7 => (fr_ite (fr_fX12_tickOf_J41 x1) (fr_pf (by decide) (fr_cl (fr_mono (by decide) (fr_fX8_oldest x1)) fun v8 => (fr_cl (fr_mono (by decide) (fr_fX8_event x1 8 v8 0 0)) fun _ => (fr_fX12_tickOf_J41 x1)))))))) (fr_ret _))))
abbrev W_fX0_tick : List Nat := [203, 204, 206, 207, 300, 400, 401, 402, 501, 502, 503, 504, 505, 506, 507, 509, 510, 511, 512, 513, 514, 515, 516, 517, 520, 521, 522, 523, 600, 601, 602, 700, 701, 702, 800, 801, 802, 803, 804, 805, 806, 903, 907, 910, 911, 912, 913, 914, 915, 916, 918, 919, 920, 921, 922, 923, 924, 1000, 1001, 1002, 1003, 1004, 1005, 1006, 1007, 1008, 1009, 1010, 1100, 1101, 1102, 1200, 1201, 1202, 1203, 1306, 1307, 1308, 1309, 1310, 1311, 1312, 1313, 1314, 1400, 1401]
theorem fr_fX0_tick_J55 {r31 : Int × Int → zX} (hr31 : ∀ s, zFr W_fX0_tick (r31 s)) (x2 : Int) (x3 : Int) (x5 : Int) (s0 : Int) (s1 : Int) : zFr W_fX0_tick (fX0_tick_J55 r31 x2 x3 x5 s0 s1) :=
  (fr_lt fun v5 => (fr_lt fun v6 => (hr31 (v5, v6))))
theorem fr_fX0_tick_B31 (x2 : Int) (x3 : Int) : ∀ r31 : Int × Int → zX, (∀ s, zFr W_fX0_tick (r31 s)) → ∀ s, zFr W_fX0_tick (fX0_tick_B31 x2 x3 r31 s) := by
  intro r31 hr31 s
  obtain ⟨x4, x5⟩ := s
  unfold fX0_tick_B31
  exact (fr_ite (fr_ret _) (fr_cl (fr_mono (by decide) (fr_fX12_tickOf x3)) fun v4 => (fr_ite (fr_fX0_tick_J55 hr31 x2 x3 x5 x4 0) (fr_fX0_tick_J55 hr31 x2 x3 x5 x4 1))))
theorem fr_fX0_tick (x1 : Int) (x2 : Int) : zFr W_fX0_tick (fX0_tick x1 x2) :=
  (fr_cl (fr_mono (by decide) (fr_fX0_processAt x1)) fun v1 => (fr_ite (fr_ret _) (fr_cl (fr_mono (by decide) (fr_fX0_isIn x2 1 1000)) fun v3 => (fr_ite (fr_lp (fr_fX0_tick_B31 x2 v1) zBIG (0, 0)) (fr_ret _)))))
abbrev W_fX0_schedule : List Nat := [107]
theorem fr_fX0_schedule (x1 : Int) (x2 : Int) : zFr W_fX0_schedule (fX0_schedule x1 x2) :=
  (fr_cl (fr_mono (by decide) (fr_fX0_isIn x1 0 15)) fun v1 => (fr_ite (fr_ret _) (fr_cl (fr_mono (by decide) (fr_fX0_isIn x2 (-1) 7)) fun v2 => (fr_ite (fr_al fun v3 => (fr_as (by decide) (fr_ret _))) (fr_ret _)))))
abbrev W_fX0_run : List Nat := [108, 203, 204, 206, 207, 300, 400, 401, 402, 501, 502, 503, 504, 505, 506, 507, 509, 510, 511, 512, 513, 514, 515, 516, 517, 520, 521, 522, 523, 600, 601, 602, 700, 701, 702, 800, 801, 802, 803, 804, 805, 806, 903, 907, 910, 911, 912, 913, 914, 915, 916, 918, 919, 920, 921, 922, 923, 924, 1000, 1001, 1002, 1003, 1004, 1005, 1006, 1007, 1008, 1009, 1010, 1100, 1101, 1102, 1200, 1201, 1202, 1203, 1306, 1307, 1308, 1309, 1310, 1311, 1312, 1313, 1314, 1400, 1401]
theorem fr_fX0_run_J76 {r19 : Int × Int → zX} (hr19 : ∀ s, zFr W_fX0_run (r19 s)) (x1 : Int) (x3 : Int) (s0 : Int) (s1 : Int) : zFr W_fX0_run (fX0_run_J76 r19 x1 x3 s0 s1) :=
  (fr_lt fun v5 => (fr_lt fun v6 => (hr19 (v5, v6))))
theorem fr_fX0_run_J75 {r19 : Int × Int → zX} (hr19 : ∀ s, zFr W_fX0_run (r19 s)) (x1 : Int) (x3 : Int) (s0 : Int) : zFr W_fX0_run (fX0_run_J75 r19 x1 x3 s0) :=
  (fr_fX0_run_J76 hr19 x1 x3 s0 0)
theorem fr_fX0_run_B19 (x1 : Int) : ∀ r19 : Int × Int → zX, (∀ s, zFr W_fX0_run (r19 s)) → ∀ s, zFr W_fX0_run (fX0_run_B19 x1 r19 s) := by
  intro r19 hr19 s
  obtain ⟨x2, x3⟩ := s
  unfold fX0_run_B19
  exact (fr_ite (fr_ret _) (fr_gf fun v2 => (fr_al fun v3 => (fr_gf fun v4 => (fr_pf (by decide) (fr_ite (fr_fX0_run_J75 hr19 x1 x3 x2) (fr_ib (fr_cl (fr_mono (by decide) (fr_fX12_tickOf v3)) fun v9 => (fr_ite (fr_fX0_run_J75 hr19 x1 x3 x2) (fr_fX0_run_J76 hr19 x1 x3 x2 1))))))))))
theorem fr_fX0_run (x1 : Int) : zFr W_fX0_run (fX0_run x1) :=
  (fr_cl (fr_mono (by decide) (fr_fX0_isIn x1 1 2000)) fun v1 => (fr_ite (fr_lp (fr_fX0_run_B19 x1) zBIG (0, 0)) (fr_ret _)))
abbrev W_fX0_register : List Nat := []
theorem fr_fX0_register (x1 : Int) (x2 : Int) : zFr W_fX0_register (fX0_register x1 x2) :=
  (fr_cl (fr_mono (by decide) (fr_fX0_processAt x1)) fun v1 => (fr_ite (fr_ret _) (fr_cl (fr_mono (by decide) (fr_fX0_isIn x2 2 5)) fun v3 => (fr_ite (fr_cl (fr_mono (by decide) (fr_fX0_isIn x2 16 23)) fun v4 => (fr_ite (fr_ite (fr_gf fun v6 => (fr_ret _)) (fr_ite (fr_gf fun v8 => (fr_ret _)) (fr_ite (fr_gf fun v10 => (fr_ret _)) (fr_ite (fr_gf fun v12 => (fr_ret _)) (fr_ite (fr_gf fun v14 => (fr_ret _)) (fr_ite (fr_gf fun v16 => (fr_ite (fr_ret _) (fr_ret _))) (fr_ite (fr_gf fun v18 => (fr_ite (fr_ret _) (fr_ret _))) (fr_ret _)))))))) (fr_cl (fr_mono (by decide) (fr_fX9_pointer v1 (zi (x2 - 16)))) fun v19 => (fr_ret _)))) (fr_al fun v20 => (fr_ret _))))))
abbrev W_fX0_process : List Nat := []
theorem fr_fX0_process (x1 : Int) (x2 : Int) : zFr W_fX0_process (fX0_process x1 x2) :=
  (fr_cl (fr_mono (by decide) (fr_fX0_processAt x1)) fun v1 => (fr_ite (fr_ret _) (fr_cl (fr_mono (by decide) (fr_fX0_isIn x2 8 11)) fun v3 => (fr_ite (fr_ite (fr_gf fun v5 => (fr_ret _)) (fr_ite (fr_gf fun v7 => (fr_ret _)) (fr_ite (fr_gf fun v9 => (fr_ret _)) (fr_ite (fr_gf fun v11 => (fr_ret _)) (fr_ite (fr_gf fun v13 => (fr_ret _)) (fr_ite (fr_gf fun v15 => (fr_ret _)) (fr_ite (fr_gf fun v17 => (fr_ret _)) (fr_ite (fr_gf fun v19 => (fr_nn (fr_ret _))) (fr_ite (fr_gf fun v22 => (fr_ite (fr_ret _) (fr_ret _))) (fr_ite (fr_gf fun v24 => (fr_ret _)) (fr_ret _))))))))))) (fr_al fun v25 => (fr_ite (fr_ret _) (fr_ret _)))))))
abbrev W_fX0_stack : List Nat := []
theorem fr_fX0_stack (x1 : Int) (x2 : Int) (x3 : Int) : zFr W_fX0_stack (fX0_stack x1 x2 x3) :=
  (fr_cl (fr_mono (by decide) (fr_fX0_processAt x1)) fun v1 => (fr_ite (fr_ret _) (fr_cl (fr_mono (by decide) (fr_fX0_isIn x2 0 7)) fun v3 => (fr_ite (fr_ret _) (fr_cl (fr_mono (by decide) (fr_fX0_isIn x3 0 63)) fun v4 => (fr_ite (fr_al fun v5 => (fr_ret _)) (fr_ret _)))))))
abbrev W_fX0_known : List Nat := []
theorem fr_fX0_known (x1 : Int) (x2 : Int) : zFr W_fX0_known (fX0_known x1 x2) :=
  (fr_cl (fr_mono (by decide) (fr_fX0_processAt x1)) fun v1 => (fr_ite (fr_ret _) (fr_cl (fr_mono (by decide) (fr_fX12_isKnown v1 x2)) fun v3 => (fr_ite (fr_al fun v4 => (fr_nn (fr_ret _))) (fr_ret _)))))
abbrev W_fX0_link : List Nat := []
theorem fr_fX0_link (x1 : Int) (x2 : Int) (x3 : Int) : zFr W_fX0_link (fX0_link x1 x2 x3) :=
  (fr_cl (fr_mono (by decide) (fr_fX0_processAt x1)) fun v1 => (fr_ite (fr_ret _) (fr_cl (fr_mono (by decide) (fr_fX0_isIn x2 8 31)) fun v3 => (fr_ite (fr_ret _) (fr_cl (fr_mono (by decide) (fr_fX0_isIn x3 0 15)) fun v4 => (fr_ite (fr_ret _) (fr_al fun v5 => (fr_ite (fr_al fun v6 => (fr_al fun v7 => (fr_ret _))) (fr_ret _)))))))))
abbrev W_fX10_has : List Nat := []
theorem fr_fX10_has (x0 : Int) (x1 : Int) : zFr W_fX10_has (fX10_has x0 x1) :=
  (fr_ite (fr_ret _) (fr_gf fun v1 => (fr_ite (fr_ret _) (fr_gf fun v2 => (fr_ite (fr_ret _) (fr_ret _))))))
abbrev W_fX0_event : List Nat := []
theorem fr_fX0_event (x1 : Int) (x2 : Int) (x3 : Int) : zFr W_fX0_event (fX0_event x1 x2 x3) :=
  (fr_cl (fr_mono (by decide) (fr_fX0_processAt x1)) fun v1 => (fr_ite (fr_ret _) (fr_cl (fr_mono (by decide) (fr_fX10_has v1 x2)) fun v3 => (fr_ite (fr_cl (fr_mono (by decide) (fr_fX0_isIn x3 0 3)) fun v4 => (fr_ite (fr_ret _) (fr_al fun v5 => (fr_ret _)))) (fr_ret _)))))
abbrev W_fX0_sum : List Nat := []
theorem fr_fX0_sum (x1 : Int) : zFr W_fX0_sum (fX0_sum x1) :=
  (fr_cl (fr_mono (by decide) (fr_fX0_processAt x1)) fun v1 => (fr_ite (fr_ret _) (fr_gf fun v3 => (fr_ret _))))
abbrev W_fX0_type : List Nat := [6502, 6503]
theorem fr_fX0_type_J88 : zFr W_fX0_type (fX0_type_J88) :=
  (fr_gf fun v3 => (fr_ret _))
theorem fr_fX0_type_B36 (x1 : Int) (x3 : Int) : ∀ r36 : Int → zX, (∀ s, zFr W_fX0_type (r36 s)) → ∀ s, zFr W_fX0_type (fX0_type_B36 x1 x3 r36 s) := by
  intro r36 hr36 x4
  unfold fX0_type_B36
  exact (fr_ite fr_fX0_type_J88 (fr_gf fun v4 => (fr_as (by decide) (fr_gf fun v5 => (fr_pf (by decide) (fr_lt fun v6 => (hr36 v6)))))))
theorem fr_fX0_type (x1 : Int) (x3 : Int) : zFr W_fX0_type (fX0_type x1 x3) :=
  (fr_cl (fr_mono (by decide) (fr_fX0_isIn x3 1 8)) fun v1 => (fr_ite (fr_gf fun v2 => (fr_ite (fr_lp (fr_fX0_type_B36 x1 x3) zBIG 0) (fr_ret _))) (fr_ret _)))
abbrev W_fX0_sign : List Nat := []
theorem fr_fX0_sign_J43 (x0 : Int) : zFr W_fX0_sign (fX0_sign_J43 x0) :=
  (fr_ite (fr_ite (fr_ret _) (fr_ret _)) (fr_ret _))
theorem fr_fX0_sign_J21 (x0 : Int) : zFr W_fX0_sign (fX0_sign_J21 x0) :=
  (fr_ite (fr_fX0_sign_J43 x0) (fr_ite (fr_fX0_sign_J43 x0) (fr_ret _)))
theorem fr_fX0_sign (x0 : Int) : zFr W_fX0_sign (fX0_sign x0) :=
  (fr_ite (fr_fX0_sign_J21 x0) (fr_ite (fr_fX0_sign_J21 x0) (fr_ret _)))
abbrev W_fX64_next : List Nat := [6504, 6505, 6506]
theorem fr_fX64_next_J155 (s1 : Int) : zFr W_fX64_next (fX64_next_J155 s1) :=
  (fr_pf (by decide) (fr_ret _))
theorem fr_fX64_next_J127 (s1 : Int) : zFr W_fX64_next (fX64_next_J127 s1) :=
  (fr_pf (by decide) (fr_gf fun v11 => (fr_gf fun v12 => (fr_ite (fr_gf fun v13 => (fr_fX64_next_J155 (zi (v13 + 1)))) (fr_gf fun v14 => (fr_fX64_next_J155 v14))))))
theorem fr_fX64_next_J110 : zFr W_fX64_next (fX64_next_J110) :=
  (fr_gf fun v9 => (fr_gf fun v10 => (fr_ite (fr_fX64_next_J127 2) (fr_fX64_next_J127 1))))
theorem fr_fX64_next_B71 : ∀ r71 : Int → zX, (∀ s, zFr W_fX64_next (r71 s)) → ∀ s, zFr W_fX64_next (fX64_next_B71 r71 s) := by
  intro r71 hr71 _
  unfold fX64_next_B71
  exact (fr_gf fun v7 => (fr_gf fun v8 => (fr_ite fr_fX64_next_J110 (fr_gf fun v15 => (fr_al fun v16 => (fr_cl (fr_mono (by decide) (fr_fX0_sign v16)) fun v17 => (fr_ite fr_fX64_next_J110 (fr_gf fun v18 => (fr_pf (by decide) (hr71 0))))))))))
theorem fr_fX64_next_J46 : zFr W_fX64_next (fX64_next_J46) :=
  (fr_gf fun v4 => (fr_pf (by decide) (fr_gf fun v5 => (fr_gf fun v6 => (fr_ite (fr_lp fr_fX64_next_B71 zBIG 0) (fr_pf (by decide) (fr_ret _)))))))
theorem fr_fX64_next_B8 : ∀ r8 : Int → zX, (∀ s, zFr W_fX64_next (r8 s)) → ∀ s, zFr W_fX64_next (fX64_next_B8 r8 s) := by
  intro r8 hr8 _
  unfold fX64_next_B8
  exact (fr_gf fun v2 => (fr_gf fun v3 => (fr_ite fr_fX64_next_J46 (fr_gf fun v19 => (fr_al fun v20 => (fr_ite fr_fX64_next_J46 (fr_gf fun v21 => (fr_pf (by decide) (hr8 0)))))))))
theorem fr_fX64_next : zFr W_fX64_next (fX64_next) :=
  (fr_gf fun v1 => (fr_pf (by decide) (fr_lp fr_fX64_next_B8 zBIG 0)))
abbrev W_fX64_is : List Nat := []
theorem fr_fX64_is (x1 : Int) : zFr W_fX64_is (fX64_is x1) :=
  (fr_gf fun v1 => (fr_ite (fr_ret _) (fr_gf fun v2 => (fr_al fun v3 => (fr_ite (fr_ret _) (fr_ret _))))))
abbrev W_fX64_isDirective : List Nat := []
theorem fr_fX64_isDirective_J57 {r20 : Int × Int → zX} (hr20 : ∀ s, zFr W_fX64_isDirective (r20 s)) (x1 : Int) (x3 : Int) (x5 : Int) (s0 : Int) : zFr W_fX64_isDirective (fX64_isDirective_J57 r20 x1 x3 x5 s0) :=
  (fr_lt fun v7 => (hr20 (s0, v7)))
theorem fr_fX64_isDirective_B20 (x1 : Int) (x3 : Int) : ∀ r20 : Int × Int → zX, (∀ s, zFr W_fX64_isDirective (r20 s)) → ∀ s, zFr W_fX64_isDirective (fX64_isDirective_B20 x1 x3 r20 s) := by
  intro r20 hr20 s
  obtain ⟨x4, x5⟩ := s
  unfold fX64_isDirective_B20
  exact (fr_nn (fr_ite (fr_rb _) (fr_ite (fr_rb _) (fr_al fun v5 => (fr_sc fun v6 => (fr_ite (fr_fX64_isDirective_J57 hr20 x1 x3 x5 0) (fr_fX64_isDirective_J57 hr20 x1 x3 x5 1)))))))
theorem fr_fX64_isDirective_J15 (x1 : Int) (x3 : Int) (s0 : Int) : zFr W_fX64_isDirective (fX64_isDirective_J15 x1 x3 s0) :=
  (fr_lp (fr_fX64_isDirective_B20 x1 x3) zBIG (s0, 0))
theorem fr_fX64_isDirective (x1 : Int) (x2 : Int) (x3 : Int) : zFr W_fX64_isDirective (fX64_isDirective x1 x2 x3) :=
  (fr_nn (fr_ite (fr_fX64_isDirective_J15 x1 x3 0) (fr_fX64_isDirective_J15 x1 x3 1)))
abbrev W_fX64_wrong : List Nat := [6508, 6509]
theorem fr_fX64_wrong (x1 : Int) (x2 : Int) : zFr W_fX64_wrong (fX64_wrong x1 x2) :=
  (fr_gf fun v1 => (fr_ite (fr_ret _) (fr_pf (by decide) (fr_pf (by decide) (fr_ret _)))))
abbrev W_fX64_isLabelWord : List Nat := []
theorem fr_fX64_isLabelWord : zFr W_fX64_isLabelWord (fX64_isLabelWord) :=
  (fr_gf fun v1 => (fr_al fun v2 => (fr_ite (fr_ret _) (fr_gf fun v3 => (fr_al fun v4 => (fr_ite (fr_ret _) (fr_gf fun v5 => (fr_gf fun v6 => (fr_ite (fr_ret _) (fr_ret _))))))))))
abbrev W_fX64_packed : List Nat := []
theorem fr_fX64_packed_J40 {r5 : Int × Int → zX} (hr5 : ∀ s, zFr W_fX64_packed (r5 s)) (x1 : Int) (x2 : Int) (x5 : Int) (s0 : Int) (s1 : Int) : zFr W_fX64_packed (fX64_packed_J40 r5 x1 x2 x5 s0 s1) :=
  (fr_lt fun v1 => (fr_lt fun v2 => (hr5 (v1, v2))))
theorem fr_fX64_packed_B5 (x1 : Int) (x2 : Int) : ∀ r5 : Int × Int → zX, (∀ s, zFr W_fX64_packed (r5 s)) → ∀ s, zFr W_fX64_packed (fX64_packed_B5 x1 x2 r5 s) := by
  intro r5 hr5 s
  obtain ⟨x3, x5⟩ := s
  unfold fX64_packed_B5
  exact (fr_ite (fr_ret _) (fr_ite (fr_fX64_packed_J40 hr5 x1 x2 x5 (zl (x3 * 64)) 0) (fr_al fun v3 => (fr_cl (fr_mono (by decide) (fr_fX0_sign v3)) fun v4 => (fr_fX64_packed_J40 hr5 x1 x2 x5 (zl (x3 * 64)) v4)))))
theorem fr_fX64_packed (x1 : Int) (x2 : Int) : zFr W_fX64_packed (fX64_packed x1 x2) :=
  (fr_lp (fr_fX64_packed_B5 x1 x2) zBIG (0, 0))
abbrev W_fX64_name : List Nat := [6504, 6505, 6506, 6508, 6509]
theorem fr_fX64_name : zFr W_fX64_name (fX64_name) :=
  (fr_gf fun v1 => (fr_ite (fr_cl (fr_mono (by decide) fr_fX64_isLabelWord) fun v2 => (fr_ite (fr_gf fun v3 => (fr_gf fun v4 => (fr_cl (fr_mono (by decide) (fr_fX64_packed v3 v4)) fun v5 => (fr_cl (fr_mono (by decide) fr_fX64_next) fun _ => (fr_ret _))))) (fr_gf fun v7 => (fr_cl (fr_mono (by decide) (fr_fX64_wrong 2 v7)) fun v8 => (fr_ret _))))) (fr_gf fun v9 => (fr_cl (fr_mono (by decide) (fr_fX64_wrong 1 v9)) fun v10 => (fr_ret _)))))
abbrev W_fX64_isEnd : List Nat := [6508, 6509]
theorem fr_fX64_isEnd : zFr W_fX64_isEnd (fX64_isEnd) :=
  (fr_gf fun v1 => (fr_ite (fr_ret _) (fr_gf fun v2 => (fr_cl (fr_mono (by decide) (fr_fX64_wrong 1 v2)) fun v3 => (fr_ite (fr_ret _) (fr_ret _))))))
abbrev W_fX64_findLabel : List Nat := []
theorem fr_fX64_findLabel_B2 (x1 : Int) : ∀ r2 : Int → zX, (∀ s, zFr W_fX64_findLabel (r2 s)) → ∀ s, zFr W_fX64_findLabel (fX64_findLabel_B2 x1 r2 s) := by
  intro r2 hr2 x3
  unfold fX64_findLabel_B2
  exact (fr_gf fun v1 => (fr_ite (fr_ret _) (fr_al fun v2 => (fr_ite (fr_lt fun v3 => (hr2 v3)) (fr_ret _)))))
theorem fr_fX64_findLabel (x1 : Int) : zFr W_fX64_findLabel (fX64_findLabel x1) :=
  (fr_lp (fr_fX64_findLabel_B2 x1) zBIG 0)
abbrev W_fX64_define : List Nat := [6504, 6505, 6506, 6508, 6509, 6517, 6518]
theorem fr_fX64_define : zFr W_fX64_define (fX64_define) :=
  (fr_gf fun v1 => (fr_cl (fr_mono (by decide) fr_fX64_name) fun v2 => (fr_gf fun v3 => (fr_ite (fr_gf fun v4 => (fr_ite (fr_gf fun v5 => (fr_ite (fr_gf fun v6 => (fr_as (by decide) (fr_gf fun v7 => (fr_pf (by decide) (fr_cl (fr_mono (by decide) fr_fX64_isEnd) fun v8 => (fr_rb _)))))) (fr_cl (fr_mono (by decide) (fr_fX64_wrong 6 v1)) fun v9 => (fr_rb _)))) (fr_cl (fr_mono (by decide) (fr_fX64_findLabel v2)) fun v10 => (fr_ite (fr_ret _) (fr_cl (fr_mono (by decide) (fr_fX64_wrong 5 v1)) fun v11 => (fr_ite (fr_ret _) (fr_ret _))))))) (fr_ret _)))))
abbrev W_fX64_isDigits : List Nat := []
theorem fr_fX64_isDigits_J53 {r14 : Int × Int → zX} (hr14 : ∀ s, zFr W_fX64_isDigits (r14 s)) (x2 : Int) (x4 : Int) (s0 : Int) : zFr W_fX64_isDigits (fX64_isDigits_J53 r14 x2 x4 s0) :=
  (fr_lt fun v1 => (hr14 (s0, v1)))
theorem fr_fX64_isDigits_J52 {r14 : Int × Int → zX} (hr14 : ∀ s, zFr W_fX64_isDigits (r14 s)) (x2 : Int) (x4 : Int) : zFr W_fX64_isDigits (fX64_isDigits_J52 r14 x2 x4) :=
  (fr_fX64_isDigits_J53 hr14 x2 x4 0)
theorem fr_fX64_isDigits_B14 (x2 : Int) : ∀ r14 : Int × Int → zX, (∀ s, zFr W_fX64_isDigits (r14 s)) → ∀ s, zFr W_fX64_isDigits (fX64_isDigits_B14 x2 r14 s) := by
  intro r14 hr14 s
  obtain ⟨x3, x4⟩ := s
  unfold fX64_isDigits_B14
  exact (fr_ite (fr_rb _) (fr_ite (fr_fX64_isDigits_J52 hr14 x2 x4) (fr_al fun v2 => (fr_ite (fr_fX64_isDigits_J52 hr14 x2 x4) (fr_al fun v3 => (fr_ite (fr_fX64_isDigits_J52 hr14 x2 x4) (fr_fX64_isDigits_J53 hr14 x2 x4 1)))))))
theorem fr_fX64_isDigits_J10 (x1 : Int) (x2 : Int) (s0 : Int) : zFr W_fX64_isDigits (fX64_isDigits_J10 x1 x2 s0) :=
  (fr_lp (fr_fX64_isDigits_B14 x2) zBIG (s0, x1))
theorem fr_fX64_isDigits (x1 : Int) (x2 : Int) : zFr W_fX64_isDigits (fX64_isDigits x1 x2) :=
  (fr_ite (fr_fX64_isDigits_J10 x1 x2 0) (fr_fX64_isDigits_J10 x1 x2 1))
abbrev W_fX64_isNumber : List Nat := []
theorem fr_fX64_isNumber : zFr W_fX64_isNumber (fX64_isNumber) :=
  (fr_gf fun v1 => (fr_ite (fr_ret _) (fr_gf fun v2 => (fr_gf fun v3 => (fr_cl (fr_mono (by decide) (fr_fX64_isDigits v2 v3)) fun v4 => (fr_ite (fr_ret _) (fr_ret _)))))))
abbrev W_fX64_digits : List Nat := []
theorem fr_fX64_digits_B25 : ∀ r25 : Int × Int → zX, (∀ s, zFr W_fX64_digits (r25 s)) → ∀ s, zFr W_fX64_digits (fX64_digits_B25 r25 s) := by
  intro r25 hr25 s
  obtain ⟨x1, x3⟩ := s
  unfold fX64_digits_B25
  exact (fr_gf fun v4 => (fr_ite (fr_ret _) (fr_al fun v5 => (fr_lt fun v6 => (fr_lt fun v7 => (hr25 (v6, v7)))))))
theorem fr_fX64_digits : zFr W_fX64_digits (fX64_digits) :=
  (fr_gf fun v1 => (fr_gf fun v2 => (fr_ite (fr_gf fun v3 => (fr_lp fr_fX64_digits_B25 zBIG (0, v3))) (fr_ret _))))
abbrev W_fX64_number : List Nat := [6504, 6505, 6506, 6508, 6509]
theorem fr_fX64_number_J37 : zFr W_fX64_number (fX64_number_J37) :=
  (fr_gf fun v3 => (fr_cl (fr_mono (by decide) (fr_fX64_wrong 3 v3)) fun v4 => (fr_ret _)))
theorem fr_fX64_number (x1 : Int) : zFr W_fX64_number (fX64_number x1) :=
  (fr_cl (fr_mono (by decide) fr_fX64_isNumber) fun v1 => (fr_ite (fr_cl (fr_mono (by decide) fr_fX64_digits) fun v2 => (fr_ite fr_fX64_number_J37 (fr_ite (fr_cl (fr_mono (by decide) fr_fX64_next) fun _ => (fr_ret _)) fr_fX64_number_J37))) (fr_gf fun v6 => (fr_cl (fr_mono (by decide) (fr_fX64_wrong 1 v6)) fun v7 => (fr_ret _)))))
abbrev W_fX64_put : List Nat := [6520, 6521]
theorem fr_fX64_put_J31 : zFr W_fX64_put (fX64_put_J31) :=
  (fr_gf fun v2 => (fr_pf (by decide) (fr_ret _)))
theorem fr_fX64_put (x1 : Int) : zFr W_fX64_put (fX64_put x1) :=
  (fr_gf fun v1 => (fr_ite fr_fX64_put_J31 (fr_gf fun v3 => (fr_ite fr_fX64_put_J31 (fr_gf fun v4 => (fr_as (by decide) fr_fX64_put_J31))))))
abbrev W_fX64_space : List Nat := [6504, 6505, 6506, 6508, 6509, 6520, 6521]
theorem fr_fX64_space_J35 : zFr W_fX64_space (fX64_space_J35) :=
  (fr_cl (fr_mono (by decide) fr_fX64_isEnd) fun v3 => (fr_rb _))
theorem fr_fX64_space_B19 (x1 : Int) : ∀ r19 : Int → zX, (∀ s, zFr W_fX64_space (r19 s)) → ∀ s, zFr W_fX64_space (fX64_space_B19 x1 r19 s) := by
  intro r19 hr19 x2
  unfold fX64_space_B19
  exact (fr_ite fr_fX64_space_J35 (fr_cl (fr_mono (by decide) (fr_fX64_put 0)) fun _ => (fr_lt fun v5 => (hr19 v5))))
theorem fr_fX64_space : zFr W_fX64_space (fX64_space) :=
  (fr_cl (fr_mono (by decide) (fr_fX64_number 1023)) fun v1 => (fr_gf fun v2 => (fr_ite (fr_lp (fr_fX64_space_B19 v1) zBIG 0) (fr_ret _))))
abbrev W_fX64_takes : List Nat := [6504, 6505, 6506, 6508, 6509]
theorem fr_fX64_takes (x1 : Int) : zFr W_fX64_takes (fX64_takes x1) :=
  (fr_cl (fr_mono (by decide) (fr_fX64_is x1)) fun v1 => (fr_ite (fr_cl (fr_mono (by decide) fr_fX64_next) fun _ => (fr_ret _)) (fr_gf fun v3 => (fr_cl (fr_mono (by decide) (fr_fX64_wrong 1 v3)) fun v4 => (fr_rb _)))))
abbrev W_fX64_term : List Nat := [6504, 6505, 6506, 6508, 6509, 6522]
theorem fr_fX64_term_J115 (s1 : Int) (s2 : Int) (s3 : Int) : zFr W_fX64_term (fX64_term_J115 s1 s2 s3) :=
  (fr_pf (by decide) (fr_ret _))
theorem fr_fX64_term_J93 (x1 : Int) (x6 : Int) : zFr W_fX64_term (fX64_term_J93 x1 x6) :=
  (fr_gf fun v7 => (fr_ite (fr_al fun v8 => (fr_fX64_term_J115 v7 x1 v8)) (fr_fX64_term_J115 v7 x1 0)))
theorem fr_fX64_term (x1 : Int) : zFr W_fX64_term (fX64_term x1) :=
  (fr_gf fun v1 => (fr_cl (fr_mono (by decide) fr_fX64_isNumber) fun v2 => (fr_ite (fr_cl (fr_mono (by decide) fr_fX64_name) fun v3 => (fr_gf fun v4 => (fr_ite (fr_cl (fr_mono (by decide) (fr_fX64_findLabel v3)) fun v5 => (fr_gf fun v6 => (fr_ite (fr_fX64_term_J93 x1 v5) (fr_ite (fr_fX64_term_J93 x1 v5) (fr_cl (fr_mono (by decide) (fr_fX64_wrong 5 v1)) fun v9 => (fr_rb _)))))) (fr_ret _)))) (fr_cl (fr_mono (by decide) fr_fX64_digits) fun v10 => (fr_ite (fr_gf fun v11 => (fr_pf (by decide) (fr_cl (fr_mono (by decide) fr_fX64_next) fun _ => (fr_ret _)))) (fr_cl (fr_mono (by decide) (fr_fX64_wrong 3 v1)) fun v13 => (fr_rb _)))))))
abbrev W_fX64_expression : List Nat := [6504, 6505, 6506, 6508, 6509, 6522]
theorem fr_fX64_expression_J131 (x5 : Int) : zFr W_fX64_expression (fX64_expression_J131 x5) :=
  (fr_cl (fr_mono (by decide) (fr_fX64_wrong 3 x5)) fun v5 => (fr_ite (fr_ret _) (fr_ret _)))
theorem fr_fX64_expression_J106 (x1 : Int) (x3 : Int) (x5 : Int) : zFr W_fX64_expression (fX64_expression_J106 x1 x3 x5) :=
  (fr_gf fun v3 => (fr_ite (fr_ret _) (fr_gf fun v4 => (fr_ite (fr_fX64_expression_J131 x5) (fr_gf fun v6 => (fr_ite (fr_ret _) (fr_fX64_expression_J131 x5)))))))
theorem fr_fX64_expression_J97 {r35 : Int × Int → zX} (hr35 : ∀ s, zFr W_fX64_expression (r35 s)) (x1 : Int) (x3 : Int) (x5 : Int) (x8 : Int) (s0 : Int) : zFr W_fX64_expression (fX64_expression_J97 r35 x1 x3 x5 x8 s0) :=
  (fr_cl (fr_mono (by decide) fr_fX64_next) fun _ => (hr35 (s0, x8)))
theorem fr_fX64_expression_J74 {r35 : Int × Int → zX} (hr35 : ∀ s, zFr W_fX64_expression (r35 s)) (x1 : Int) (x3 : Int) (x5 : Int) (x6 : Int) (s0 : Int) : zFr W_fX64_expression (fX64_expression_J74 r35 x1 x3 x5 x6 s0) :=
  (fr_ite (hr35 (x6, s0)) (fr_cl (fr_mono (by decide) (fr_fX64_is 43)) fun v9 => (fr_ite (fr_fX64_expression_J97 hr35 x1 x3 x5 s0 (-1)) (fr_fX64_expression_J97 hr35 x1 x3 x5 s0 1))))
theorem fr_fX64_expression_J69 {r35 : Int × Int → zX} (hr35 : ∀ s, zFr W_fX64_expression (r35 s)) (x1 : Int) (x3 : Int) (x5 : Int) (x6 : Int) : zFr W_fX64_expression (fX64_expression_J69 r35 x1 x3 x5 x6) :=
  (fr_fX64_expression_J74 hr35 x1 x3 x5 x6 1)
theorem fr_fX64_expression_B35 (x1 : Int) (x3 : Int) (x5 : Int) : ∀ r35 : Int × Int → zX, (∀ s, zFr W_fX64_expression (r35 s)) → ∀ s, zFr W_fX64_expression (fX64_expression_B35 x1 x3 x5 r35 s) := by
  intro r35 hr35 s
  obtain ⟨x6, x8⟩ := s
  unfold fX64_expression_B35
  exact (fr_ite (fr_fX64_expression_J106 x1 x3 x5) (fr_cl (fr_mono (by decide) (fr_fX64_term x6)) fun v7 => (fr_ite (fr_cl (fr_mono (by decide) (fr_fX64_is 43)) fun v8 => (fr_ite (fr_fX64_expression_J69 hr35 x1 x3 x5 x6) (fr_cl (fr_mono (by decide) (fr_fX64_is 45)) fun v11 => (fr_ite (fr_fX64_expression_J74 hr35 x1 x3 x5 x6 0) (fr_fX64_expression_J69 hr35 x1 x3 x5 x6))))) (fr_ret _))))
theorem fr_fX64_expression_J32 (x1 : Int) (x3 : Int) (x5 : Int) (x6 : Int) : zFr W_fX64_expression (fX64_expression_J32 x1 x3 x5 x6) :=
  (fr_lp (fr_fX64_expression_B35 x1 x3 x5) zBIG (x6, 1))
theorem fr_fX64_expression (x1 : Int) (x3 : Int) : zFr W_fX64_expression (fX64_expression x1 x3) :=
  (fr_gf fun v1 => (fr_pf (by decide) (fr_cl (fr_mono (by decide) (fr_fX64_is 45)) fun v2 => (fr_ite (fr_fX64_expression_J32 x1 x3 v1 1) (fr_cl (fr_mono (by decide) fr_fX64_next) fun _ => (fr_fX64_expression_J32 x1 x3 v1 (-1)))))))
abbrev W_fX64_offset : List Nat := [6504, 6505, 6506, 6508, 6509, 6522]
theorem fr_fX64_offset : zFr W_fX64_offset (fX64_offset) :=
  (fr_cl (fr_mono (by decide) (fr_fX64_expression (-131072) 262143)) fun v1 => (fr_rb _))
abbrev W_fX64_pointer : List Nat := [6504, 6505, 6506, 6508, 6509, 6520, 6521, 6522]
theorem fr_fX64_pointer_J91 (x3 : Int) : zFr W_fX64_pointer (fX64_pointer_J91 x3) :=
  (fr_cl (fr_mono (by decide) (fr_fX64_put x3)) fun _ => (fr_cl (fr_mono (by decide) fr_fX64_isEnd) fun v12 => (fr_rb _)))
theorem fr_fX64_pointer : zFr W_fX64_pointer (fX64_pointer) :=
  (fr_cl (fr_mono (by decide) (fr_fX64_number 31)) fun v1 => (fr_gf fun v2 => (fr_ite (fr_ret _) (fr_cl (fr_mono (by decide) (fr_fX64_takes 44)) fun v3 => (fr_ite (fr_cl (fr_mono (by decide) (fr_fX64_number 7)) fun v4 => (fr_gf fun v5 => (fr_ite (fr_ret _) (fr_cl (fr_mono (by decide) (fr_fX64_takes 44)) fun v6 => (fr_ite (fr_ret _) (fr_cl (fr_mono (by decide) fr_fX64_offset) fun v7 => (fr_ite (fr_gf fun v8 => (fr_cl (fr_mono (by decide) (fr_fX0_pointerWord v1 (zi (v8 % 262144)) v4)) fun v9 => (fr_cl (fr_mono (by decide) (fr_fX64_is 42)) fun v10 => (fr_ite (fr_fX64_pointer_J91 v9) (fr_lt fun v13 => (fr_cl (fr_mono (by decide) fr_fX64_next) fun _ => (fr_fX64_pointer_J91 v13))))))) (fr_ret _)))))))) (fr_ret _))))))
abbrev W_fX64_wordList : List Nat := [6504, 6505, 6506, 6508, 6509, 6520, 6521, 6522]
theorem fr_fX64_wordList_J125 : zFr W_fX64_wordList (fX64_wordList_J125) :=
  (fr_cl (fr_mono (by decide) fr_fX64_isEnd) fun v1 => (fr_rb _))
theorem fr_fX64_wordList_J107 {r2 : Int → zX} (hr2 : ∀ s, zFr W_fX64_wordList (r2 s)) : zFr W_fX64_wordList (fX64_wordList_J107 r2) :=
  (fr_cl (fr_mono (by decide) (fr_fX64_is 44)) fun v6 => (fr_ite (hr2 v6) (fr_cl (fr_mono (by decide) fr_fX64_next) fun _ => (hr2 v6))))
theorem fr_fX64_wordList_J51 : zFr W_fX64_wordList (fX64_wordList_J51) :=
  (fr_gf fun v17 => (fr_cl (fr_mono (by decide) (fr_fX64_wrong 2 v17)) fun v18 => (fr_rb _)))
theorem fr_fX64_wordList_J27 : zFr W_fX64_wordList (fX64_wordList_J27) :=
  (fr_gf fun v19 => (fr_cl (fr_mono (by decide) (fr_fX64_wrong 1 v19)) fun v20 => (fr_rb _)))
theorem fr_fX64_wordList_B2 : ∀ r2 : Int → zX, (∀ s, zFr W_fX64_wordList (r2 s)) → ∀ s, zFr W_fX64_wordList (fX64_wordList_B2 r2 s) := by
  intro r2 hr2 x1
  unfold fX64_wordList_B2
  exact (fr_ite fr_fX64_wordList_J125 (fr_cl (fr_mono (by decide) (fr_fX64_is 39)) fun v2 => (fr_ite (fr_cl (fr_mono (by decide) (fr_fX64_expression (-34359738368) 68719476735)) fun v3 => (fr_ite (fr_gf fun v4 => (fr_cl (fr_mono (by decide) (fr_fX64_put v4)) fun _ => (fr_fX64_wordList_J107 hr2))) (fr_ret _))) (fr_cl (fr_mono (by decide) fr_fX64_next) fun _ => (fr_gf fun v9 => (fr_ite (fr_gf fun v10 => (fr_gf fun v11 => (fr_ite (fr_gf fun v12 => (fr_gf fun v13 => (fr_cl (fr_mono (by decide) (fr_fX64_packed v12 v13)) fun v14 => (fr_cl (fr_mono (by decide) (fr_fX64_put v14)) fun _ => (fr_cl (fr_mono (by decide) fr_fX64_next) fun _ => (fr_fX64_wordList_J107 hr2)))))) fr_fX64_wordList_J51))) fr_fX64_wordList_J27))))))
theorem fr_fX64_wordList : zFr W_fX64_wordList (fX64_wordList) :=
  (fr_lp fr_fX64_wordList_B2 zBIG 1)
abbrev W_fX64_operation : List Nat := []
theorem fr_fX64_operation_J157 {r2 : Int → zX} (hr2 : ∀ s, zFr W_fX64_operation (r2 s)) (x1 : Int) (x2 : Int) (x3 : Int) : zFr W_fX64_operation (fX64_operation_J157 r2 x1 x2 x3) :=
  (fr_lt fun v5 => (hr2 v5))
theorem fr_fX64_operation_J109 {r2 : Int → zX} (hr2 : ∀ s, zFr W_fX64_operation (r2 s)) (x1 : Int) (x2 : Int) (x3 : Int) (x4 : Int) (x6 : Int) : zFr W_fX64_operation (fX64_operation_J109 r2 x1 x2 x3 x4 x6) :=
  (fr_ite (fr_fX64_operation_J157 hr2 x1 x2 x3) (fr_nn (fr_ite (fr_ret _) (fr_al fun v7 => (fr_ite (fr_fX64_operation_J157 hr2 x1 x2 x3) (fr_al fun v8 => (fr_ite (fr_fX64_operation_J157 hr2 x1 x2 x3) (fr_ret _))))))))
theorem fr_fX64_operation_J101 {r2 : Int → zX} (hr2 : ∀ s, zFr W_fX64_operation (r2 s)) {r62 : Int × Int → zX} (hr62 : ∀ s, zFr W_fX64_operation (r62 s)) (x1 : Int) (x2 : Int) (x3 : Int) (x4 : Int) (x5 : Int) (x7 : Int) (s0 : Int) : zFr W_fX64_operation (fX64_operation_J101 r2 r62 x1 x2 x3 x4 x5 x7 s0) :=
  (fr_lt fun v12 => (hr62 (s0, v12)))
theorem fr_fX64_operation_B62 {r2 : Int → zX} (hr2 : ∀ s, zFr W_fX64_operation (r2 s)) (x1 : Int) (x2 : Int) (x3 : Int) (x4 : Int) (x5 : Int) : ∀ r62 : Int × Int → zX, (∀ s, zFr W_fX64_operation (r62 s)) → ∀ s, zFr W_fX64_operation (fX64_operation_B62 r2 x1 x2 x3 x4 x5 r62 s) := by
  intro r62 hr62 s
  obtain ⟨x6, x7⟩ := s
  unfold fX64_operation_B62
  exact (fr_ite (fr_fX64_operation_J109 hr2 x1 x2 x3 x4 x6) (fr_ite (fr_fX64_operation_J109 hr2 x1 x2 x3 x4 x6) (fr_al fun v9 => (fr_nn (fr_sc fun v11 => (fr_ite (fr_fX64_operation_J101 hr2 hr62 x1 x2 x3 x4 x5 x7 0) (fr_fX64_operation_J101 hr2 hr62 x1 x2 x3 x4 x5 x7 1)))))))
theorem fr_fX64_operation_J57 {r2 : Int → zX} (hr2 : ∀ s, zFr W_fX64_operation (r2 s)) (x1 : Int) (x2 : Int) (x3 : Int) (x4 : Int) (x5 : Int) (s0 : Int) : zFr W_fX64_operation (fX64_operation_J57 r2 x1 x2 x3 x4 x5 s0) :=
  (fr_lp (fr_fX64_operation_B62 hr2 x1 x2 x3 x4 x5) zBIG (s0, 0))
theorem fr_fX64_operation_J49 {r2 : Int → zX} (hr2 : ∀ s, zFr W_fX64_operation (r2 s)) (x1 : Int) (x2 : Int) (x3 : Int) (x4 : Int) (x5 : Int) (s0 : Int) (s1 : Int) : zFr W_fX64_operation (fX64_operation_J49 r2 x1 x2 x3 x4 x5 s0 s1) :=
  (fr_ite (fr_fX64_operation_J57 hr2 x1 x2 x3 x4 x5 0) (fr_fX64_operation_J57 hr2 x1 x2 x3 x4 x5 1))
theorem fr_fX64_operation_B2 (x1 : Int) (x2 : Int) : ∀ r2 : Int → zX, (∀ s, zFr W_fX64_operation (r2 s)) → ∀ s, zFr W_fX64_operation (fX64_operation_B2 x1 x2 r2 s) := by
  intro r2 hr2 x3
  unfold fX64_operation_B2
  exact (fr_ite (fr_ret _) (fr_ib (fr_lt fun v4 => (fr_ite (fr_fX64_operation_J49 hr2 x1 x2 x3 x3 v4 (zi (x2 - x1)) v4) (fr_fX64_operation_J49 hr2 x1 x2 x3 x3 v4 (zi (x2 - x1)) (zi (v4 + 1)))))))
theorem fr_fX64_operation (x1 : Int) (x2 : Int) : zFr W_fX64_operation (fX64_operation x1 x2) :=
  (fr_lp (fr_fX64_operation_B2 x1 x2) zBIG 0)
abbrev W_fX64_which : List Nat := []
theorem fr_fX64_which_B2 (x1 : Int) : ∀ r2 : Int → zX, (∀ s, zFr W_fX64_which (r2 s)) → ∀ s, zFr W_fX64_which (fX64_which_B2 x1 r2 s) := by
  intro r2 hr2 x2
  unfold fX64_which_B2
  exact (fr_ib (fr_ite (fr_ret _) (fr_lt fun v3 => (hr2 v3))))
theorem fr_fX64_which (x1 : Int) : zFr W_fX64_which (fX64_which x1) :=
  (fr_lp (fr_fX64_which_B2 x1) zBIG 0)
abbrev W_fX64_ahead : List Nat := []
theorem fr_fX64_ahead_J30 (x1 : Int) : zFr W_fX64_ahead (fX64_ahead_J30 x1) :=
  (fr_gf fun v3 => (fr_ite (fr_ret _) (fr_al fun v4 => (fr_ret _))))
theorem fr_fX64_ahead_B5 : ∀ r5 : Int → zX, (∀ s, zFr W_fX64_ahead (r5 s)) → ∀ s, zFr W_fX64_ahead (fX64_ahead_B5 r5 s) := by
  intro r5 hr5 x1
  unfold fX64_ahead_B5
  exact (fr_gf fun v2 => (fr_ite (fr_fX64_ahead_J30 x1) (fr_al fun v5 => (fr_ite (fr_fX64_ahead_J30 x1) (fr_lt fun v6 => (hr5 v6))))))
theorem fr_fX64_ahead : zFr W_fX64_ahead (fX64_ahead) :=
  (fr_gf fun v1 => (fr_lp fr_fX64_ahead_B5 zBIG v1))
abbrev W_fX64_linkFor : List Nat := [6508, 6509, 6513, 6514, 6515]
theorem fr_fX64_linkFor_J45 (x1 : Int) (x3 : Int) (x5 : Int) : zFr W_fX64_linkFor (fX64_linkFor_J45 x1 x3 x5) :=
  (fr_gf fun v2 => (fr_ite (fr_gf fun v3 => (fr_as (by decide) (fr_gf fun v4 => (fr_as (by decide) (fr_gf fun v5 => (fr_pf (by decide) (fr_gf fun v6 => (fr_ret _)))))))) (fr_cl (fr_mono (by decide) (fr_fX64_wrong 6 x5)) fun v7 => (fr_ret _))))
theorem fr_fX64_linkFor_J39 {r3 : Int → zX} (hr3 : ∀ s, zFr W_fX64_linkFor (r3 s)) (x1 : Int) (x3 : Int) (x5 : Int) (x6 : Int) : zFr W_fX64_linkFor (fX64_linkFor_J39 r3 x1 x3 x5 x6) :=
  (fr_lt fun v9 => (hr3 v9))
theorem fr_fX64_linkFor_B3 (x1 : Int) (x3 : Int) (x5 : Int) : ∀ r3 : Int → zX, (∀ s, zFr W_fX64_linkFor (r3 s)) → ∀ s, zFr W_fX64_linkFor (fX64_linkFor_B3 x1 x3 x5 r3 s) := by
  intro r3 hr3 x6
  unfold fX64_linkFor_B3
  exact (fr_gf fun v1 => (fr_ite (fr_fX64_linkFor_J45 x1 x3 x5) (fr_al fun v8 => (fr_ite (fr_fX64_linkFor_J39 hr3 x1 x3 x5 x6) (fr_al fun v10 => (fr_ite (fr_fX64_linkFor_J39 hr3 x1 x3 x5 x6) (fr_ret _)))))))
theorem fr_fX64_linkFor (x1 : Int) (x3 : Int) (x5 : Int) : zFr W_fX64_linkFor (fX64_linkFor x1 x3 x5) :=
  (fr_lp (fr_fX64_linkFor_B3 x1 x3 x5) zBIG 0)
abbrev W_fX64_addressed : List Nat := [6504, 6505, 6506, 6508, 6509, 6513, 6514, 6515, 6522, 6523, 6524]
theorem fr_fX64_addressed_J233 : zFr W_fX64_addressed (fX64_addressed_J233) :=
  (fr_cl (fr_mono (by decide) fr_fX64_offset) fun v4 => (fr_rb _))
theorem fr_fX64_addressed_J217 (s1 : Int) : zFr W_fX64_addressed (fX64_addressed_J217 s1) :=
  (fr_pf (by decide) (fr_gf fun v13 => (fr_ite (fr_ret _) (fr_ret _))))
theorem fr_fX64_addressed_J145 : zFr W_fX64_addressed (fX64_addressed_J145) :=
  (fr_gf fun v3 => (fr_ite fr_fX64_addressed_J233 (fr_cl (fr_mono (by decide) fr_fX64_ahead) fun v5 => (fr_ite fr_fX64_addressed_J233 (fr_gf fun v6 => (fr_cl (fr_mono (by decide) fr_fX64_name) fun v7 => (fr_gf fun v8 => (fr_ite (fr_cl (fr_mono (by decide) fr_fX64_next) fun _ => (fr_cl (fr_mono (by decide) fr_fX64_name) fun v10 => (fr_pf (by decide) (fr_gf fun v11 => (fr_ite (fr_cl (fr_mono (by decide) (fr_fX64_linkFor v7 v10 v6)) fun v12 => (fr_fX64_addressed_J217 v12)) (fr_fX64_addressed_J217 0)))))) (fr_ret _)))))))))
theorem fr_fX64_addressed : zFr W_fX64_addressed (fX64_addressed) :=
  (fr_pf (by decide) (fr_pf (by decide) (fr_cl (fr_mono (by decide) (fr_fX64_is 35)) fun v1 => (fr_ite (fr_gf fun v2 => (fr_ite fr_fX64_addressed_J145 (fr_cl (fr_mono (by decide) fr_fX64_ahead) fun v14 => (fr_ite fr_fX64_addressed_J145 (fr_gf fun v15 => (fr_gf fun v16 => (fr_ite fr_fX64_addressed_J145 (fr_gf fun v17 => (fr_al fun v18 => (fr_ite fr_fX64_addressed_J145 (fr_gf fun v19 => (fr_al fun v20 => (fr_ite fr_fX64_addressed_J145 (fr_gf fun v21 => (fr_al fun v22 => (fr_ite fr_fX64_addressed_J145 (fr_pf (by decide) (fr_gf fun v23 => (fr_al fun v24 => (fr_pf (by decide) (fr_cl (fr_mono (by decide) fr_fX64_next) fun _ => (fr_cl (fr_mono (by decide) fr_fX64_next) fun _ => (fr_cl (fr_mono (by decide) fr_fX64_offset) fun v27 => (fr_rb _)))))))))))))))))))))))) (fr_cl (fr_mono (by decide) fr_fX64_next) fun _ => (fr_pf (by decide) (fr_cl (fr_mono (by decide) fr_fX64_offset) fun v29 => (fr_rb _))))))))
abbrev W_fX64_operand : List Nat := [6504, 6505, 6506, 6508, 6509, 6513, 6514, 6515, 6520, 6521, 6522, 6523, 6524]
theorem fr_fX64_operand_J211 (x3 : Int) (x5 : Int) (x7 : Int) : zFr W_fX64_operand (fX64_operand_J211 x3 x5 x7) :=
  (fr_gf fun v9 => (fr_gf fun v10 => (fr_cl (fr_mono (by decide) (fr_fX64_put (zoR (zoR (zoR (zoR x3 (zl (v9 * 134217728))) (zl (v10 * 16777216))) (zl (x7 * 262144))) x5))) fun _ => (fr_cl (fr_mono (by decide) fr_fX64_isEnd) fun v12 => (fr_rb _)))))
theorem fr_fX64_operand_J179 : zFr W_fX64_operand (fX64_operand_J179) :=
  (fr_gf fun v15 => (fr_cl (fr_mono (by decide) (fr_fX64_wrong 1 v15)) fun v16 => (fr_rb _)))
theorem fr_fX64_operand_J96 (x3 : Int) (x5 : Int) : zFr W_fX64_operand (fX64_operand_J96 x3 x5) :=
  (fr_cl (fr_mono (by decide) (fr_fX64_is 44)) fun v8 => (fr_ite (fr_fX64_operand_J211 x3 x5 0) (fr_cl (fr_mono (by decide) fr_fX64_next) fun _ => (fr_gf fun v14 => (fr_ite fr_fX64_operand_J179 (fr_gf fun v17 => (fr_gf fun v18 => (fr_ite fr_fX64_operand_J179 (fr_gf fun v19 => (fr_al fun v20 => (fr_ite fr_fX64_operand_J179 (fr_gf fun v21 => (fr_al fun v22 => (fr_ite fr_fX64_operand_J179 (fr_gf fun v23 => (fr_al fun v24 => (fr_ite (fr_gf fun v25 => (fr_al fun v26 => (fr_lt fun v27 => (fr_cl (fr_mono (by decide) fr_fX64_next) fun _ => (fr_fX64_operand_J211 x3 x5 v27))))) fr_fX64_operand_J179)))))))))))))))))
theorem fr_fX64_operand_J89 (x3 : Int) (x5 : Int) (s1 : Int) : zFr W_fX64_operand (fX64_operand_J89 x3 x5 s1) :=
  (fr_pf (by decide) (fr_cl (fr_mono (by decide) fr_fX64_next) fun _ => (fr_fX64_operand_J96 x3 x5)))
theorem fr_fX64_operand (x1 : Int) (x2 : Int) : zFr W_fX64_operand (fX64_operand x1 x2) :=
  (fr_cl (fr_mono (by decide) (fr_fX64_which x1)) fun v1 => (fr_lt fun v2 => (fr_nn (fr_ite (fr_cl (fr_mono (by decide) fr_fX64_addressed) fun v4 => (fr_ite (fr_gf fun v5 => (fr_lt fun v6 => (fr_gf fun v7 => (fr_ite (fr_fX64_operand_J96 v2 v6) (fr_cl (fr_mono (by decide) (fr_fX64_is 42)) fun v29 => (fr_ite (fr_fX64_operand_J96 v2 v6) (fr_gf fun v30 => (fr_ite (fr_gf fun v31 => (fr_fX64_operand_J89 v2 v6 (zi (v31 + 4)))) (fr_fX64_operand_J89 v2 v6 6))))))))) (fr_ret _))) (fr_cl (fr_mono (by decide) (fr_fX64_put v2)) fun _ => (fr_cl (fr_mono (by decide) fr_fX64_isEnd) fun v34 => (fr_rb _)))))))
abbrev W_fX64_statement : List Nat := [6504, 6505, 6506, 6508, 6509, 6513, 6514, 6515, 6517, 6518, 6520, 6521, 6522, 6523, 6524]
theorem fr_fX64_statement_J55 (s1 : Int) (s2 : Int) : zFr W_fX64_statement (fX64_statement_J55 s1 s2) :=
  (fr_cl (fr_mono (by decide) (fr_fX64_operand s1 s2)) fun v14 => (fr_rb _))
theorem fr_fX64_statement (x1 : Int) (x2 : Int) : zFr W_fX64_statement (fX64_statement x1 x2) :=
  (fr_al fun v1 => (fr_ite (fr_cl (fr_mono (by decide) (fr_fX64_isDirective x1 x2 38)) fun v2 => (fr_ite (fr_cl (fr_mono (by decide) (fr_fX64_isDirective x1 x2 39)) fun v3 => (fr_ite (fr_cl (fr_mono (by decide) (fr_fX64_isDirective x1 x2 40)) fun v4 => (fr_ite (fr_cl (fr_mono (by decide) (fr_fX64_isDirective x1 x2 41)) fun v5 => (fr_ite (fr_cl (fr_mono (by decide) (fr_fX64_wrong 2 x1)) fun v6 => (fr_rb _)) (fr_cl (fr_mono (by decide) fr_fX64_define) fun v7 => (fr_rb _)))) (fr_cl (fr_mono (by decide) fr_fX64_space) fun v8 => (fr_rb _)))) (fr_cl (fr_mono (by decide) fr_fX64_pointer) fun v9 => (fr_rb _)))) (fr_cl (fr_mono (by decide) fr_fX64_wordList) fun v10 => (fr_rb _)))) (fr_cl (fr_mono (by decide) (fr_fX64_operation x1 x2)) fun v11 => (fr_ite (fr_cl (fr_mono (by decide) (fr_fX64_wrong 2 x1)) fun v13 => (fr_rb _)) (fr_ite (fr_fX64_statement_J55 v11 0) (fr_al fun v15 => (fr_fX64_statement_J55 v11 (zi (v15 - 48)))))))))
abbrev W_fX64_labelHere : List Nat := [6508, 6509, 6510, 6511, 6512]
theorem fr_fX64_labelHere_J30 (x1 : Int) : zFr W_fX64_labelHere (fX64_labelHere_J30 x1) :=
  (fr_cl (fr_mono (by decide) (fr_fX64_wrong 2 x1)) fun v2 => (fr_rb _))
theorem fr_fX64_labelHere (x1 : Int) (x2 : Int) : zFr W_fX64_labelHere (fX64_labelHere x1 x2) :=
  (fr_al fun v1 => (fr_ite (fr_fX64_labelHere_J30 x1) (fr_al fun v3 => (fr_ite (fr_fX64_labelHere_J30 x1) (fr_ite (fr_gf fun v4 => (fr_ite (fr_cl (fr_mono (by decide) (fr_fX64_packed x1 x2)) fun v5 => (fr_cl (fr_mono (by decide) (fr_fX64_findLabel v5)) fun v6 => (fr_ite (fr_gf fun v7 => (fr_ite (fr_gf fun v8 => (fr_as (by decide) (fr_gf fun v9 => (fr_gf fun v10 => (fr_as (by decide) (fr_gf fun v11 => (fr_pf (by decide) (fr_ret _)))))))) (fr_cl (fr_mono (by decide) (fr_fX64_wrong 6 x1)) fun v12 => (fr_rb _)))) (fr_cl (fr_mono (by decide) (fr_fX64_wrong 4 x1)) fun v13 => (fr_rb _))))) (fr_ret _))) (fr_fX64_labelHere_J30 x1))))))
abbrev W_fX64_line : List Nat := [6504, 6505, 6506, 6508, 6509, 6510, 6511, 6512, 6513, 6514, 6515, 6517, 6518, 6520, 6521, 6522, 6523, 6524]
theorem fr_fX64_line_J109 (x1 : Int) (x2 : Int) : zFr W_fX64_line (fX64_line_J109 x1 x2) :=
  (fr_cl (fr_mono (by decide) (fr_fX64_statement x1 x2)) fun v8 => (fr_ret _))
theorem fr_fX64_line : zFr W_fX64_line (fX64_line) :=
  (fr_cl (fr_mono (by decide) fr_fX64_next) fun _ => (fr_gf fun v2 => (fr_ite (fr_gf fun v3 => (fr_ite (fr_gf fun v4 => (fr_gf fun v5 => (fr_cl (fr_mono (by decide) fr_fX64_next) fun _ => (fr_cl (fr_mono (by decide) (fr_fX64_is 58)) fun v7 => (fr_ite (fr_fX64_line_J109 v4 v5) (fr_cl (fr_mono (by decide) (fr_fX64_labelHere v4 v5)) fun v9 => (fr_ite (fr_cl (fr_mono (by decide) fr_fX64_next) fun _ => (fr_gf fun v11 => (fr_ite (fr_gf fun v12 => (fr_ite (fr_gf fun v13 => (fr_gf fun v14 => (fr_cl (fr_mono (by decide) fr_fX64_next) fun _ => (fr_fX64_line_J109 v13 v14)))) (fr_gf fun v16 => (fr_cl (fr_mono (by decide) (fr_fX64_wrong 1 v16)) fun v17 => (fr_ret _))))) (fr_ret _)))) (fr_ret _)))))))) (fr_gf fun v18 => (fr_cl (fr_mono (by decide) (fr_fX64_wrong 1 v18)) fun v19 => (fr_ret _))))) (fr_ret _))))
abbrev W_fX64_goOver : List Nat := [6504, 6505, 6506, 6507, 6508, 6509, 6510, 6511, 6512, 6513, 6514, 6515, 6517, 6518, 6520, 6521, 6522, 6523, 6524]
theorem fr_fX64_goOver_J89 {r7 : Int → zX} (hr7 : ∀ s, zFr W_fX64_goOver (r7 s)) (x1 : Int) (x2 : Int) : zFr W_fX64_goOver (fX64_goOver_J89 r7 x1 x2) :=
  (fr_pf (by decide) (fr_cl (fr_mono (by decide) fr_fX64_line) fun _ => (fr_lt fun v6 => (hr7 v6))))
theorem fr_fX64_goOver_B54 {r7 : Int → zX} (hr7 : ∀ s, zFr W_fX64_goOver (r7 s)) (x1 : Int) (x2 : Int) : ∀ r54 : Int → zX, (∀ s, zFr W_fX64_goOver (r54 s)) → ∀ s, zFr W_fX64_goOver (fX64_goOver_B54 r7 x1 x2 r54 s) := by
  intro r54 hr54 _
  unfold fX64_goOver_B54
  exact (fr_gf fun v4 => (fr_ite (fr_fX64_goOver_J89 hr7 x1 x2) (fr_gf fun v7 => (fr_al fun v8 => (fr_ite (fr_fX64_goOver_J89 hr7 x1 x2) (fr_gf fun v9 => (fr_pf (by decide) (hr54 0))))))))
theorem fr_fX64_goOver_J49 {r7 : Int → zX} (hr7 : ∀ s, zFr W_fX64_goOver (r7 s)) (x1 : Int) (x2 : Int) : zFr W_fX64_goOver (fX64_goOver_J49 r7 x1 x2) :=
  (fr_pf (by decide) (fr_lp (fr_fX64_goOver_B54 hr7 x1 x2) zBIG 0))
theorem fr_fX64_goOver_B24 {r7 : Int → zX} (hr7 : ∀ s, zFr W_fX64_goOver (r7 s)) (x1 : Int) : ∀ r24 : Int → zX, (∀ s, zFr W_fX64_goOver (r24 s)) → ∀ s, zFr W_fX64_goOver (fX64_goOver_B24 r7 x1 r24 s) := by
  intro r24 hr24 x2
  unfold fX64_goOver_B24
  exact (fr_gf fun v3 => (fr_ite (fr_fX64_goOver_J49 hr7 x1 x2) (fr_al fun v10 => (fr_ite (fr_fX64_goOver_J49 hr7 x1 x2) (fr_lt fun v11 => (hr24 v11))))))
theorem fr_fX64_goOver_B7 : ∀ r7 : Int → zX, (∀ s, zFr W_fX64_goOver (r7 s)) → ∀ s, zFr W_fX64_goOver (fX64_goOver_B7 r7 s) := by
  intro r7 hr7 x1
  unfold fX64_goOver_B7
  exact (fr_gf fun v1 => (fr_ite (fr_ret _) (fr_gf fun v2 => (fr_ite (fr_ret _) (fr_lp (fr_fX64_goOver_B24 hr7 x1) zBIG x1)))))
theorem fr_fX64_goOver : zFr W_fX64_goOver (fX64_goOver) :=
  (fr_pf (by decide) (fr_lp fr_fX64_goOver_B7 zBIG 0))
abbrev W_fX64_putTables : List Nat := [6520, 6521]
theorem fr_fX64_putTables_J92 (x1 : Int) (x2 : Int) : zFr W_fX64_putTables (fX64_putTables_J92 x1 x2) :=
  (fr_gf fun v5 => (fr_as (by decide) (fr_gf fun v6 => (fr_as (by decide) (fr_ret _)))))
theorem fr_fX64_putTables_B48 (x1 : Int) (x2 : Int) : ∀ r48 : Int → zX, (∀ s, zFr W_fX64_putTables (r48 s)) → ∀ s, zFr W_fX64_putTables (fX64_putTables_B48 x1 x2 r48 s) := by
  intro r48 hr48 x3
  unfold fX64_putTables_B48
  exact (fr_gf fun v4 => (fr_ite (fr_fX64_putTables_J92 x1 x2) (fr_al fun v7 => (fr_cl (fr_mono (by decide) (fr_fX64_put v7)) fun _ => (fr_al fun v9 => (fr_cl (fr_mono (by decide) (fr_fX64_findLabel v9)) fun v10 => (fr_al fun v11 => (fr_cl (fr_mono (by decide) (fr_fX64_put v11)) fun _ => (fr_lt fun v13 => (hr48 v13))))))))))
theorem fr_fX64_putTables_J41 (x1 : Int) : zFr W_fX64_putTables (fX64_putTables_J41 x1) :=
  (fr_gf fun v3 => (fr_lp (fr_fX64_putTables_B48 x1 v3) zBIG 0))
theorem fr_fX64_putTables_B7 (x1 : Int) : ∀ r7 : Int → zX, (∀ s, zFr W_fX64_putTables (r7 s)) → ∀ s, zFr W_fX64_putTables (fX64_putTables_B7 x1 r7 s) := by
  intro r7 hr7 x2
  unfold fX64_putTables_B7
  exact (fr_gf fun v2 => (fr_ite (fr_fX64_putTables_J41 x1) (fr_al fun v14 => (fr_cl (fr_mono (by decide) (fr_fX64_put v14)) fun _ => (fr_al fun v16 => (fr_cl (fr_mono (by decide) (fr_fX64_put v16)) fun _ => (fr_lt fun v18 => (hr7 v18))))))))
theorem fr_fX64_putTables : zFr W_fX64_putTables (fX64_putTables) :=
  (fr_gf fun v1 => (fr_lp (fr_fX64_putTables_B7 v1) zBIG 0))
abbrev W_fX64_into : List Nat := [400, 6503, 6504, 6505, 6506, 6507, 6508, 6509, 6510, 6511, 6512, 6513, 6514, 6515, 6517, 6518, 6519, 6520, 6521, 6522, 6523, 6524]
theorem fr_fX64_into_J146 : zFr W_fX64_into (fX64_into_J146) :=
  (fr_gf fun v7 => (fr_ret _))
theorem fr_fX64_into_J137 {r105 : Int → zX} (hr105 : ∀ s, zFr W_fX64_into (r105 s)) (x1 : Int) (x2 : Int) (s1 : Int) (s2 : Int) (s3 : Int) : zFr W_fX64_into (fX64_into_J137 r105 x1 x2 s1 s2 s3) :=
  (fr_cl (fr_mono (by decide) (fr_fX1_put s1 s2 s3)) fun _ => (fr_lt fun v10 => (hr105 v10)))
theorem fr_fX64_into_B105 (x1 : Int) : ∀ r105 : Int → zX, (∀ s, zFr W_fX64_into (r105 s)) → ∀ s, zFr W_fX64_into (fX64_into_B105 x1 r105 s) := by
  intro r105 hr105 x2
  unfold fX64_into_B105
  exact (fr_nn (fr_gf fun v6 => (fr_ite fr_fX64_into_J146 (fr_gf fun v8 => (fr_ite (fr_fX64_into_J137 hr105 x1 x2 x1 x2 0) (fr_al fun v11 => (fr_fX64_into_J137 hr105 x1 x2 x1 x2 v11)))))))
theorem fr_fX64_into_J83 (x1 : Int) : zFr W_fX64_into (fX64_into_J83 x1) :=
  (fr_pf (by decide) (fr_gf fun v4 => (fr_ite (fr_lp (fr_fX64_into_B105 x1) zBIG 0) (fr_gf fun v12 => (fr_ret _)))))
theorem fr_fX64_into_J50 (x1 : Int) : zFr W_fX64_into (fX64_into_J50 x1) :=
  (fr_gf fun v3 => (fr_ite (fr_fX64_into_J83 x1) (fr_cl (fr_mono (by decide) fr_fX64_putTables) fun _ => (fr_gf fun v14 => (fr_nn (fr_gf fun v16 => (fr_ite (fr_fX64_into_J83 x1) (fr_gf fun v17 => (fr_cl (fr_mono (by decide) (fr_fX64_wrong 6 v17)) fun v18 => (fr_fX64_into_J83 x1))))))))))
theorem fr_fX64_into (x1 : Int) : zFr W_fX64_into (fX64_into x1) :=
  (fr_pf (by decide) (fr_pf (by decide) (fr_pf (by decide) (fr_pf (by decide) (fr_pf (by decide) (fr_pf (by decide) (fr_cl (fr_mono (by decide) fr_fX64_goOver) fun _ => (fr_pf (by decide) (fr_gf fun v2 => (fr_ite (fr_fX64_into_J50 x1) (fr_cl (fr_mono (by decide) fr_fX64_goOver) fun _ => (fr_fX64_into_J50 x1))))))))))))
abbrev W_fX0_assemble : List Nat := [109, 400, 6503, 6504, 6505, 6506, 6507, 6508, 6509, 6510, 6511, 6512, 6513, 6514, 6515, 6517, 6518, 6519, 6520, 6521, 6522, 6523, 6524]
theorem fr_fX0_assemble (x1 : Int) : zFr W_fX0_assemble (fX0_assemble x1) :=
  (fr_cl (fr_mono (by decide) (fr_fX1_segment x1)) fun v1 => (fr_ite (fr_ret _) (fr_cl (fr_mono (by decide) (fr_fX64_into v1)) fun v3 => (fr_gf fun v4 => (fr_pf (by decide) (fr_ret _))))))
abbrev W_fX0_place : List Nat := []
theorem fr_fX0_place : zFr W_fX0_place (fX0_place) :=
  (fr_gf fun v1 => (fr_ret _))
abbrev W_fX66_put_2 : List Nat := [6701, 6702]
theorem fr_fX66_put_2 (x1 : Int) : zFr W_fX66_put_2 (fX66_put_2 x1) :=
  (fr_gf fun v1 => (fr_as (by decide) (fr_gf fun v2 => (fr_pf (by decide) (fr_ret _)))))
abbrev W_fX66_put : List Nat := [6701, 6702]
theorem fr_fX66_put_B2 (x1 : Int) : ∀ r2 : Int → zX, (∀ s, zFr W_fX66_put (r2 s)) → ∀ s, zFr W_fX66_put (fX66_put_B2 x1 r2 s) := by
  intro r2 hr2 x2
  unfold fX66_put_B2
  exact (fr_nn (fr_ite (fr_ret _) (fr_sc fun v3 => (fr_cl (fr_mono (by decide) (fr_fX66_put_2 v3)) fun _ => (fr_lt fun v5 => (hr2 v5))))))
theorem fr_fX66_put (x1 : Int) : zFr W_fX66_put (fX66_put x1) :=
  (fr_lp (fr_fX66_put_B2 x1) zBIG 0)
abbrev W_fX66_put_3 : List Nat := [6701, 6702]
theorem fr_fX66_put_3_B21 (x1 : Int) : ∀ r21 : Int → zX, (∀ s, zFr W_fX66_put_3 (r21 s)) → ∀ s, zFr W_fX66_put_3 (fX66_put_3_B21 x1 r21 s) := by
  intro r21 hr21 x3
  unfold fX66_put_3_B21
  exact (fr_ite (fr_ret _) (fr_ne (fr_cl (fr_mono (by decide) (fr_fX66_put_2 ((zi (zl (48 + (Int.tmod (zl (Int.tdiv x1 x3)) 10)))) % 65536))) fun _ => (fr_lt fun v4 => (hr21 v4)))))
theorem fr_fX66_put_3_B2 (x1 : Int) : ∀ r2 : Int → zX, (∀ s, zFr W_fX66_put_3 (r2 s)) → ∀ s, zFr W_fX66_put_3 (fX66_put_3_B2 x1 r2 s) := by
  intro r2 hr2 x3
  unfold fX66_put_3_B2
  exact (fr_ne (fr_ite (fr_lp (fr_fX66_put_3_B21 x1) zBIG x3) (fr_lt fun v5 => (hr2 v5))))
theorem fr_fX66_put_3 (x1 : Int) : zFr W_fX66_put_3 (fX66_put_3 x1) :=
  (fr_lp (fr_fX66_put_3_B2 x1) zBIG 1)
abbrev W_fX66_isPlain : List Nat := []
theorem fr_fX66_isPlain_J84 (x0 : Int) (x4 : Int) (s0 : Int) : zFr W_fX66_isPlain (fX66_isPlain_J84 x0 x4 s0) :=
  (fr_nn (fr_gf fun v8 => (fr_ite (fr_ret _) (fr_gf fun v9 => (fr_ite (fr_ret _) (fr_gf fun v10 => (fr_ite (fr_ret _) (fr_ite (fr_ret _) (fr_ite (fr_ret _) (fr_gf fun v11 => (fr_ite (fr_ret _) (fr_ret _))))))))))))
theorem fr_fX66_isPlain_J44 (x0 : Int) (x1 : Int) (s0 : Int) : zFr W_fX66_isPlain (fX66_isPlain_J44 x0 x1 s0) :=
  (fr_nn (fr_ite (fr_nn (fr_gf fun v6 => (fr_ite (fr_fX66_isPlain_J84 x0 s0 0) (fr_fX66_isPlain_J84 x0 s0 1)))) (fr_nn (fr_gf fun v13 => (fr_ite (fr_fX66_isPlain_J84 x0 s0 0) (fr_fX66_isPlain_J84 x0 s0 1))))))
theorem fr_fX66_isPlain_J39 (x0 : Int) (x1 : Int) : zFr W_fX66_isPlain (fX66_isPlain_J39 x0 x1) :=
  (fr_fX66_isPlain_J44 x0 x1 1)
theorem fr_fX66_isPlain (x0 : Int) (x1 : Int) (x2 : Int) : zFr W_fX66_isPlain (fX66_isPlain x0 x1 x2) :=
  (fr_nn (fr_ite (fr_nn (fr_gf fun v3 => (fr_ite (fr_fX66_isPlain_J39 x0 x1) (fr_gf fun v14 => (fr_ite (fr_fX66_isPlain_J44 x0 x1 0) (fr_fX66_isPlain_J39 x0 x1)))))) (fr_ite (fr_ret _) (fr_ret _))))
abbrev W_fX66_list : List Nat := [800, 801, 802, 803, 804, 805, 806, 6701, 6702]
theorem fr_fX66_list_J59 (x1 : Int) : zFr W_fX66_list (fX66_list_J59 x1) :=
  (fr_cl (fr_mono (by decide) (fr_fX66_put 42)) fun _ => (fr_cl (fr_mono (by decide) (fr_fX66_put_3 x1)) fun _ => (fr_gf fun v7 => (fr_ret _))))
theorem fr_fX66_list_J221 : zFr W_fX66_list (fX66_list_J221) :=
  (fr_gf fun v26 => (fr_ret _))
theorem fr_fX66_list_J197 (x3 : Int) : zFr W_fX66_list (fX66_list_J197 x3) :=
  (fr_nn (fr_gf fun v25 => (fr_ite fr_fX66_list_J221 (fr_cl (fr_mono (by decide) (fr_fX66_put 43)) fun _ => (fr_gf fun v28 => (fr_cl (fr_mono (by decide) (fr_fX66_put_3 (zl (v28 - 1)))) fun _ => fr_fX66_list_J221))))))
theorem fr_fX66_list_J174 (x3 : Int) : zFr W_fX66_list (fX66_list_J174 x3) :=
  (fr_nn (fr_gf fun v21 => (fr_cl (fr_mono (by decide) (fr_fX66_put_3 v21)) fun _ => (fr_gf fun v23 => (fr_ite (fr_fX66_list_J197 x3) (fr_cl (fr_mono (by decide) (fr_fX66_put_2 42)) fun _ => (fr_fX66_list_J197 x3)))))))
theorem fr_fX66_list_J153 (x3 : Int) : zFr W_fX66_list (fX66_list_J153 x3) :=
  (fr_cl (fr_mono (by decide) (fr_fX66_put_2 112)) fun _ => (fr_nn (fr_gf fun v17 => (fr_cl (fr_mono (by decide) (fr_fX66_put_3 v17)) fun _ => (fr_cl (fr_mono (by decide) (fr_fX66_put_2 124)) fun _ => (fr_fX66_list_J174 x3))))))
theorem fr_fX66_list_J101 (x3 : Int) (x5 : Int) : zFr W_fX66_list (fX66_list_J101 x3 x5) :=
  (fr_nn (fr_ite (fr_cl (fr_mono (by decide) (fr_fX66_put_2 32)) fun _ => (fr_nn (fr_gf fun v13 => (fr_ite (fr_gf fun v14 => (fr_ite (fr_fX66_list_J153 x3) (fr_gf fun v31 => (fr_ite (fr_fX66_list_J174 x3) (fr_fX66_list_J153 x3))))) (fr_cl (fr_mono (by decide) (fr_fX66_put_2 35)) fun _ => (fr_fX66_list_J174 x3)))))) (fr_gf fun v33 => (fr_ret _))))
theorem fr_fX66_list_J42 (x1 : Int) (x3 : Int) (s0 : Int) : zFr W_fX66_list (fX66_list_J42 x1 x3 s0) :=
  (fr_ite (fr_fX66_list_J59 x1) (fr_cl (fr_mono (by decide) (fr_fX66_isPlain x3 s0 x1)) fun v8 => (fr_ite (fr_cl (fr_mono (by decide) (fr_fX66_put s0)) fun _ => (fr_ite (fr_fX66_list_J101 x3 s0) (fr_nn (fr_gf fun v35 => (fr_cl (fr_mono (by decide) (fr_fX66_put_3 v35)) fun _ => (fr_fX66_list_J101 x3 s0)))))) (fr_fX66_list_J59 x1))))
theorem fr_fX66_list (x1 : Int) (x3 : Int) : zFr W_fX66_list (fX66_list x1 x3) :=
  (fr_pf (by decide) (fr_lt fun v1 => (fr_nn (fr_cl (fr_mono (by decide) (fr_fX7_take x3 x1)) fun _ => (fr_ite (fr_fX66_list_J42 x1 x3 (-1)) (fr_ib (fr_fX66_list_J42 x1 x3 v1)))))))
abbrev W_fX0_list : List Nat := [800, 801, 802, 803, 804, 805, 806, 6701, 6702]
theorem fr_fX0_list (x1 : Int) : zFr W_fX0_list (fX0_list x1) :=
  (fr_cl (fr_mono (by decide) (fr_fX0_isWord x1)) fun v1 => (fr_ite (fr_ret _) (fr_cl (fr_mono (by decide) (fr_fX66_list x1 512)) fun v2 => (fr_ret _))))
abbrev W_fX0_listed : List Nat := []
theorem fr_fX0_listed (x1 : Int) : zFr W_fX0_listed (fX0_listed x1) :=
  (fr_gf fun v1 => (fr_cl (fr_mono (by decide) (fr_fX0_isIn x1 0 (zl (v1 - 1)))) fun v2 => (fr_ite (fr_ret _) (fr_al fun v3 => (fr_ret _)))))
abbrev W_fX65_put : List Nat := [6601, 6602]
theorem fr_fX65_put (x1 : Int) : zFr W_fX65_put (fX65_put x1) :=
  (fr_gf fun v1 => (fr_as (by decide) (fr_gf fun v2 => (fr_pf (by decide) (fr_ret _)))))
abbrev W_fX65_putWord : List Nat := [6601, 6602]
theorem fr_fX65_putWord_B3 (x1 : Int) : ∀ r3 : Int → zX, (∀ s, zFr W_fX65_putWord (r3 s)) → ∀ s, zFr W_fX65_putWord (fX65_putWord_B3 x1 r3 s) := by
  intro r3 hr3 x3
  unfold fX65_putWord_B3
  exact (fr_ite (fr_ret _) (fr_cl (fr_mono (by decide) (fr_fX65_put (zi (x1 / 2 ^ (x3 % 64).toNat)))) fun _ => (fr_lt fun v2 => (hr3 v2))))
theorem fr_fX65_putWord (x1 : Int) : zFr W_fX65_putWord (fX65_putWord x1) :=
  (fr_lp (fr_fX65_putWord_B3 x1) zBIG 32)
abbrev W_fX65_putItems : List Nat := [6601, 6602]
theorem fr_fX65_putItems_B10 (x1 : Int) : ∀ r10 : Int → zX, (∀ s, zFr W_fX65_putItems (r10 s)) → ∀ s, zFr W_fX65_putItems (fX65_putItems_B10 x1 r10 s) := by
  intro r10 hr10 x2
  unfold fX65_putItems_B10
  exact (fr_nn (fr_gf fun v5 => (fr_ite (fr_ret _) (fr_cl (fr_mono (by decide) (fr_fX5_person x1 x2)) fun v6 => (fr_cl (fr_mono (by decide) (fr_fX65_put v6)) fun _ => (fr_cl (fr_mono (by decide) (fr_fX5_project x1 x2)) fun v8 => (fr_cl (fr_mono (by decide) (fr_fX65_put v8)) fun _ => (fr_al fun v10 => (fr_cl (fr_mono (by decide) (fr_fX65_put v10)) fun _ => (fr_lt fun v12 => (hr10 v12)))))))))))
theorem fr_fX65_putItems (x1 : Int) : zFr W_fX65_putItems (fX65_putItems x1) :=
  (fr_nn (fr_gf fun v2 => (fr_cl (fr_mono (by decide) (fr_fX65_put v2)) fun _ => (fr_lp (fr_fX65_putItems_B10 x1) zBIG 0))))
abbrev W_fX65_putNode : List Nat := [6601, 6602]
theorem fr_fX65_putNode_B211 {sf : Int → zX} (hsf : ∀ (a0 : Int), zFr W_fX65_putNode (sf a0)) (x1 : Int) : ∀ r211 : Int → zX, (∀ s, zFr W_fX65_putNode (r211 s)) → ∀ s, zFr W_fX65_putNode (fX65_putNode_B211 sf x1 r211 s) := by
  intro r211 hr211 x2
  unfold fX65_putNode_B211
  exact (fr_nn (fr_gf fun v22 => (fr_ite (fr_ret _) (fr_cl (fr_mono (by decide) (fr_fX1_get x1 x2)) fun v23 => (fr_cl (fr_mono (by decide) (fr_fX65_putWord v23)) fun _ => (fr_lt fun v25 => (hr211 v25)))))))
theorem fr_fX65_putNode_B164 {sf : Int → zX} (hsf : ∀ (a0 : Int), zFr W_fX65_putNode (sf a0)) : ∀ r164 : Int → zX, (∀ s, zFr W_fX65_putNode (r164 s)) → ∀ s, zFr W_fX65_putNode (fX65_putNode_B164 sf r164 s) := by
  intro r164 hr164 x2
  unfold fX65_putNode_B164
  exact (fr_ite (fr_ret _) (fr_cl (hsf x2) fun _ => (fr_gf fun v37 => (hr164 v37))))
theorem fr_fX65_putNode_B68 {sf : Int → zX} (hsf : ∀ (a0 : Int), zFr W_fX65_putNode (sf a0)) (x1 : Int) : ∀ r68 : Int → zX, (∀ s, zFr W_fX65_putNode (r68 s)) → ∀ s, zFr W_fX65_putNode (fX65_putNode_B68 sf x1 r68 s) := by
  intro r68 hr68 x2
  unfold fX65_putNode_B68
  exact (fr_nn (fr_gf fun v43 => (fr_nn (fr_gf fun v45 => (fr_ite (fr_ret _) (fr_gf fun v46 => (fr_nn (fr_al fun v48 => (fr_cl (fr_mono (by decide) (fr_fX65_put v48)) fun _ => (fr_gf fun v50 => (fr_nn (fr_al fun v52 => (fr_cl (fr_mono (by decide) (fr_fX65_putWord v52)) fun _ => (fr_lt fun v54 => (hr68 v54)))))))))))))))
theorem fr_fX65_putNode_E {sf : Int → zX} (hsf : ∀ (a0 : Int), zFr W_fX65_putNode (sf a0)) (x1 : Int) : zFr W_fX65_putNode (fX65_putNode_E sf x1) :=
  (fr_nn (fr_gf fun v2 => (fr_cl (fr_mono (by decide) (fr_fX65_put v2)) fun _ => (fr_gf fun v4 => (fr_cl (fr_mono (by decide) (fr_fX65_putWord v4)) fun _ => (fr_gf fun v6 => (fr_cl (fr_mono (by decide) (fr_fX65_put v6)) fun _ => (fr_gf fun v8 => (fr_cl (fr_mono (by decide) (fr_fX65_put v8)) fun _ => (fr_gf fun v10 => (fr_cl (fr_mono (by decide) (fr_fX65_put v10)) fun _ => (fr_cl (fr_mono (by decide) (fr_fX65_putItems (3 * x1))) fun _ => (fr_cl (fr_mono (by decide) (fr_fX4_isMailbox x1)) fun v13 => (fr_ite (fr_cl (fr_mono (by decide) (fr_fX4_isDirectory x1)) fun v14 => (fr_ite (fr_gf fun v15 => (fr_cl (fr_mono (by decide) (fr_fX65_put v15)) fun _ => (fr_gf fun v17 => (fr_cl (fr_mono (by decide) (fr_fX65_put (v17 / 256))) fun _ => (fr_gf fun v19 => (fr_cl (fr_mono (by decide) (fr_fX65_put v19)) fun _ => (fr_lp (fr_fX65_putNode_B211 hsf x1) zBIG 0))))))) (fr_gf fun v26 => (fr_cl (fr_mono (by decide) (fr_fX65_put v26)) fun _ => (fr_gf fun v28 => (fr_cl (fr_mono (by decide) (fr_fX65_put v28)) fun _ => (fr_cl (fr_mono (by decide) (fr_fX65_putItems (3 * x1 + 1))) fun _ => (fr_cl (fr_mono (by decide) (fr_fX65_putItems (3 * x1 + 2))) fun _ => (fr_gf fun v32 => (fr_cl (fr_mono (by decide) (fr_fX65_put v32)) fun _ => (fr_gf fun v34 => (fr_lp (fr_fX65_putNode_B164 hsf) zBIG v34)))))))))))) (fr_gf fun v38 => (fr_nn (fr_gf fun v40 => (fr_cl (fr_mono (by decide) (fr_fX65_put v40)) fun _ => (fr_lp (fr_fX65_putNode_B68 hsf x1) zBIG 0)))))))))))))))))))
theorem fr_fX65_putNode : ∀ (n : Nat) (a0 : Int), zFr W_fX65_putNode (fX65_putNode n a0) := by
  intro n
  induction n with
  | zero => intro a0; exact fr_no
  | succ n ih => intro a0; exact fr_fX65_putNode_E ih a0
abbrev W_fX65_checkTo : List Nat := []
theorem fr_fX65_checkTo_B4 (x1 : Int) : ∀ r4 : Int × Int → zX, (∀ s, zFr W_fX65_checkTo (r4 s)) → ∀ s, zFr W_fX65_checkTo (fX65_checkTo_B4 x1 r4 s) := by
  intro r4 hr4 s
  obtain ⟨x2, x3⟩ := s
  unfold fX65_checkTo_B4
  exact (fr_ite (fr_ret _) (fr_al fun v1 => (fr_lt fun v2 => (fr_lt fun v3 => (hr4 (v2, v3))))))
theorem fr_fX65_checkTo (x1 : Int) : zFr W_fX65_checkTo (fX65_checkTo x1) :=
  (fr_lp (fr_fX65_checkTo_B4 x1) zBIG (0, 0))
abbrev W_fX65_dump : List Nat := [6601, 6602]
theorem fr_fX65_dump (x1 : Int) : zFr W_fX65_dump (fX65_dump x1) :=
  (fr_pf (by decide) (fr_cl (fr_mono (by decide) (fr_fX65_put 82)) fun _ => (fr_cl (fr_mono (by decide) (fr_fX65_put 72)) fun _ => (fr_cl (fr_mono (by decide) (fr_fX65_put 1)) fun _ => (fr_cl (fr_mono (by decide) (fr_fX65_putNode 300 x1)) fun _ => (fr_gf fun v5 => (fr_cl (fr_mono (by decide) (fr_fX65_checkTo v5)) fun v6 => (fr_cl (fr_mono (by decide) (fr_fX65_put (v6 / 256))) fun _ => (fr_cl (fr_mono (by decide) (fr_fX65_put v6)) fun _ => (fr_gf fun v9 => (fr_ret _)))))))))))
abbrev W_fX0_dump : List Nat := [6601, 6602]
theorem fr_fX0_dump (x1 : Int) : zFr W_fX0_dump (fX0_dump x1) :=
  (fr_cl (fr_mono (by decide) (fr_fX1_node x1)) fun v1 => (fr_ite (fr_ret _) (fr_ite (fr_cl (fr_mono (by decide) (fr_fX65_dump v1)) fun v3 => (fr_ret _)) (fr_ret _))))
abbrev W_fX0_tape : List Nat := []
theorem fr_fX0_tape (x1 : Int) : zFr W_fX0_tape (fX0_tape x1) :=
  (fr_gf fun v1 => (fr_cl (fr_mono (by decide) (fr_fX0_isIn x1 0 (zl (v1 - 1)))) fun v2 => (fr_ite (fr_ret _) (fr_al fun v3 => (fr_ret _)))))
abbrev W_fX0_alter : List Nat := [6601, 6602]
theorem fr_fX0_alter_J81 (s1 : Int) : zFr W_fX0_alter (fX0_alter_J81 s1) :=
  (fr_pf (by decide) (fr_gf fun v6 => (fr_ret _)))
theorem fr_fX0_alter (x1 : Int) (x2 : Int) : zFr W_fX0_alter (fX0_alter x1 x2) :=
  (fr_gf fun v1 => (fr_cl (fr_mono (by decide) (fr_fX0_isIn x1 0 v1)) fun v2 => (fr_ite (fr_ret _) (fr_cl (fr_mono (by decide) (fr_fX0_isIn x2 0 255)) fun v3 => (fr_ite (fr_ite (fr_as (by decide) (fr_gf fun v4 => (fr_ite (fr_gf fun v5 => (fr_fX0_alter_J81 v5)) (fr_fX0_alter_J81 (zi (x1 + 1)))))) (fr_ret _)) (fr_ret _))))))
abbrev W_fX0_cut : List Nat := [6602]
theorem fr_fX0_cut (x1 : Int) : zFr W_fX0_cut (fX0_cut x1) :=
  (fr_gf fun v1 => (fr_cl (fr_mono (by decide) (fr_fX0_isIn x1 0 v1)) fun v2 => (fr_ite (fr_gf fun v3 => (fr_lt fun v4 => (fr_pf (by decide) (fr_ret _)))) (fr_ret _))))
abbrev W_fX65_wrong : List Nat := [6604, 6605]
theorem fr_fX65_wrong (x1 : Int) (x2 : Int) : zFr W_fX65_wrong (fX65_wrong x1 x2) :=
  (fr_gf fun v1 => (fr_ite (fr_ret _) (fr_pf (by decide) (fr_pf (by decide) (fr_ret _)))))
abbrev W_fX65_take : List Nat := [6603, 6604, 6605]
theorem fr_fX65_take : zFr W_fX65_take (fX65_take) :=
  (fr_gf fun v1 => (fr_gf fun v2 => (fr_ite (fr_gf fun v3 => (fr_pf (by decide) (fr_gf fun v4 => (fr_al fun v5 => (fr_ret _))))) (fr_gf fun v6 => (fr_cl (fr_mono (by decide) (fr_fX65_wrong 1 v6)) fun v7 => (fr_ret _))))))
abbrev W_fX65_take_2 : List Nat := [6603, 6604, 6605]
theorem fr_fX65_take_2_J30 (x3 : Int) (x4 : Int) : zFr W_fX65_take_2 (fX65_take_2_J30 x3 x4) :=
  (fr_cl (fr_mono (by decide) (fr_fX65_wrong 3 x3)) fun v4 => (fr_ret _))
theorem fr_fX65_take_2 (x1 : Int) (x2 : Int) : zFr W_fX65_take_2 (fX65_take_2 x1 x2) :=
  (fr_gf fun v1 => (fr_cl (fr_mono (by decide) fr_fX65_take) fun v2 => (fr_gf fun v3 => (fr_ite (fr_ret _) (fr_ite (fr_fX65_take_2_J30 v1 v2) (fr_ite (fr_ret _) (fr_fX65_take_2_J30 v1 v2)))))))
abbrev W_fX65_takeWord : List Nat := [6603, 6604, 6605]
theorem fr_fX65_takeWord_B4 : ∀ r4 : Int × Int → zX, (∀ s, zFr W_fX65_takeWord (r4 s)) → ∀ s, zFr W_fX65_takeWord (fX65_takeWord_B4 r4 s) := by
  intro r4 hr4 s
  obtain ⟨x1, x3⟩ := s
  unfold fX65_takeWord_B4
  exact (fr_ite (fr_ret _) (fr_cl (fr_mono (by decide) fr_fX65_take) fun v1 => (fr_lt fun v2 => (fr_lt fun v3 => (hr4 (v2, v3))))))
theorem fr_fX65_takeWord : zFr W_fX65_takeWord (fX65_takeWord) :=
  (fr_lp fr_fX65_takeWord_B4 zBIG (0, 0))
abbrev W_fX65_lookName : List Nat := [6603, 6604, 6605, 6611, 6613]
theorem fr_fX65_lookName_J95 (x2 : Int) : zFr W_fX65_lookName (fX65_lookName_J95 x2) :=
  (fr_gf fun v9 => (fr_as (by decide) (fr_gf fun v10 => (fr_pf (by decide) (fr_ret _)))))
theorem fr_fX65_lookName_J81 (x1 : Int) : zFr W_fX65_lookName (fX65_lookName_J81 x1) :=
  (fr_cl (fr_mono (by decide) (fr_fX65_wrong 4 x1)) fun v13 => (fr_ret _))
theorem fr_fX65_lookName_B60 (x1 : Int) (x2 : Int) : ∀ r60 : Int → zX, (∀ s, zFr W_fX65_lookName (r60 s)) → ∀ s, zFr W_fX65_lookName (fX65_lookName_B60 x1 x2 r60 s) := by
  intro r60 hr60 x4
  unfold fX65_lookName_B60
  exact (fr_gf fun v8 => (fr_ite (fr_fX65_lookName_J95 x2) (fr_al fun v11 => (fr_ite (fr_lt fun v12 => (hr60 v12)) (fr_fX65_lookName_J81 x1)))))
theorem fr_fX65_lookName_J58 (x1 : Int) (x2 : Int) (s0 : Int) : zFr W_fX65_lookName (fX65_lookName_J58 x1 x2 s0) :=
  (fr_lp (fr_fX65_lookName_B60 x1 x2) zBIG s0)
theorem fr_fX65_lookName : zFr W_fX65_lookName (fX65_lookName) :=
  (fr_gf fun v1 => (fr_cl (fr_mono (by decide) fr_fX65_takeWord) fun v2 => (fr_gf fun v3 => (fr_ite (fr_cl (fr_mono (by decide) (fr_fX0_isName v2)) fun v4 => (fr_ite (fr_gf fun v5 => (fr_ite (fr_gf fun v6 => (fr_al fun v7 => (fr_fX65_lookName_J58 v1 v2 v7))) (fr_gf fun v14 => (fr_fX65_lookName_J58 v1 v2 v14)))) (fr_cl (fr_mono (by decide) (fr_fX65_wrong 3 v1)) fun v15 => (fr_ret _)))) (fr_ret _)))))
abbrev W_fX65_charge : List Nat := [6609]
theorem fr_fX65_charge (x1 : Int) : zFr W_fX65_charge (fX65_charge x1) :=
  (fr_gf fun v1 => (fr_ite (fr_ret _) (fr_gf fun v2 => (fr_al fun v3 => (fr_as (by decide) (fr_ret _))))))
abbrev W_fX65_lookMailbox : List Nat := [6603, 6604, 6605, 6609, 6616, 6617]
theorem fr_fX65_lookMailbox_J191 (s1 : Int) : zFr W_fX65_lookMailbox (fX65_lookMailbox_J191 s1) :=
  (fr_pf (by decide) (fr_ret _))
theorem fr_fX65_lookMailbox_J168 : zFr W_fX65_lookMailbox (fX65_lookMailbox_J168) :=
  (fr_cl (fr_mono (by decide) (fr_fX65_charge 17)) fun _ => (fr_gf fun v3 => (fr_ite (fr_gf fun v4 => (fr_fX65_lookMailbox_J191 v4)) (fr_fX65_lookMailbox_J191 17))))
theorem fr_fX65_lookMailbox_J162 {r32 : Int → zX} (hr32 : ∀ s, zFr W_fX65_lookMailbox (r32 s)) (x1 : Int) (x2 : Int) (x3 : Int) : zFr W_fX65_lookMailbox (fX65_lookMailbox_J162 r32 x1 x2 x3) :=
  (fr_lt fun v14 => (hr32 v14))
theorem fr_fX65_lookMailbox_J127 {r32 : Int → zX} (hr32 : ∀ s, zFr W_fX65_lookMailbox (r32 s)) (x1 : Int) (x2 : Int) (x3 : Int) : zFr W_fX65_lookMailbox (fX65_lookMailbox_J127 r32 x1 x2 x3) :=
  (fr_gf fun v11 => (fr_cl (fr_mono (by decide) fr_fX65_takeWord) fun v12 => (fr_gf fun v13 => (fr_ite (fr_fX65_lookMailbox_J162 hr32 x1 x2 x3) (fr_cl (fr_mono (by decide) (fr_fX0_isWord v12)) fun v15 => (fr_ite (fr_fX65_lookMailbox_J162 hr32 x1 x2 x3) (fr_cl (fr_mono (by decide) (fr_fX65_wrong 3 v11)) fun v16 => (fr_fX65_lookMailbox_J162 hr32 x1 x2 x3))))))))
theorem fr_fX65_lookMailbox_J101 {r32 : Int → zX} (hr32 : ∀ s, zFr W_fX65_lookMailbox (r32 s)) (x1 : Int) (x2 : Int) (x3 : Int) (x4 : Int) (x5 : Int) : zFr W_fX65_lookMailbox (fX65_lookMailbox_J101 r32 x1 x2 x3 x4 x5) :=
  (fr_gf fun v10 => (fr_ite (fr_fX65_lookMailbox_J127 hr32 x1 x2 x3) (fr_al fun v17 => (fr_ite (fr_fX65_lookMailbox_J127 hr32 x1 x2 x3) (fr_cl (fr_mono (by decide) (fr_fX65_wrong 3 x4)) fun v18 => (fr_fX65_lookMailbox_J127 hr32 x1 x2 x3))))))
theorem fr_fX65_lookMailbox_J83 {r32 : Int → zX} (hr32 : ∀ s, zFr W_fX65_lookMailbox (r32 s)) (x1 : Int) (x2 : Int) (x3 : Int) (x4 : Int) (x5 : Int) : zFr W_fX65_lookMailbox (fX65_lookMailbox_J83 r32 x1 x2 x3 x4 x5) :=
  (fr_gf fun v9 => (fr_ite (fr_fX65_lookMailbox_J101 hr32 x1 x2 x3 x4 x5) (fr_al fun v19 => (fr_as (by decide) (fr_fX65_lookMailbox_J101 hr32 x1 x2 x3 x4 x5)))))
theorem fr_fX65_lookMailbox_B32 (x1 : Int) (x2 : Int) : ∀ r32 : Int → zX, (∀ s, zFr W_fX65_lookMailbox (r32 s)) → ∀ s, zFr W_fX65_lookMailbox (fX65_lookMailbox_B32 x1 x2 r32 s) := by
  intro r32 hr32 x3
  unfold fX65_lookMailbox_B32
  exact (fr_ite fr_fX65_lookMailbox_J168 (fr_gf fun v5 => (fr_ite fr_fX65_lookMailbox_J168 (fr_gf fun v6 => (fr_cl (fr_mono (by decide) (fr_fX65_take_2 0 31)) fun v7 => (fr_gf fun v8 => (fr_ite (fr_fX65_lookMailbox_J83 hr32 x1 x2 x3 v6 v7) (fr_cl (fr_mono (by decide) (fr_fX0_dominates v7 x1)) fun v20 => (fr_ite (fr_fX65_lookMailbox_J83 hr32 x1 x2 x3 v6 v7) (fr_cl (fr_mono (by decide) (fr_fX65_wrong 5 v6)) fun v21 => (fr_fX65_lookMailbox_J83 hr32 x1 x2 x3 v6 v7)))))))))))
theorem fr_fX65_lookMailbox_J30 (x1 : Int) (x2 : Int) : zFr W_fX65_lookMailbox (fX65_lookMailbox_J30 x1 x2) :=
  (fr_lp (fr_fX65_lookMailbox_B32 x1 x2) zBIG 0)
theorem fr_fX65_lookMailbox_B11 (x1 : Int) (x2 : Int) : ∀ r11 : Int → zX, (∀ s, zFr W_fX65_lookMailbox (r11 s)) → ∀ s, zFr W_fX65_lookMailbox (fX65_lookMailbox_B11 x1 x2 r11 s) := by
  intro r11 hr11 x3
  unfold fX65_lookMailbox_B11
  exact (fr_ite (fr_fX65_lookMailbox_J30 x1 x2) (fr_as (by decide) (fr_lt fun v22 => (hr11 v22))))
theorem fr_fX65_lookMailbox (x1 : Int) : zFr W_fX65_lookMailbox (fX65_lookMailbox x1) :=
  (fr_cl (fr_mono (by decide) (fr_fX65_take_2 0 128)) fun v1 => (fr_lp (fr_fX65_lookMailbox_B11 x1 v1) zBIG 0))
abbrev W_fX65_shut : List Nat := [6609, 6612, 6613, 6614, 6617]
theorem fr_fX65_shut_J150 {r0 : Int → zX} (hr0 : ∀ s, zFr W_fX65_shut (r0 s)) (s1 : Int) : zFr W_fX65_shut (fX65_shut_J150 r0 s1) :=
  (fr_pf (by decide) (hr0 0))
theorem fr_fX65_shut_J114 {r0 : Int → zX} (hr0 : ∀ s, zFr W_fX65_shut (r0 s)) (s0 : Int) (s1 : Int) : zFr W_fX65_shut (fX65_shut_J114 r0 s0 s1) :=
  (fr_lt fun v11 => (fr_gf fun v12 => (fr_al fun v13 => (fr_pf (by decide) (fr_cl (fr_mono (by decide) (fr_fX65_charge v11)) fun _ => (fr_gf fun v15 => (fr_ite (fr_gf fun v16 => (fr_fX65_shut_J150 hr0 v16)) (fr_fX65_shut_J150 hr0 v11))))))))
theorem fr_fX65_shut_J77 {r0 : Int → zX} (hr0 : ∀ s, zFr W_fX65_shut (r0 s)) (s1 : Int) : zFr W_fX65_shut (fX65_shut_J77 r0 s1) :=
  (fr_pb (by decide) (fr_gf fun v7 => (fr_al fun v8 => (fr_ite (fr_gf fun v9 => (fr_al fun v10 => (fr_fX65_shut_J114 hr0 1 v10))) (fr_gf fun v17 => (fr_al fun v18 => (fr_fX65_shut_J114 hr0 1 v18)))))))
theorem fr_fX65_shut_J72 {r0 : Int → zX} (hr0 : ∀ s, zFr W_fX65_shut (r0 s)) : zFr W_fX65_shut (fX65_shut_J72 r0) :=
  (fr_fX65_shut_J77 hr0 1)
theorem fr_fX65_shut_J76 {r0 : Int → zX} (hr0 : ∀ s, zFr W_fX65_shut (r0 s)) : zFr W_fX65_shut (fX65_shut_J76 r0) :=
  (fr_fX65_shut_J77 hr0 0)
theorem fr_fX65_shut_B0 : ∀ r0 : Int → zX, (∀ s, zFr W_fX65_shut (r0 s)) → ∀ s, zFr W_fX65_shut (fX65_shut_B0 r0 s) := by
  intro r0 hr0 _
  unfold fX65_shut_B0
  exact (fr_gf fun v1 => (fr_ite (fr_ret _) (fr_gf fun v2 => (fr_al fun v3 => (fr_ite (fr_ret _) (fr_gf fun v4 => (fr_pf (by decide) (fr_gf fun v5 => (fr_ite (fr_fX65_shut_J72 hr0) (fr_gf fun v19 => (fr_al fun v20 => (fr_ite (fr_fX65_shut_J76 hr0) (fr_gf fun v21 => (fr_al fun v22 => (fr_gf fun v23 => (fr_al fun v24 => (fr_ite (fr_fX65_shut_J76 hr0) (fr_fX65_shut_J72 hr0))))))))))))))))))
theorem fr_fX65_shut : zFr W_fX65_shut (fX65_shut) :=
  (fr_lp fr_fX65_shut_B0 zBIG 0)
abbrev W_fX65_lookSegment : List Nat := [6603, 6604, 6605, 6609, 6617]
theorem fr_fX65_lookSegment_J133 (s1 : Int) : zFr W_fX65_lookSegment (fX65_lookSegment_J133 s1) :=
  (fr_pf (by decide) (fr_ret _))
theorem fr_fX65_lookSegment_J102 (x2 : Int) : zFr W_fX65_lookSegment (fX65_lookSegment_J102 x2) :=
  (fr_cl (fr_mono (by decide) (fr_fX0_records x2)) fun v8 => (fr_cl (fr_mono (by decide) (fr_fX65_charge (zi (1 + v8)))) fun _ => (fr_gf fun v10 => (fr_ite (fr_gf fun v11 => (fr_fX65_lookSegment_J133 v11)) (fr_cl (fr_mono (by decide) (fr_fX0_records x2)) fun v12 => (fr_fX65_lookSegment_J133 (zi (1 + v12))))))))
theorem fr_fX65_lookSegment_J96 {r51 : Int → zX} (hr51 : ∀ s, zFr W_fX65_lookSegment (r51 s)) (x2 : Int) (x3 : Int) : zFr W_fX65_lookSegment (fX65_lookSegment_J96 r51 x2 x3) :=
  (fr_lt fun v17 => (hr51 v17))
theorem fr_fX65_lookSegment_B51 (x2 : Int) : ∀ r51 : Int → zX, (∀ s, zFr W_fX65_lookSegment (r51 s)) → ∀ s, zFr W_fX65_lookSegment (fX65_lookSegment_B51 x2 r51 s) := by
  intro r51 hr51 x3
  unfold fX65_lookSegment_B51
  exact (fr_ite (fr_fX65_lookSegment_J102 x2) (fr_gf fun v13 => (fr_ite (fr_fX65_lookSegment_J102 x2) (fr_gf fun v14 => (fr_cl (fr_mono (by decide) fr_fX65_takeWord) fun v15 => (fr_gf fun v16 => (fr_ite (fr_fX65_lookSegment_J96 hr51 x2 x3) (fr_cl (fr_mono (by decide) (fr_fX0_isWord v15)) fun v18 => (fr_ite (fr_fX65_lookSegment_J96 hr51 x2 x3) (fr_cl (fr_mono (by decide) (fr_fX65_wrong 3 v14)) fun v19 => (fr_fX65_lookSegment_J96 hr51 x2 x3)))))))))))
theorem fr_fX65_lookSegment_J49 (x2 : Int) : zFr W_fX65_lookSegment (fX65_lookSegment_J49 x2) :=
  (fr_lp (fr_fX65_lookSegment_B51 x2) zBIG 0)
theorem fr_fX65_lookSegment : zFr W_fX65_lookSegment (fX65_lookSegment) :=
  (fr_cl (fr_mono (by decide) (fr_fX65_take_2 0 63)) fun v1 => (fr_gf fun v2 => (fr_cl (fr_mono (by decide) fr_fX65_take) fun v3 => (fr_lt fun v4 => (fr_cl (fr_mono (by decide) fr_fX65_take) fun v5 => (fr_lt fun v6 => (fr_gf fun v7 => (fr_ite (fr_fX65_lookSegment_J49 v6) (fr_ite (fr_fX65_lookSegment_J49 v6) (fr_cl (fr_mono (by decide) (fr_fX65_wrong 3 v2)) fun v20 => (fr_fX65_lookSegment_J49 v6)))))))))))
abbrev W_fX65_lookItems : List Nat := [6603, 6604, 6605, 6615]
theorem fr_fX65_lookItems_J105 {r9 : Int → zX} (hr9 : ∀ s, zFr W_fX65_lookItems (r9 s)) (x2 : Int) (x3 : Int) : zFr W_fX65_lookItems (fX65_lookItems_J105 r9 x2 x3) :=
  (fr_cl (fr_mono (by decide) (fr_fX65_take_2 0 7)) fun v7 => (fr_lt fun v8 => (hr9 v8)))
theorem fr_fX65_lookItems_J99 {r9 : Int → zX} (hr9 : ∀ s, zFr W_fX65_lookItems (r9 s)) {r62 : Int → zX} (hr62 : ∀ s, zFr W_fX65_lookItems (r62 s)) (x2 : Int) (x3 : Int) (x4 : Int) (x5 : Int) : zFr W_fX65_lookItems (fX65_lookItems_J99 r9 r62 x2 x3 x4 x5) :=
  (fr_lt fun v12 => (hr62 v12))
theorem fr_fX65_lookItems_B62 {r9 : Int → zX} (hr9 : ∀ s, zFr W_fX65_lookItems (r9 s)) (x2 : Int) (x3 : Int) (x4 : Int) : ∀ r62 : Int → zX, (∀ s, zFr W_fX65_lookItems (r62 s)) → ∀ s, zFr W_fX65_lookItems (fX65_lookItems_B62 r9 x2 x3 x4 r62 s) := by
  intro r62 hr62 x5
  unfold fX65_lookItems_B62
  exact (fr_ite (fr_fX65_lookItems_J105 hr9 x2 x3) (fr_gf fun v9 => (fr_ite (fr_fX65_lookItems_J105 hr9 x2 x3) (fr_al fun v10 => (fr_al fun v11 => (fr_ite (fr_fX65_lookItems_J99 hr9 hr62 x2 x3 x4 x5) (fr_cl (fr_mono (by decide) (fr_fX65_wrong 3 x4)) fun v13 => (fr_fX65_lookItems_J99 hr9 hr62 x2 x3 x4 x5))))))))
theorem fr_fX65_lookItems_B9 (x2 : Int) : ∀ r9 : Int → zX, (∀ s, zFr W_fX65_lookItems (r9 s)) → ∀ s, zFr W_fX65_lookItems (fX65_lookItems_B9 x2 r9 s) := by
  intro r9 hr9 x3
  unfold fX65_lookItems_B9
  exact (fr_ite (fr_ret _) (fr_gf fun v2 => (fr_ite (fr_ret _) (fr_gf fun v3 => (fr_cl (fr_mono (by decide) (fr_fX65_take_2 0 16)) fun v4 => (fr_as (by decide) (fr_al fun v5 => (fr_cl (fr_mono (by decide) (fr_fX65_take_2 0 8)) fun v6 => (fr_as (by decide) (fr_lp (fr_fX65_lookItems_B62 hr9 x2 x3 v3) zBIG 0))))))))))
theorem fr_fX65_lookItems (x1 : Int) : zFr W_fX65_lookItems (fX65_lookItems x1) :=
  (fr_cl (fr_mono (by decide) (fr_fX65_take_2 0 x1)) fun v1 => (fr_lp (fr_fX65_lookItems_B9 v1) zBIG 0))
abbrev W_fX65_lookDirectory : List Nat := [6603, 6604, 6605, 6606, 6607, 6608, 6609, 6610, 6612, 6615]
theorem fr_fX65_lookDirectory_J94 (x3 : Int) (x4 : Int) : zFr W_fX65_lookDirectory (fX65_lookDirectory_J94 x3 x4) :=
  (fr_cl (fr_mono (by decide) fr_fX65_take) fun v9 => (fr_gf fun v10 => (fr_ite (fr_gf fun v11 => (fr_as (by decide) (fr_gf fun v12 => (fr_as (by decide) (fr_gf fun v13 => (fr_as (by decide) (fr_gf fun v14 => (fr_as (by decide) (fr_gf fun v15 => (fr_gf fun v16 => (fr_as (by decide) (fr_gf fun v17 => (fr_pf (by decide) (fr_ret _)))))))))))))) (fr_ret _))))
theorem fr_fX65_lookDirectory_J82 (x3 : Int) (x4 : Int) : zFr W_fX65_lookDirectory (fX65_lookDirectory_J82 x3 x4) :=
  (fr_gf fun v8 => (fr_ite (fr_fX65_lookDirectory_J94 x3 x4) (fr_cl (fr_mono (by decide) (fr_fX65_lookItems 3)) fun _ => (fr_fX65_lookDirectory_J94 x3 x4))))
theorem fr_fX65_lookDirectory_J70 (x3 : Int) (x4 : Int) : zFr W_fX65_lookDirectory (fX65_lookDirectory_J70 x3 x4) :=
  (fr_gf fun v7 => (fr_ite (fr_fX65_lookDirectory_J82 x3 x4) (fr_cl (fr_mono (by decide) (fr_fX65_lookItems 3)) fun _ => (fr_fX65_lookDirectory_J82 x3 x4))))
theorem fr_fX65_lookDirectory_J35 (x1 : Int) (x3 : Int) : zFr W_fX65_lookDirectory (fX65_lookDirectory_J35 x1 x3) :=
  (fr_gf fun v4 => (fr_cl (fr_mono (by decide) fr_fX65_take) fun v5 => (fr_gf fun v6 => (fr_ite (fr_fX65_lookDirectory_J70 x3 v5) (fr_ite (fr_fX65_lookDirectory_J70 x3 v5) (fr_ite (fr_fX65_lookDirectory_J70 x3 v5) (fr_cl (fr_mono (by decide) (fr_fX65_wrong 5 v4)) fun v20 => (fr_fX65_lookDirectory_J70 x3 v5))))))))
theorem fr_fX65_lookDirectory (x1 : Int) : zFr W_fX65_lookDirectory (fX65_lookDirectory x1) :=
  (fr_gf fun v1 => (fr_cl (fr_mono (by decide) (fr_fX65_take_2 0 31)) fun v2 => (fr_gf fun v3 => (fr_ite (fr_fX65_lookDirectory_J35 x1 v2) (fr_cl (fr_mono (by decide) (fr_fX0_dominates v2 x1)) fun v21 => (fr_ite (fr_fX65_lookDirectory_J35 x1 v2) (fr_cl (fr_mono (by decide) (fr_fX65_wrong 5 v1)) fun v22 => (fr_fX65_lookDirectory_J35 x1 v2))))))))
abbrev W_fX65_lookNode : List Nat := [6603, 6604, 6605, 6606, 6607, 6608, 6609, 6610, 6611, 6612, 6613, 6614, 6615, 6616, 6617]
theorem fr_fX65_lookNode_J114 : zFr W_fX65_lookNode (fX65_lookNode_J114) :=
  (fr_cl (fr_mono (by decide) fr_fX65_shut) fun _ => (fr_ret _))
theorem fr_fX65_lookNode_J76 (x1 : Int) (x2 : Int) : zFr W_fX65_lookNode (fX65_lookNode_J76 x1 x2) :=
  (fr_gf fun v9 => (fr_ite (fr_ite (fr_ite (fr_cl (fr_mono (by decide) (fr_fX65_lookMailbox x1)) fun _ => fr_fX65_lookNode_J114) (fr_cl (fr_mono (by decide) fr_fX65_lookSegment) fun _ => fr_fX65_lookNode_J114)) (fr_cl (fr_mono (by decide) (fr_fX65_lookDirectory x1)) fun _ => fr_fX65_lookNode_J114)) (fr_ret _)))
theorem fr_fX65_lookNode_J63 (x1 : Int) (x2 : Int) : zFr W_fX65_lookNode (fX65_lookNode_J63 x1 x2) :=
  (fr_gf fun v8 => (fr_ite (fr_fX65_lookNode_J76 x1 x2) (fr_cl (fr_mono (by decide) (fr_fX65_lookItems 6)) fun _ => (fr_fX65_lookNode_J76 x1 x2))))
theorem fr_fX65_lookNode_J45 (x1 : Int) (x2 : Int) (s0 : Int) : zFr W_fX65_lookNode (fX65_lookNode_J45 x1 x2 s0) :=
  (fr_gf fun v7 => (fr_ite (fr_fX65_lookNode_J63 x1 x2) (fr_cl (fr_mono (by decide) (fr_fX65_take_2 s0 7)) fun v15 => (fr_fX65_lookNode_J63 x1 x2))))
theorem fr_fX65_lookNode (x1 : Int) : zFr W_fX65_lookNode (fX65_lookNode x1) :=
  (fr_cl (fr_mono (by decide) (fr_fX65_take_2 1 3)) fun v1 => (fr_gf fun v2 => (fr_ite (fr_cl (fr_mono (by decide) fr_fX65_lookName) fun _ => (fr_cl (fr_mono (by decide) (fr_fX65_take_2 0 7)) fun v4 => (fr_gf fun v5 => (fr_ite (fr_cl (fr_mono (by decide) (fr_fX65_take_2 v4 7)) fun v6 => (fr_fX65_lookNode_J45 x1 v1 v6)) (fr_fX65_lookNode_J45 x1 v1 0))))) (fr_ret _))))
abbrev W_fX65_isSound : List Nat := [6603, 6604, 6605, 6606, 6607, 6608, 6609, 6610, 6611, 6612, 6613, 6614, 6615, 6616, 6617]
theorem fr_fX65_isSound_J298 : zFr W_fX65_isSound (fX65_isSound_J298) :=
  (fr_gf fun v5 => (fr_ite (fr_ret _) (fr_ret _)))
theorem fr_fX65_isSound_J287 : zFr W_fX65_isSound (fX65_isSound_J287) :=
  (fr_gf fun v7 => (fr_cl (fr_mono (by decide) (fr_fX65_wrong 6 v7)) fun v8 => fr_fX65_isSound_J298))
theorem fr_fX65_isSound_J258 (x1 : Int) : zFr W_fX65_isSound (fX65_isSound_J258 x1) :=
  (fr_gf fun v4 => (fr_ite fr_fX65_isSound_J298 (fr_gf fun v6 => (fr_ite fr_fX65_isSound_J287 (fr_gf fun v9 => (fr_cl (fr_mono (by decide) (fr_fX1_bears x1 v9)) fun v10 => (fr_ite fr_fX65_isSound_J298 fr_fX65_isSound_J287)))))))
theorem fr_fX65_isSound_J229 (x1 : Int) : zFr W_fX65_isSound (fX65_isSound_J229 x1) :=
  (fr_gf fun v3 => (fr_ite (fr_fX65_isSound_J258 x1) (fr_gf fun v11 => (fr_gf fun v12 => (fr_ite (fr_fX65_isSound_J258 x1) (fr_gf fun v13 => (fr_cl (fr_mono (by decide) (fr_fX65_wrong 8 v13)) fun v14 => (fr_fX65_isSound_J258 x1))))))))
theorem fr_fX65_isSound_J174 (x1 : Int) : zFr W_fX65_isSound (fX65_isSound_J174 x1) :=
  (fr_gf fun v2 => (fr_ite (fr_fX65_isSound_J229 x1) (fr_gf fun v15 => (fr_cl (fr_mono (by decide) fr_fX65_take) fun v16 => (fr_lt fun v17 => (fr_cl (fr_mono (by decide) fr_fX65_take) fun v18 => (fr_lt fun v19 => (fr_gf fun v20 => (fr_ite (fr_fX65_isSound_J229 x1) (fr_cl (fr_mono (by decide) (fr_fX65_checkTo v15)) fun v21 => (fr_ite (fr_fX65_isSound_J229 x1) (fr_cl (fr_mono (by decide) (fr_fX65_wrong 7 v15)) fun v22 => (fr_fX65_isSound_J229 x1)))))))))))))
theorem fr_fX65_isSound_J170 {r94 : Int → zX} (hr94 : ∀ s, zFr W_fX65_isSound (r94 s)) (x1 : Int) (s0 : Int) : zFr W_fX65_isSound (fX65_isSound_J170 r94 x1 s0) :=
  (hr94 s0)
theorem fr_fX65_isSound_J169 {r94 : Int → zX} (hr94 : ∀ s, zFr W_fX65_isSound (r94 s)) (x1 : Int) : zFr W_fX65_isSound (fX65_isSound_J169 r94 x1) :=
  (fr_fX65_isSound_J170 hr94 x1 0)
theorem fr_fX65_isSound_J146 {r94 : Int → zX} (hr94 : ∀ s, zFr W_fX65_isSound (r94 s)) (x1 : Int) (x3 : Int) : zFr W_fX65_isSound (fX65_isSound_J146 r94 x1 x3) :=
  (fr_cl (fr_mono (by decide) (fr_fX65_lookNode x3)) fun _ => (fr_gf fun v28 => (fr_ite (fr_fX65_isSound_J169 hr94 x1) (fr_gf fun v29 => (fr_ite (fr_fX65_isSound_J169 hr94 x1) (fr_fX65_isSound_J170 hr94 x1 1))))))
theorem fr_fX65_isSound_J123 {r94 : Int → zX} (hr94 : ∀ s, zFr W_fX65_isSound (r94 s)) (x1 : Int) (s0 : Int) : zFr W_fX65_isSound (fX65_isSound_J123 r94 x1 s0) :=
  (fr_gf fun v26 => (fr_ite (fr_fX65_isSound_J146 hr94 x1 s0) (fr_gf fun v30 => (fr_al fun v31 => (fr_as (by decide) (fr_fX65_isSound_J146 hr94 x1 s0))))))
theorem fr_fX65_isSound_B94 (x1 : Int) : ∀ r94 : Int → zX, (∀ s, zFr W_fX65_isSound (r94 s)) → ∀ s, zFr W_fX65_isSound (fX65_isSound_B94 x1 r94 s) := by
  intro r94 hr94 x2
  unfold fX65_isSound_B94
  exact (fr_ite (fr_fX65_isSound_J174 x1) (fr_gf fun v23 => (fr_ite (fr_gf fun v24 => (fr_al fun v25 => (fr_fX65_isSound_J123 hr94 x1 v25))) (fr_nn (fr_gf fun v33 => (fr_fX65_isSound_J123 hr94 x1 v33))))))
theorem fr_fX65_isSound_J93 (x1 : Int) (s0 : Int) : zFr W_fX65_isSound (fX65_isSound_J93 x1 s0) :=
  (fr_lp (fr_fX65_isSound_B94 x1) zBIG s0)
theorem fr_fX65_isSound_J81 (x1 : Int) : zFr W_fX65_isSound (fX65_isSound_J81 x1) :=
  (fr_gf fun v1 => (fr_ite (fr_fX65_isSound_J93 x1 0) (fr_fX65_isSound_J93 x1 1)))
theorem fr_fX65_isSound_J75 {r32 : Int → zX} (hr32 : ∀ s, zFr W_fX65_isSound (r32 s)) (x1 : Int) (x2 : Int) : zFr W_fX65_isSound (fX65_isSound_J75 r32 x1 x2) :=
  (fr_lt fun v37 => (hr32 v37))
theorem fr_fX65_isSound_B32 (x1 : Int) : ∀ r32 : Int → zX, (∀ s, zFr W_fX65_isSound (r32 s)) → ∀ s, zFr W_fX65_isSound (fX65_isSound_B32 x1 r32 s) := by
  intro r32 hr32 x2
  unfold fX65_isSound_B32
  exact (fr_ite (fr_fX65_isSound_J81 x1) (fr_gf fun v34 => (fr_ite (fr_fX65_isSound_J81 x1) (fr_cl (fr_mono (by decide) fr_fX65_take) fun v35 => (fr_gf fun v36 => (fr_ite (fr_fX65_isSound_J75 hr32 x1 x2) (fr_hd fun v38 => (fr_ite (fr_fX65_isSound_J75 hr32 x1 x2) (fr_cl (fr_mono (by decide) (fr_fX65_wrong 2 x2)) fun v39 => (fr_fX65_isSound_J75 hr32 x1 x2))))))))))
theorem fr_fX65_isSound (x1 : Int) : zFr W_fX65_isSound (fX65_isSound x1) :=
  (fr_pf (by decide) (fr_pf (by decide) (fr_pf (by decide) (fr_pf (by decide) (fr_pf (by decide) (fr_pf (by decide) (fr_lp (fr_fX65_isSound_B32 x1) zBIG 0)))))))
abbrev W_fX65_skipItems : List Nat := [6603, 6604, 6605]
theorem fr_fX65_skipItems : zFr W_fX65_skipItems (fX65_skipItems) :=
  (fr_cl (fr_mono (by decide) fr_fX65_take) fun v1 => (fr_gf fun v2 => (fr_pf (by decide) (fr_ret _))))
abbrev W_fX65_setItems : List Nat := [600, 601, 602]
theorem fr_fX65_setItems_B6 (x1 : Int) (x2 : Int) : ∀ r6 : Int → zX, (∀ s, zFr W_fX65_setItems (r6 s)) → ∀ s, zFr W_fX65_setItems (fX65_setItems_B6 x1 x2 r6 s) := by
  intro r6 hr6 x3
  unfold fX65_setItems_B6
  exact (fr_al fun v3 => (fr_ite (fr_ret _) (fr_al fun v4 => (fr_al fun v5 => (fr_al fun v6 => (fr_nn (fr_cl (fr_mono (by decide) (fr_fX5_set x1 v4 v5 v6)) fun v8 => (fr_lt fun v9 => (hr6 v9)))))))))
theorem fr_fX65_setItems (x1 : Int) (x2 : Int) : zFr W_fX65_setItems (fX65_setItems x1 x2) :=
  (fr_nn (fr_cl (fr_mono (by decide) (fr_fX5_clear x1)) fun _ => (fr_lp (fr_fX65_setItems_B6 x1 x2) zBIG 0)))
abbrev W_fX65_makeNode : List Nat := [204, 206, 207, 300, 400, 401, 402, 501, 502, 503, 504, 505, 506, 507, 509, 510, 511, 512, 513, 514, 515, 516, 517, 520, 521, 522, 523, 600, 601, 602, 700, 701, 702, 6603, 6604, 6605]
theorem fr_fX65_makeNode_J325 {sf : Int → Int → zX} (hsf : ∀ (a0 a1 : Int), zFr W_fX65_makeNode (sf a0 a1)) (x7 : Int) (x8 : Int) (x9 : Int) (x10 : Int) (x11 : Int) : zFr W_fX65_makeNode (fX65_makeNode_J325 sf x7 x8 x9 x10 x11) :=
  (fr_nn (fr_cl (fr_mono (by decide) (fr_fX4_setBrackets x11 x7 x8 x9)) fun _ => (fr_cl (fr_mono (by decide) (fr_fX65_setItems (3 * x11) x10)) fun _ => (fr_ret _))))
theorem fr_fX65_makeNode_B297 {sf : Int → Int → zX} (hsf : ∀ (a0 a1 : Int), zFr W_fX65_makeNode (sf a0 a1)) (x7 : Int) (x8 : Int) (x9 : Int) (x10 : Int) (x11 : Int) (x13 : Int) : ∀ r297 : Int → zX, (∀ s, zFr W_fX65_makeNode (r297 s)) → ∀ s, zFr W_fX65_makeNode (fX65_makeNode_B297 sf x7 x8 x9 x10 x11 x13 r297 s) := by
  intro r297 hr297 x14
  unfold fX65_makeNode_B297
  exact (fr_ite (fr_fX65_makeNode_J325 hsf x7 x8 x9 x10 x11) (fr_cl (fr_mono (by decide) fr_fX65_takeWord) fun v21 => (fr_cl (fr_mono (by decide) (fr_fX1_put x11 x14 v21)) fun _ => (fr_lt fun v23 => (hr297 v23)))))
theorem fr_fX65_makeNode_B197 {sf : Int → Int → zX} (hsf : ∀ (a0 a1 : Int), zFr W_fX65_makeNode (sf a0 a1)) (x7 : Int) (x8 : Int) (x9 : Int) (x10 : Int) (x11 : Int) (x12 : Int) : ∀ r197 : Int → zX, (∀ s, zFr W_fX65_makeNode (r197 s)) → ∀ s, zFr W_fX65_makeNode (fX65_makeNode_B197 sf x7 x8 x9 x10 x11 x12 r197 s) := by
  intro r197 hr197 x13
  unfold fX65_makeNode_B197
  exact (fr_ite (fr_fX65_makeNode_J325 hsf x7 x8 x9 x10 x11) (fr_cl (fr_mono (by decide) fr_fX65_take) fun v28 => (fr_nn (fr_gf fun v30 => (fr_cl (fr_mono (by decide) fr_fX65_takeWord) fun v31 => (fr_nn (fr_cl (fr_mono (by decide) (fr_fX6_post v30 v31 v28)) fun v33 => (fr_lt fun v34 => (hr197 v34)))))))))
theorem fr_fX65_makeNode_J139 {sf : Int → Int → zX} (hsf : ∀ (a0 a1 : Int), zFr W_fX65_makeNode (sf a0 a1)) (x7 : Int) (x8 : Int) (x9 : Int) (x10 : Int) (x11 : Int) (x14 : Int) (x15 : Int) : zFr W_fX65_makeNode (fX65_makeNode_J139 sf x7 x8 x9 x10 x11 x14 x15) :=
  (fr_nn (fr_cl (fr_mono (by decide) (fr_fX65_setItems (3 * x11 + 1) x14)) fun _ => (fr_cl (fr_mono (by decide) (fr_fX65_setItems (3 * x11 + 2) x15)) fun _ => (fr_fX65_makeNode_J325 hsf x7 x8 x9 x10 x11))))
theorem fr_fX65_makeNode_B118 {sf : Int → Int → zX} (hsf : ∀ (a0 a1 : Int), zFr W_fX65_makeNode (sf a0 a1)) (x7 : Int) (x8 : Int) (x9 : Int) (x10 : Int) (x11 : Int) (x14 : Int) (x15 : Int) (x16 : Int) : ∀ r118 : Int → zX, (∀ s, zFr W_fX65_makeNode (r118 s)) → ∀ s, zFr W_fX65_makeNode (fX65_makeNode_B118 sf x7 x8 x9 x10 x11 x14 x15 x16 r118 s) := by
  intro r118 hr118 x17
  unfold fX65_makeNode_B118
  exact (fr_ite (fr_fX65_makeNode_J139 hsf x7 x8 x9 x10 x11 x14 x15) (fr_cl (hsf x11 0) fun v46 => (fr_lt fun v47 => (hr118 v47))))
theorem fr_fX65_makeNode_J24 {sf : Int → Int → zX} (hsf : ∀ (a0 a1 : Int), zFr W_fX65_makeNode (sf a0 a1)) (x1 : Int) (x4 : Int) (s0 : Int) : zFr W_fX65_makeNode (fX65_makeNode_J24 sf x1 x4 s0) :=
  (fr_cl (fr_mono (by decide) fr_fX65_take) fun v3 => (fr_cl (fr_mono (by decide) fr_fX65_take) fun v4 => (fr_cl (fr_mono (by decide) fr_fX65_take) fun v5 => (fr_gf fun v6 => (fr_cl (fr_mono (by decide) fr_fX65_skipItems) fun _ => (fr_ite (fr_ite (fr_cl (fr_mono (by decide) fr_fX65_take) fun v8 => (fr_cl (fr_mono (by decide) fr_fX65_take) fun v9 => (fr_lt fun v10 => (fr_cl (fr_mono (by decide) fr_fX65_take) fun v11 => (fr_lt fun v12 => (fr_nn (fr_gf fun v14 => (fr_cl (fr_mono (by decide) (fr_fX1_make x1 2 s0 v14 0)) fun v15 => (fr_nn (fr_pf (by decide) (fr_cl (fr_mono (by decide) (fr_fX1_resize v15 v12)) fun _ => (fr_lp (fr_fX65_makeNode_B297 hsf v3 v4 v5 v6 v15 v12) zBIG 0)))))))))))) (fr_cl (fr_mono (by decide) fr_fX65_take) fun v24 => (fr_nn (fr_gf fun v26 => (fr_cl (fr_mono (by decide) (fr_fX1_make x1 3 s0 v26 0)) fun v27 => (fr_lp (fr_fX65_makeNode_B197 hsf v3 v4 v5 v6 v27 v24) zBIG 0)))))) (fr_cl (fr_mono (by decide) fr_fX65_take) fun v35 => (fr_cl (fr_mono (by decide) fr_fX65_take) fun v36 => (fr_gf fun v37 => (fr_cl (fr_mono (by decide) fr_fX65_skipItems) fun _ => (fr_gf fun v39 => (fr_cl (fr_mono (by decide) fr_fX65_skipItems) fun _ => (fr_cl (fr_mono (by decide) fr_fX65_take) fun v41 => (fr_cl (fr_mono (by decide) (fr_fX1_make x1 1 s0 v35 v36)) fun v42 => (fr_lp (fr_fX65_makeNode_B118 hsf v3 v4 v5 v6 v42 v37 v39 v41) zBIG 0)))))))))))))))
theorem fr_fX65_makeNode_E {sf : Int → Int → zX} (hsf : ∀ (a0 a1 : Int), zFr W_fX65_makeNode (sf a0 a1)) (x1 : Int) (x2 : Int) : zFr W_fX65_makeNode (fX65_makeNode_E sf x1 x2) :=
  (fr_cl (fr_mono (by decide) fr_fX65_take) fun v1 => (fr_cl (fr_mono (by decide) fr_fX65_takeWord) fun v2 => (fr_ite (fr_fX65_makeNode_J24 hsf x1 v1 v2) (fr_fX65_makeNode_J24 hsf x1 v1 x2))))
theorem fr_fX65_makeNode : ∀ (n : Nat) (a0 a1 : Int), zFr W_fX65_makeNode (fX65_makeNode n a0 a1) := by
  intro n
  induction n with
  | zero => intro a0 a1; exact fr_no
  | succ n ih => intro a0 a1; exact fr_fX65_makeNode_E ih a0 a1
abbrev W_fX65_reload : List Nat := [204, 206, 207, 300, 400, 401, 402, 501, 502, 503, 504, 505, 506, 507, 509, 510, 511, 512, 513, 514, 515, 516, 517, 520, 521, 522, 523, 600, 601, 602, 700, 701, 702, 6603, 6604, 6605, 6606, 6607, 6608, 6609, 6610, 6611, 6612, 6613, 6614, 6615, 6616, 6617]
theorem fr_fX65_reload (x1 : Int) (x2 : Int) : zFr W_fX65_reload (fX65_reload x1 x2) :=
  (fr_cl (fr_mono (by decide) (fr_fX65_isSound x1)) fun v1 => (fr_ite (fr_pf (by decide) (fr_cl (fr_mono (by decide) (fr_fX65_makeNode 300 x1 x2)) fun v2 => (fr_gf fun v3 => (fr_pf (by decide) (fr_nn (fr_ret _)))))) (fr_gf fun v5 => (fr_ret _))))
abbrev W_fX0_reload : List Nat := [109, 204, 206, 207, 300, 400, 401, 402, 501, 502, 503, 504, 505, 506, 507, 509, 510, 511, 512, 513, 514, 515, 516, 517, 520, 521, 522, 523, 600, 601, 602, 700, 701, 702, 6603, 6604, 6605, 6606, 6607, 6608, 6609, 6610, 6611, 6612, 6613, 6614, 6615, 6616, 6617]
theorem fr_fX0_reload_J73 (x5 : Int) (s1 : Int) : zFr W_fX0_reload (fX0_reload_J73 x5 s1) :=
  (fr_pf (by decide) (fr_ret _))
theorem fr_fX0_reload (x1 : Int) (x2 : Int) : zFr W_fX0_reload (fX0_reload x1 x2) :=
  (fr_cl (fr_mono (by decide) (fr_fX1_directory x1)) fun v1 => (fr_ite (fr_ret _) (fr_cl (fr_mono (by decide) (fr_fX0_isName x2)) fun v3 => (fr_ite (fr_cl (fr_mono (by decide) (fr_fX2_find v1 x2)) fun v4 => (fr_ite (fr_cl (fr_mono (by decide) (fr_fX65_reload v1 x2)) fun v6 => (fr_ite (fr_fX0_reload_J73 v6 (-1)) (fr_gf fun v7 => (fr_fX0_reload_J73 v6 v7)))) (fr_ret _))) (fr_ret _)))))
abbrev W_fX0_count : List Nat := []
theorem fr_fX0_count_J76 {r52 : Int × Int → zX} (hr52 : ∀ s, zFr W_fX0_count (r52 s)) (x3 : Int) (s0 : Int) (s1 : Int) : zFr W_fX0_count (fX0_count_J76 r52 x3 s0 s1) :=
  (fr_lt fun v7 => (fr_lt fun v8 => (hr52 (v7, v8))))
theorem fr_fX0_count_B52 : ∀ r52 : Int × Int → zX, (∀ s, zFr W_fX0_count (r52 s)) → ∀ s, zFr W_fX0_count (fX0_count_B52 r52 s) := by
  intro r52 hr52 s
  obtain ⟨x2, x3⟩ := s
  unfold fX0_count_B52
  exact (fr_ite (fr_ret _) (fr_ib (fr_gf fun v6 => (fr_ite (fr_fX0_count_J76 hr52 x3 x2 0) (fr_fX0_count_J76 hr52 x3 x2 1)))))
theorem fr_fX0_count (x1 : Int) : zFr W_fX0_count (fX0_count x1) :=
  (fr_ite (fr_gf fun v2 => (fr_ret _)) (fr_ite (fr_lp fr_fX0_count_B52 zBIG (0, 0)) (fr_ite (fr_gf fun v10 => (fr_ret _)) (fr_ite (fr_gf fun v12 => (fr_ret _)) (fr_ite (fr_gf fun v14 => (fr_ret _)) (fr_ite (fr_gf fun v16 => (fr_ret _)) (fr_ret _)))))))
