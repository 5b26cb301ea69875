set_option linter.unusedVariables false
theorem lc_fX67_in (x0 : Int) (x2 : Int) (x4 : Int) : zLoc zSt_ (fX67_in x0 x2 x4) :=
  (lc_ite (lc_ret _) (lc_ite (lc_ret _) (lc_ret _)))
theorem lc_fX67_isNode (x1 : Int) : zLoc zSt_ (fX67_isNode x1) :=
  (lc_cl (lc_fX67_in x1 0 255) fun v1 => (lc_ite (lc_ret _) (lc_al (by decide) fun v2 => (lc_ite (lc_ret _) (lc_ret _)))))
theorem lc_fX67_isOf (x1 : Int) (x2 : Int) : zLoc zSt_ (fX67_isOf x1 x2) :=
  (lc_cl (lc_fX67_isNode x1) fun v1 => (lc_ite (lc_ret _) (lc_al (by decide) fun v2 => (lc_ite (lc_ret _) (lc_ret _)))))
theorem lc_fX67_isWord (x0 : Int) : zLoc zSt_ (fX67_isWord x0) :=
  (lc_cl (lc_fX67_in x0 0 68719476735) fun v1 => (lc_rb _))
theorem lc_fX67_isName_J91 (x0 : Int) (x3 : Int) : zLoc zSt_ (fX67_isName_J91 x0 x3) :=
  (lc_ite (lc_ret _) (lc_ite (lc_ret _) (lc_ret _)))
theorem lc_fX67_isName_J84 {r23 : Int × Int × Int → zX} (hr23 : ∀ s, zLoc zSt_ (r23 s)) (x0 : Int) (x3 : Int) (x4 : Int) (s0 : Int) : zLoc zSt_ (fX67_isName_J84 r23 x0 x3 x4 s0) :=
  (lc_lt fun v3 => (hr23 (s0, x3, v3)))
theorem lc_fX67_isName_J79 {r23 : Int × Int × Int → zX} (hr23 : ∀ s, zLoc zSt_ (r23 s)) (x0 : Int) (x3 : Int) (x4 : Int) : zLoc zSt_ (fX67_isName_J79 r23 x0 x3 x4) :=
  (lc_fX67_isName_J84 hr23 x0 x3 x4 1)
theorem lc_fX67_isName_J67 {r23 : Int × Int × Int → zX} (hr23 : ∀ s, zLoc zSt_ (r23 s)) (x0 : Int) (x2 : Int) (x4 : Int) (x5 : Int) (s0 : Int) : zLoc zSt_ (fX67_isName_J67 r23 x0 x2 x4 x5 s0) :=
  (lc_ite (lc_fX67_isName_J79 hr23 x0 s0 x4) (lc_ite (lc_fX67_isName_J84 hr23 x0 s0 x4 0) (lc_fX67_isName_J79 hr23 x0 s0 x4)))
theorem lc_fX67_isName_J66 {r23 : Int × Int × Int → zX} (hr23 : ∀ s, zLoc zSt_ (r23 s)) (x0 : Int) (x2 : Int) (x4 : Int) (x5 : Int) : zLoc zSt_ (fX67_isName_J66 r23 x0 x2 x4 x5) :=
  (lc_fX67_isName_J67 hr23 x0 x2 x4 x5 0)
theorem lc_fX67_isName_J62 {r23 : Int × Int × Int → zX} (hr23 : ∀ s, zLoc zSt_ (r23 s)) (x0 : Int) (x2 : Int) (x4 : Int) (x5 : Int) : zLoc zSt_ (fX67_isName_J62 r23 x0 x2 x4 x5) :=
  (lc_fX67_isName_J67 hr23 x0 x2 x4 x5 1)
theorem lc_fX67_isName_B23 (x0 : Int) : ∀ r23 : Int × Int × Int → zX, (∀ s, zLoc zSt_ (r23 s)) → ∀ s, zLoc zSt_ (fX67_isName_B23 x0 r23 s) := by
  intro r23 hr23 s
  obtain ⟨x2, x3, x4⟩ := s
  unfold fX67_isName_B23
  exact (lc_ite (lc_fX67_isName_J91 x0 x3) (lc_lt fun v2 => (lc_ite (lc_fX67_isName_J66 hr23 x0 x2 x4 v2) (lc_ite (lc_fX67_isName_J66 hr23 x0 x2 x4 v2) (lc_ite (lc_fX67_isName_J62 hr23 x0 x2 x4 v2) (lc_ite (lc_fX67_isName_J66 hr23 x0 x2 x4 v2) (lc_fX67_isName_J62 hr23 x0 x2 x4 v2)))))))
theorem lc_fX67_isName (x0 : Int) : zLoc zSt_ (fX67_isName x0) :=
  (lc_cl (lc_fX67_isWord x0) fun v1 => (lc_ite (lc_ret _) (lc_ite (lc_lp (lc_fX67_isName_B23 x0) zBIG (0, 1, 30)) (lc_ret _))))
theorem lc_fX67_dominates (x0 : Int) (x1 : Int) : zLoc zSt_ (fX67_dominates x0 x1) :=
  (lc_ite (lc_ret _) (lc_ite (lc_ret _) (lc_ret _)))
theorem lc_fX67_entryNamed_J54 {r6 : Int × Int → zX} (hr6 : ∀ s, zLoc zSt_ (r6 s)) (x1 : Int) (x2 : Int) (x5 : Int) (s0 : Int) : zLoc zSt_ (fX67_entryNamed_J54 r6 x1 x2 x5 s0) :=
  (lc_lt fun v2 => (hr6 (s0, v2)))
theorem lc_fX67_entryNamed_J52 {r6 : Int × Int → zX} (hr6 : ∀ s, zLoc zSt_ (r6 s)) (x1 : Int) (x2 : Int) (x4 : Int) (x5 : Int) : zLoc zSt_ (fX67_entryNamed_J52 r6 x1 x2 x4 x5) :=
  (lc_fX67_entryNamed_J54 hr6 x1 x2 x5 x4)
theorem lc_fX67_entryNamed_B6 (x1 : Int) (x2 : Int) : ∀ r6 : Int × Int → zX, (∀ s, zLoc zSt_ (r6 s)) → ∀ s, zLoc zSt_ (fX67_entryNamed_B6 x1 x2 r6 s) := by
  intro r6 hr6 s
  obtain ⟨x4, x5⟩ := s
  unfold fX67_entryNamed_B6
  exact (lc_ite (lc_ret _) (lc_al (by decide) fun v1 => (lc_ite (lc_fX67_entryNamed_J52 hr6 x1 x2 x4 x5) (lc_al (by decide) fun v3 => (lc_ite (lc_fX67_entryNamed_J52 hr6 x1 x2 x4 x5) (lc_al (by decide) fun v4 => (lc_ite (lc_fX67_entryNamed_J52 hr6 x1 x2 x4 x5) (lc_fX67_entryNamed_J54 hr6 x1 x2 x5 x5))))))))
theorem lc_fX67_entryNamed (x1 : Int) (x2 : Int) : zLoc zSt_ (fX67_entryNamed x1 x2) :=
  (lc_lp (lc_fX67_entryNamed_B6 x1 x2) zBIG ((-1), 1))
theorem lc_fX67_costOf (x0 : Int) (x1 : Int) : zLoc zSt_ (fX67_costOf x0 x1) :=
  (lc_ite (lc_ite (lc_ret _) (lc_ret _)) (lc_ret _))
theorem lc_fX67_account_B2 : ∀ r2 : Int → zX, (∀ s, zLoc zSt_ (r2 s)) → ∀ s, zLoc zSt_ (fX67_account_B2 r2 s) := by
  intro r2 hr2 x2
  unfold fX67_account_B2
  exact (lc_al (by decide) fun v1 => (lc_ite (lc_ret _) (lc_al (by decide) fun v2 => (hr2 v2))))
theorem lc_fX67_account (x1 : Int) : zLoc zSt_ (fX67_account x1) :=
  (lc_lp lc_fX67_account_B2 zBIG x1)
theorem lc_fX67_hasRoom (x1 : Int) (x2 : Int) : zLoc zSt_ (fX67_hasRoom x1 x2) :=
  (lc_cl (lc_fX67_account x1) fun v1 => (lc_al (by decide) fun v2 => (lc_al (by decide) fun v3 => (lc_ite (lc_ret _) (lc_ret _)))))
theorem lc_fX67_free_B2 : ∀ r2 : Int → zX, (∀ s, zLoc zSt_ (r2 s)) → ∀ s, zLoc zSt_ (fX67_free_B2 r2 s) := by
  intro r2 hr2 x1
  unfold fX67_free_B2
  exact (lc_ite (lc_ret _) (lc_al (by decide) fun v1 => (lc_ite (lc_ret _) (lc_lt fun v2 => (hr2 v2)))))
theorem lc_fX67_free : zLoc zSt_ (fX67_free) :=
  (lc_lp lc_fX67_free_B2 zBIG 0)
theorem lc_fX67_setBrackets (x1 : Int) (x2 : Int) (x3 : Int) (x4 : Int) : zLoc zSt_ (fX67_setBrackets x1 x2 x3 x4) :=
  (lc_as (by decide) (lc_as (by decide) (lc_as (by decide) (lc_ret _))))
theorem lc_fX67_make_J190 (x1 : Int) (x2 : Int) (x6 : Int) (x7 : Int) : zLoc zSt_ (fX67_make_J190 x1 x2 x6 x7) :=
  (lc_cl (lc_fX67_setBrackets x7 4 4 4) fun _ => (lc_cl (lc_fX67_account x2) fun v5 => (lc_al (by decide) fun v6 => (lc_cl (lc_fX67_costOf x1 x6) fun v7 => (lc_as (by decide) (lc_ret _))))))
theorem lc_fX67_make_B161 (x1 : Int) (x2 : Int) (x6 : Int) (x7 : Int) : ∀ r161 : Int → zX, (∀ s, zLoc zSt_ (r161 s)) → ∀ s, zLoc zSt_ (fX67_make_B161 x1 x2 x6 x7 r161 s) := by
  intro r161 hr161 x8
  unfold fX67_make_B161
  exact (lc_ite (lc_fX67_make_J190 x1 x2 x6 x7) (lc_as (by decide) (lc_lt fun v8 => (hr161 v8))))
theorem lc_fX67_make_J82 (x1 : Int) (x2 : Int) (x6 : Int) (x7 : Int) (s1 : Int) (s2 : Int) : zLoc zSt_ (fX67_make_J82 x1 x2 x6 x7 s1 s2) :=
  (lc_as (by decide) (lc_as (by decide) (lc_as (by decide) (lc_as (by decide) (lc_as (by decide) (lc_as (by decide) (lc_as (by decide) (lc_gf (by decide) fun v2 => (lc_pf (by decide) (lc_gf (by decide) fun v3 => (lc_as (by decide) (lc_lp (lc_fX67_make_B161 x1 x2 x6 x7) zBIG 0))))))))))))
theorem lc_fX67_make_J64 (x1 : Int) (x2 : Int) (x6 : Int) (x7 : Int) (s1 : Int) (s2 : Int) : zLoc zSt_ (fX67_make_J64 x1 x2 x6 x7 s1 s2) :=
  (lc_as (by decide) (lc_ite (lc_fX67_make_J82 x1 x2 x6 x7 x7 0) (lc_fX67_make_J82 x1 x2 x6 x7 x7 x6)))
theorem lc_fX67_make (x1 : Int) (x2 : Int) (x3 : Int) (x5 : Int) (x6 : Int) : zLoc zSt_ (fX67_make x1 x2 x3 x5 x6) :=
  (lc_cl lc_fX67_free fun v1 => (lc_as (by decide) (lc_as (by decide) (lc_as (by decide) (lc_as (by decide) (lc_as (by decide) (lc_ite (lc_fX67_make_J64 x1 x2 x6 v1 v1 0) (lc_fX67_make_J64 x1 x2 x6 v1 v1 x6))))))))
theorem lc_fX67_addItem (x1 : Int) (x2 : Int) (x3 : Int) (x4 : Int) : zLoc zSt_ (fX67_addItem x1 x2 x3 x4) :=
  (lc_al (by decide) fun v1 => (lc_lt fun v2 => (lc_as (by decide) (lc_as (by decide) (lc_as (by decide) (lc_al (by decide) fun v3 => (lc_as (by decide) (lc_ret _))))))))
theorem lc_fX67_giveFirsts_J107 {r29 : Int → zX} (hr29 : ∀ s, zLoc zSt_ (r29 s)) (x1 : Int) (x2 : Int) (x3 : Int) (x4 : Int) (x5 : Int) : zLoc zSt_ (fX67_giveFirsts_J107 r29 x1 x2 x3 x4 x5) :=
  (lc_lt fun v11 => (hr29 v11))
theorem lc_fX67_giveFirsts_J77 {r29 : Int → zX} (hr29 : ∀ s, zLoc zSt_ (r29 s)) (x1 : Int) (x2 : Int) (x3 : Int) (x4 : Int) (x5 : Int) (x6 : Int) : zLoc zSt_ (fX67_giveFirsts_J77 r29 x1 x2 x3 x4 x5 x6) :=
  (lc_al (by decide) fun v7 => (lc_al (by decide) fun v8 => (lc_al (by decide) fun v9 => (lc_cl (lc_fX67_addItem x1 v7 v8 v9) fun _ => (lc_fX67_giveFirsts_J107 hr29 x1 x2 x3 x4 x5)))))
theorem lc_fX67_giveFirsts_B29 (x1 : Int) (x2 : Int) (x3 : Int) (x4 : Int) : ∀ r29 : Int → zX, (∀ s, zLoc zSt_ (r29 s)) → ∀ s, zLoc zSt_ (fX67_giveFirsts_B29 x1 x2 x3 x4 r29 s) := by
  intro r29 hr29 x5
  unfold fX67_giveFirsts_B29
  exact (lc_al (by decide) fun v4 => (lc_ite (lc_ret _) (lc_lt fun v5 => (lc_al (by decide) fun v6 => (lc_ite (lc_fX67_giveFirsts_J77 hr29 x1 x2 x3 x4 x5 v5) (lc_al (by decide) fun v12 => (lc_ite (lc_fX67_giveFirsts_J107 hr29 x1 x2 x3 x4 x5) (lc_fX67_giveFirsts_J77 hr29 x1 x2 x3 x4 x5 v5))))))))
theorem lc_fX67_giveFirsts_J23 (x1 : Int) (x2 : Int) (x3 : Int) (s0 : Int) (s1 : Int) : zLoc zSt_ (fX67_giveFirsts_J23 x1 x2 x3 s0 s1) :=
  (lc_lt fun v3 => (lc_lp (lc_fX67_giveFirsts_B29 x1 x2 x3 v3) zBIG 0))
theorem lc_fX67_giveFirsts (x1 : Int) (x2 : Int) (x3 : Int) : zLoc zSt_ (fX67_giveFirsts x1 x2 x3) :=
  (lc_al (by decide) fun v1 => (lc_al (by decide) fun v2 => (lc_ite (lc_fX67_giveFirsts_J23 x1 x2 x3 (zi (2 * v1)) 1) (lc_fX67_giveFirsts_J23 x1 x2 x3 (zi (2 * v1)) 0))))
theorem lc_fX67_made (x1 : Int) : zLoc zSt_ (fX67_made x1) :=
  (lc_cl (lc_fX67_giveFirsts x1 (-1) (-1)) fun _ => (lc_ret _))
theorem lc_fX67_directory_J75 (x1 : Int) (x2 : Int) (x4 : Int) (x5 : Int) : zLoc zSt_ (fX67_directory_J75 x1 x2 x4 x5) :=
  (lc_cl (lc_fX67_entryNamed x1 x2) fun v8 => (lc_ite (lc_cl (lc_fX67_costOf 1 x5) fun v9 => (lc_cl (lc_fX67_hasRoom x1 v9) fun v10 => (lc_ite (lc_cl (lc_fX67_make 1 x1 x2 x4 x5) fun v11 => (lc_cl (lc_fX67_made v11) fun v12 => (lc_ret _))) (lc_ret _)))) (lc_ret _)))
theorem lc_fX67_directory (x1 : Int) (x2 : Int) (x4 : Int) (x5 : Int) : zLoc zSt_ (fX67_directory x1 x2 x4 x5) :=
  (lc_cl (lc_fX67_isOf x1 1) fun v1 => (lc_ite (lc_ret _) (lc_cl (lc_fX67_isName x2) fun v2 => (lc_ite (lc_ret _) (lc_cl (lc_fX67_in x4 0 31) fun v3 => (lc_ite (lc_ret _) (lc_al (by decide) fun v4 => (lc_cl (lc_fX67_dominates x4 v4) fun v5 => (lc_ite (lc_ret _) (lc_cl (lc_fX67_in x5 0 255) fun v6 => (lc_ite (lc_ret _) (lc_al (by decide) fun v7 => (lc_ite (lc_fX67_directory_J75 x1 x2 x4 x5) (lc_ite (lc_fX67_directory_J75 x1 x2 x4 x5) (lc_ret _)))))))))))))))
theorem lc_fX67_segment (x1 : Int) (x2 : Int) (x4 : Int) : zLoc zSt_ (fX67_segment x1 x2 x4) :=
  (lc_cl (lc_fX67_isOf x1 1) fun v1 => (lc_ite (lc_ret _) (lc_cl (lc_fX67_isName x2) fun v2 => (lc_ite (lc_ret _) (lc_cl (lc_fX67_in x4 0 1024) fun v3 => (lc_ite (lc_cl (lc_fX67_entryNamed x1 x2) fun v4 => (lc_ite (lc_cl (lc_fX67_costOf 2 x4) fun v5 => (lc_cl (lc_fX67_hasRoom x1 v5) fun v6 => (lc_ite (lc_al (by decide) fun v7 => (lc_cl (lc_fX67_make 2 x1 x2 v7 x4) fun v8 => (lc_cl (lc_fX67_made v8) fun v9 => (lc_ret _)))) (lc_ret _)))) (lc_ret _))) (lc_ret _)))))))
theorem lc_fX67_mailbox (x1 : Int) (x2 : Int) : zLoc zSt_ (fX67_mailbox x1 x2) :=
  (lc_cl (lc_fX67_isOf x1 1) fun v1 => (lc_ite (lc_ret _) (lc_cl (lc_fX67_isName x2) fun v2 => (lc_ite (lc_cl (lc_fX67_entryNamed x1 x2) fun v3 => (lc_ite (lc_cl (lc_fX67_costOf 3 0) fun v4 => (lc_cl (lc_fX67_hasRoom x1 v4) fun v5 => (lc_ite (lc_al (by decide) fun v6 => (lc_cl (lc_fX67_make 3 x1 x2 v6 0) fun v7 => (lc_cl (lc_fX67_made v7) fun v8 => (lc_ret _)))) (lc_ret _)))) (lc_ret _))) (lc_ret _)))))
theorem lc_fX67_isItem (x0 : Int) (x1 : Int) (x2 : Int) : zLoc zSt_ (fX67_isItem x0 x1 x2) :=
  (lc_cl (lc_fX67_in x0 0 16) fun v1 => (lc_ite (lc_ret _) (lc_cl (lc_fX67_in x1 0 8) fun v2 => (lc_ite (lc_ret _) (lc_cl (lc_fX67_in x2 0 8) fun v3 => (lc_ite (lc_ret _) (lc_ret _)))))))
theorem lc_fX67_setItem_J94 {c1 : Nat} (hc1 : zSt_ c1) (x3 : Int) : zLoc zSt_ (fX67_setItem_J94 c1 x3) :=
  (lc_ret _)
theorem lc_fX67_setItem_B66 {c1 : Nat} (hc1 : zSt_ c1) (x2 : Int) (x3 : Int) : ∀ r66 : Int → zX, (∀ s, zLoc zSt_ (r66 s)) → ∀ s, zLoc zSt_ (fX67_setItem_B66 c1 x2 x3 r66 s) := by
  intro r66 hr66 x9
  unfold fX67_setItem_B66
  exact (lc_ite (lc_fX67_setItem_J94 hc1 x3) (lc_al hc1 fun v2 => (lc_as hc1 (lc_lt fun v3 => (hr66 v3)))))
theorem lc_fX67_setItem_J43 {c1 : Nat} (hc1 : zSt_ c1) (x2 : Int) (x3 : Int) (x4 : Int) (x5 : Int) (x6 : Int) (x7 : Int) (x8 : Int) : zLoc zSt_ (fX67_setItem_J43 c1 x2 x3 x4 x5 x6 x7 x8) :=
  (lc_ite (lc_ite (lc_as hc1 (lc_as hc1 (lc_as hc1 (lc_ite (lc_ret _) (lc_ret _))))) (lc_ret _)) (lc_ite (lc_lt fun v1 => (lc_lp (lc_fX67_setItem_B66 hc1 x2 x3) zBIG v1)) (lc_ret _)))
theorem lc_fX67_setItem_J37 {c1 : Nat} (hc1 : zSt_ c1) {r3 : Int → zX} (hr3 : ∀ s, zLoc zSt_ (r3 s)) (x2 : Int) (x3 : Int) (x4 : Int) (x5 : Int) (x6 : Int) (x7 : Int) (x8 : Int) : zLoc zSt_ (fX67_setItem_J37 c1 r3 x2 x3 x4 x5 x6 x7 x8) :=
  (lc_lt fun v5 => (hr3 v5))
theorem lc_fX67_setItem_B3 {c1 : Nat} (hc1 : zSt_ c1) (x2 : Int) (x3 : Int) (x4 : Int) (x5 : Int) (x6 : Int) (x7 : Int) : ∀ r3 : Int → zX, (∀ s, zLoc zSt_ (r3 s)) → ∀ s, zLoc zSt_ (fX67_setItem_B3 c1 x2 x3 x4 x5 x6 x7 r3 s) := by
  intro r3 hr3 x8
  unfold fX67_setItem_B3
  exact (lc_ite (lc_fX67_setItem_J43 hc1 x2 x3 x4 x5 x6 x7 x8) (lc_al hc1 fun v4 => (lc_ite (lc_fX67_setItem_J37 hc1 hr3 x2 x3 x4 x5 x6 x7 x8) (lc_al hc1 fun v6 => (lc_ite (lc_fX67_setItem_J43 hc1 x2 x3 x4 x5 x6 x7 x8) (lc_fX67_setItem_J37 hc1 hr3 x2 x3 x4 x5 x6 x7 x8))))))
theorem lc_fX67_setItem {c1 : Nat} (hc1 : zSt_ c1) (x2 : Int) (x3 : Int) (x4 : Int) (x5 : Int) (x6 : Int) (x7 : Int) : zLoc zSt_ (fX67_setItem c1 x2 x3 x4 x5 x6 x7) :=
  (lc_lp (lc_fX67_setItem_B3 hc1 x2 x3 x4 x5 x6 x7) zBIG 0)
theorem lc_fX67_initial_J95 (x7 : Int) (s1 : Int) (s2 : Int) : zLoc zSt_ (fX67_initial_J95 x7 s1 s2) :=
  (lc_as (by decide) (lc_ret _))
theorem lc_fX67_initial (x1 : Int) (x2 : Int) (x3 : Int) (x4 : Int) (x5 : Int) : zLoc zSt_ (fX67_initial x1 x2 x3 x4 x5) :=
  (lc_cl (lc_fX67_isOf x1 1) fun v1 => (lc_ite (lc_ret _) (lc_cl (lc_fX67_in x2 1 2) fun v2 => (lc_ite (lc_ret _) (lc_cl (lc_fX67_isItem x3 x4 x5) fun v3 => (lc_ite (lc_lt fun v4 => (lc_al (by decide) fun v5 => (lc_cl (lc_fX67_setItem (show zSt_ 6815 by decide) (zi (9 * v4)) v5 3 x3 x4 x5) fun v6 => (lc_ite (lc_al (by decide) fun v7 => (lc_fX67_initial_J95 v6 v4 v7)) (lc_fX67_initial_J95 v6 v4 v6))))) (lc_ret _)))))))
theorem lc_fX67_item_J68 (x5 : Int) (s1 : Int) (s2 : Int) : zLoc zSt_ (fX67_item_J68 x5 s1 s2) :=
  (lc_as (by decide) (lc_ret _))
theorem lc_fX67_item (x1 : Int) (x2 : Int) (x3 : Int) (x4 : Int) : zLoc zSt_ (fX67_item x1 x2 x3 x4) :=
  (lc_cl (lc_fX67_isNode x1) fun v1 => (lc_ite (lc_ret _) (lc_cl (lc_fX67_isItem x2 x3 x4) fun v2 => (lc_ite (lc_al (by decide) fun v3 => (lc_cl (lc_fX67_setItem (show zSt_ 6813 by decide) (zi (18 * x1)) v3 6 x2 x3 x4) fun v4 => (lc_ite (lc_al (by decide) fun v5 => (lc_fX67_item_J68 v4 x1 v5)) (lc_fX67_item_J68 v4 x1 v4)))) (lc_ret _)))))
theorem lc_fX67_areBrackets_J57 (s0 : Int) (s1 : Int) (s2 : Int) : zLoc zSt_ (fX67_areBrackets_J57 s0 s1 s2) :=
  (lc_cl (lc_fX67_in s0 s1 s2) fun v5 => (lc_ite (lc_ret _) (lc_ret _)))
theorem lc_fX67_areBrackets (x1 : Int) (x2 : Int) (x3 : Int) (x4 : Int) (x5 : Int) : zLoc zSt_ (fX67_areBrackets x1 x2 x3 x4 x5) :=
  (lc_cl (lc_fX67_in x2 0 x3) fun v1 => (lc_ite (lc_ret _) (lc_cl (lc_fX67_in x3 0 x4) fun v2 => (lc_ite (lc_ret _) (lc_cl (lc_fX67_in x4 0 7) fun v3 => (lc_ite (lc_ret _) (lc_al (by decide) fun v4 => (lc_ite (lc_fX67_areBrackets_J57 x5 0 0) (lc_fX67_areBrackets_J57 x5 0 63)))))))))
theorem lc_fX67_brackets (x1 : Int) (x2 : Int) (x3 : Int) (x4 : Int) (x5 : Int) : zLoc zSt_ (fX67_brackets x1 x2 x3 x4 x5) :=
  (lc_cl (lc_fX67_isNode x1) fun v1 => (lc_ite (lc_ret _) (lc_cl (lc_fX67_areBrackets x1 x2 x3 x4 x5) fun v2 => (lc_ite (lc_cl (lc_fX67_setBrackets x1 x2 x3 x4) fun _ => (lc_as (by decide) (lc_ret _))) (lc_ret _)))))
theorem lc_fX67_cost_J31 (s0 : Int) (s1 : Int) : zLoc zSt_ (fX67_cost_J31 s0 s1) :=
  (lc_cl (lc_fX67_costOf s0 s1) fun v4 => (lc_ret _))
theorem lc_fX67_cost (x1 : Int) : zLoc zSt_ (fX67_cost x1) :=
  (lc_al (by decide) fun v1 => (lc_al (by decide) fun v2 => (lc_ite (lc_al (by decide) fun v3 => (lc_fX67_cost_J31 v1 v3)) (lc_al (by decide) fun v5 => (lc_fX67_cost_J31 v1 v5)))))
theorem lc_fX67_setLength_J81 (x1 : Int) (x2 : Int) : zLoc zSt_ (fX67_setLength_J81 x1 x2) :=
  (lc_as (by decide) (lc_ret _))
theorem lc_fX67_setLength_B55 (x1 : Int) (x2 : Int) : ∀ r55 : Int → zX, (∀ s, zLoc zSt_ (r55 s)) → ∀ s, zLoc zSt_ (fX67_setLength_B55 x1 x2 r55 s) := by
  intro r55 hr55 x4
  unfold fX67_setLength_B55
  exact (lc_ite (lc_fX67_setLength_J81 x1 x2) (lc_as (by decide) (lc_lt fun v10 => (hr55 v10))))
theorem lc_fX67_setLength (x1 : Int) (x2 : Int) : zLoc zSt_ (fX67_setLength x1 x2) :=
  (lc_cl (lc_fX67_costOf 2 x2) fun v1 => (lc_cl (lc_fX67_cost x1) fun v2 => (lc_lt fun v3 => (lc_al (by decide) fun v4 => (lc_cl (lc_fX67_hasRoom v4 v3) fun v5 => (lc_ite (lc_al (by decide) fun v6 => (lc_cl (lc_fX67_account v6) fun v7 => (lc_al (by decide) fun v8 => (lc_as (by decide) (lc_al (by decide) fun v9 => (lc_lp (lc_fX67_setLength_B55 x1 x2) zBIG v9)))))) (lc_ret _)))))))
theorem lc_fX67_length (x1 : Int) (x2 : Int) : zLoc zSt_ (fX67_length x1 x2) :=
  (lc_cl (lc_fX67_isOf x1 2) fun v1 => (lc_ite (lc_ret _) (lc_cl (lc_fX67_in x2 0 1024) fun v2 => (lc_ite (lc_al (by decide) fun v3 => (lc_cl (lc_fX67_setLength x1 x2) fun v4 => (lc_ite (lc_ret _) (lc_ret _)))) (lc_ret _)))))
theorem lc_fX67_setLimit (x1 : Int) (x2 : Int) : zLoc zSt_ (fX67_setLimit x1 x2) :=
  (lc_al (by decide) fun v1 => (lc_ite (lc_ret _) (lc_al (by decide) fun v2 => (lc_al (by decide) fun v3 => (lc_cl (lc_fX67_hasRoom v2 (zi (x2 - v3))) fun v4 => (lc_ite (lc_al (by decide) fun v5 => (lc_cl (lc_fX67_account v5) fun v6 => (lc_al (by decide) fun v7 => (lc_al (by decide) fun v8 => (lc_as (by decide) (lc_as (by decide) (lc_ret _))))))) (lc_ret _)))))))
theorem lc_fX67_limit (x1 : Int) (x2 : Int) : zLoc zSt_ (fX67_limit x1 x2) :=
  (lc_cl (lc_fX67_isOf x1 1) fun v1 => (lc_ite (lc_ret _) (lc_ite (lc_ret _) (lc_al (by decide) fun v2 => (lc_ite (lc_ret _) (lc_cl (lc_fX67_in x2 1 255) fun v3 => (lc_ite (lc_al (by decide) fun v4 => (lc_cl (lc_fX67_setLimit x1 x2) fun v5 => (lc_ite (lc_ret _) (lc_ret _)))) (lc_ret _))))))))
theorem lc_fX67_rename_J49 (x1 : Int) (x2 : Int) : zLoc zSt_ (fX67_rename_J49 x1 x2) :=
  (lc_as (by decide) (lc_ret _))
theorem lc_fX67_rename (x1 : Int) (x2 : Int) : zLoc zSt_ (fX67_rename x1 x2) :=
  (lc_cl (lc_fX67_isNode x1) fun v1 => (lc_ite (lc_ret _) (lc_ite (lc_ret _) (lc_cl (lc_fX67_isName x2) fun v2 => (lc_ite (lc_al (by decide) fun v3 => (lc_cl (lc_fX67_entryNamed v3 x2) fun v4 => (lc_ite (lc_fX67_rename_J49 x1 x2) (lc_ite (lc_fX67_rename_J49 x1 x2) (lc_ret _))))) (lc_ret _))))))
theorem lc_fX67_forget_J101 {r18 : Int → zX} (hr18 : ∀ s, zLoc zSt_ (r18 s)) (x1 : Int) (x2 : Int) (x3 : Int) (s1 : Int) (s2 : Int) : zLoc zSt_ (fX67_forget_J101 r18 x1 x2 x3 s1 s2) :=
  (lc_as (by decide) (lc_lt fun v2 => (hr18 v2)))
theorem lc_fX67_forget_J89 {r18 : Int → zX} (hr18 : ∀ s, zLoc zSt_ (r18 s)) (x1 : Int) (x2 : Int) (x3 : Int) (s1 : Int) : zLoc zSt_ (fX67_forget_J89 r18 x1 x2 x3 s1) :=
  (lc_fX67_forget_J101 hr18 x1 x2 x3 s1 (-1))
theorem lc_fX67_forget_J95 {r18 : Int → zX} (hr18 : ∀ s, zLoc zSt_ (r18 s)) (x1 : Int) (x2 : Int) (x3 : Int) (s1 : Int) : zLoc zSt_ (fX67_forget_J95 r18 x1 x2 x3 s1) :=
  (lc_al (by decide) fun v4 => (lc_fX67_forget_J101 hr18 x1 x2 x3 s1 v4))
theorem lc_fX67_forget_J50 {r18 : Int → zX} (hr18 : ∀ s, zLoc zSt_ (r18 s)) (x1 : Int) (x2 : Int) (x3 : Int) (s0 : Int) : zLoc zSt_ (fX67_forget_J50 r18 x1 x2 x3 s0) :=
  (lc_ite (lc_fX67_forget_J89 hr18 x1 x2 x3 x3) (lc_al (by decide) fun v3 => (lc_ite (lc_fX67_forget_J95 hr18 x1 x2 x3 x3) (lc_al (by decide) fun v5 => (lc_ite (lc_fX67_forget_J95 hr18 x1 x2 x3 x3) (lc_fX67_forget_J89 hr18 x1 x2 x3 x3))))))
theorem lc_fX67_forget_B18 (x1 : Int) (x2 : Int) : ∀ r18 : Int → zX, (∀ s, zLoc zSt_ (r18 s)) → ∀ s, zLoc zSt_ (fX67_forget_B18 x1 x2 r18 s) := by
  intro r18 hr18 x3
  unfold fX67_forget_B18
  exact (lc_ite (lc_ret _) (lc_ite (lc_fX67_forget_J50 hr18 x1 x2 x3 0) (lc_fX67_forget_J50 hr18 x1 x2 x3 1)))
theorem lc_fX67_forget (x1 : Int) (x2 : Int) : zLoc zSt_ (fX67_forget x1 x2) :=
  (lc_as (by decide) (lc_lt fun v1 => (lc_lp (lc_fX67_forget_B18 x1 x2) zBIG v1)))
theorem lc_fX67_drop_J154 {r32 : Int → zX} (hr32 : ∀ s, zLoc zSt_ (r32 s)) (x1 : Int) (x2 : Int) : zLoc zSt_ (fX67_drop_J154 r32 x1 x2) :=
  (lc_lt fun v8 => (hr32 v8))
theorem lc_fX67_drop_J147 {r32 : Int → zX} (hr32 : ∀ s, zLoc zSt_ (r32 s)) {r113 : Int → zX} (hr113 : ∀ s, zLoc zSt_ (r113 s)) (x1 : Int) (x2 : Int) (x3 : Int) (s1 : Int) (s2 : Int) : zLoc zSt_ (fX67_drop_J147 r32 r113 x1 x2 x3 s1 s2) :=
  (lc_as (by decide) (lc_lt fun v11 => (hr113 v11)))
theorem lc_fX67_drop_B113 {r32 : Int → zX} (hr32 : ∀ s, zLoc zSt_ (r32 s)) (x1 : Int) (x2 : Int) : ∀ r113 : Int → zX, (∀ s, zLoc zSt_ (r113 s)) → ∀ s, zLoc zSt_ (fX67_drop_B113 r32 x1 x2 r113 s) := by
  intro r113 hr113 x3
  unfold fX67_drop_B113
  exact (lc_ite (lc_fX67_drop_J154 hr32 x1 x2) (lc_al (by decide) fun v9 => (lc_ite (lc_al (by decide) fun v10 => (lc_fX67_drop_J147 hr32 hr113 x1 x2 x3 x3 v10)) (lc_fX67_drop_J147 hr32 hr113 x1 x2 x3 x3 (-1)))))
theorem lc_fX67_drop_J108 {r32 : Int → zX} (hr32 : ∀ s, zLoc zSt_ (r32 s)) (x1 : Int) (x2 : Int) (s1 : Int) (s2 : Int) : zLoc zSt_ (fX67_drop_J108 r32 x1 x2 s1 s2) :=
  (lc_as (by decide) (lc_lt fun v7 => (lc_lp (lc_fX67_drop_B113 hr32 x1 x2) zBIG v7)))
theorem lc_fX67_drop_J83 {r32 : Int → zX} (hr32 : ∀ s, zLoc zSt_ (r32 s)) (x1 : Int) (x2 : Int) : zLoc zSt_ (fX67_drop_J83 r32 x1 x2) :=
  (lc_al (by decide) fun v5 => (lc_ite (lc_al (by decide) fun v6 => (lc_fX67_drop_J108 hr32 x1 x2 x2 v6)) (lc_fX67_drop_J108 hr32 x1 x2 x2 0)))
theorem lc_fX67_drop_J77 {r32 : Int → zX} (hr32 : ∀ s, zLoc zSt_ (r32 s)) {r41 : Int → zX} (hr41 : ∀ s, zLoc zSt_ (r41 s)) (x1 : Int) (x2 : Int) (x3 : Int) : zLoc zSt_ (fX67_drop_J77 r32 r41 x1 x2 x3) :=
  (lc_lt fun v13 => (hr41 v13))
theorem lc_fX67_drop_B41 {r32 : Int → zX} (hr32 : ∀ s, zLoc zSt_ (r32 s)) (x1 : Int) (x2 : Int) : ∀ r41 : Int → zX, (∀ s, zLoc zSt_ (r41 s)) → ∀ s, zLoc zSt_ (fX67_drop_B41 r32 x1 x2 r41 s) := by
  intro r41 hr41 x3
  unfold fX67_drop_B41
  exact (lc_ite (lc_fX67_drop_J83 hr32 x1 x2) (lc_al (by decide) fun v12 => (lc_ite (lc_fX67_drop_J77 hr32 hr41 x1 x2 x3) (lc_al (by decide) fun v14 => (lc_ite (lc_fX67_drop_J77 hr32 hr41 x1 x2 x3) (lc_cl (lc_fX67_forget x2 x3) fun _ => (lc_fX67_drop_J77 hr32 hr41 x1 x2 x3)))))))
theorem lc_fX67_drop_B32 (x1 : Int) : ∀ r32 : Int → zX, (∀ s, zLoc zSt_ (r32 s)) → ∀ s, zLoc zSt_ (fX67_drop_B32 x1 r32 s) := by
  intro r32 hr32 x2
  unfold fX67_drop_B32
  exact (lc_ite (lc_ret _) (lc_lp (lc_fX67_drop_B41 hr32 x1 x2) zBIG 8))
theorem lc_fX67_drop (x1 : Int) : zLoc zSt_ (fX67_drop x1) :=
  (lc_al (by decide) fun v1 => (lc_cl (lc_fX67_account v1) fun v2 => (lc_al (by decide) fun v3 => (lc_cl (lc_fX67_cost x1) fun v4 => (lc_as (by decide) (lc_as (by decide) (lc_lp (lc_fX67_drop_B32 x1) zBIG 0)))))))
theorem lc_fX67_depth_B4 : ∀ r4 : Int × Int → zX, (∀ s, zLoc zSt_ (r4 s)) → ∀ s, zLoc zSt_ (fX67_depth_B4 r4 s) := by
  intro r4 hr4 s
  obtain ⟨x2, x3⟩ := s
  unfold fX67_depth_B4
  exact (lc_ite (lc_ret _) (lc_lt fun v1 => (lc_al (by decide) fun v2 => (hr4 (v1, v2)))))
theorem lc_fX67_depth (x1 : Int) : zLoc zSt_ (fX67_depth x1) :=
  (lc_lp lc_fX67_depth_B4 zBIG (0, x1))
theorem lc_fX67_isWithin_J21 (x2 : Int) (x3 : Int) : zLoc zSt_ (fX67_isWithin_J21 x2 x3) :=
  (lc_ite (lc_ret _) (lc_ret _))
theorem lc_fX67_isWithin_B2 (x2 : Int) : ∀ r2 : Int → zX, (∀ s, zLoc zSt_ (r2 s)) → ∀ s, zLoc zSt_ (fX67_isWithin_B2 x2 r2 s) := by
  intro r2 hr2 x3
  unfold fX67_isWithin_B2
  exact (lc_ite (lc_fX67_isWithin_J21 x2 x3) (lc_ite (lc_fX67_isWithin_J21 x2 x3) (lc_al (by decide) fun v1 => (hr2 v1))))
theorem lc_fX67_isWithin (x1 : Int) (x2 : Int) : zLoc zSt_ (fX67_isWithin x1 x2) :=
  (lc_lp (lc_fX67_isWithin_B2 x2) zBIG x1)
theorem lc_fX67_dropAll_J100 {r4 : Int × Int → zX} (hr4 : ∀ s, zLoc zSt_ (r4 s)) (x1 : Int) (x2 : Int) (x4 : Int) (s0 : Int) : zLoc zSt_ (fX67_dropAll_J100 r4 x1 x2 x4 s0) :=
  (lc_cl (lc_fX67_drop x4) fun _ => (lc_lt fun v2 => (hr4 (v2, s0))))
theorem lc_fX67_dropAll_J89 {r4 : Int × Int → zX} (hr4 : ∀ s, zLoc zSt_ (r4 s)) (x1 : Int) (x2 : Int) (x4 : Int) : zLoc zSt_ (fX67_dropAll_J89 r4 x1 x2 x4) :=
  (lc_ite (lc_fX67_dropAll_J100 hr4 x1 x2 x4 0) (lc_fX67_dropAll_J100 hr4 x1 x2 x4 1))
theorem lc_fX67_dropAll_J81 {r4 : Int × Int → zX} (hr4 : ∀ s, zLoc zSt_ (r4 s)) {r14 : Int × Int → zX} (hr14 : ∀ s, zLoc zSt_ (r14 s)) (x1 : Int) (x2 : Int) (x5 : Int) (s0 : Int) : zLoc zSt_ (fX67_dropAll_J81 r4 r14 x1 x2 x5 s0) :=
  (lc_lt fun v4 => (hr14 (s0, v4)))
theorem lc_fX67_dropAll_J79 {r4 : Int × Int → zX} (hr4 : ∀ s, zLoc zSt_ (r4 s)) {r14 : Int × Int → zX} (hr14 : ∀ s, zLoc zSt_ (r14 s)) (x1 : Int) (x2 : Int) (x4 : Int) (x5 : Int) : zLoc zSt_ (fX67_dropAll_J79 r4 r14 x1 x2 x4 x5) :=
  (lc_fX67_dropAll_J81 hr4 hr14 x1 x2 x5 x4)
theorem lc_fX67_dropAll_J74 {r4 : Int × Int → zX} (hr4 : ∀ s, zLoc zSt_ (r4 s)) {r14 : Int × Int → zX} (hr14 : ∀ s, zLoc zSt_ (r14 s)) (x1 : Int) (x2 : Int) (x5 : Int) : zLoc zSt_ (fX67_dropAll_J74 r4 r14 x1 x2 x5) :=
  (lc_fX67_dropAll_J81 hr4 hr14 x1 x2 x5 x5)
theorem lc_fX67_dropAll_J47 {r4 : Int × Int → zX} (hr4 : ∀ s, zLoc zSt_ (r4 s)) {r14 : Int × Int → zX} (hr14 : ∀ s, zLoc zSt_ (r14 s)) (x1 : Int) (x2 : Int) (x4 : Int) (x5 : Int) (s0 : Int) : zLoc zSt_ (fX67_dropAll_J47 r4 r14 x1 x2 x4 x5 s0) :=
  (lc_ite (lc_fX67_dropAll_J79 hr4 hr14 x1 x2 x4 x5) (lc_ite (lc_fX67_dropAll_J74 hr4 hr14 x1 x2 x5) (lc_cl (lc_fX67_depth x5) fun v5 => (lc_cl (lc_fX67_depth x4) fun v6 => (lc_ite (lc_fX67_dropAll_J79 hr4 hr14 x1 x2 x4 x5) (lc_fX67_dropAll_J74 hr4 hr14 x1 x2 x5))))))
theorem lc_fX67_dropAll_J46 {r4 : Int × Int → zX} (hr4 : ∀ s, zLoc zSt_ (r4 s)) {r14 : Int × Int → zX} (hr14 : ∀ s, zLoc zSt_ (r14 s)) (x1 : Int) (x2 : Int) (x4 : Int) (x5 : Int) : zLoc zSt_ (fX67_dropAll_J46 r4 r14 x1 x2 x4 x5) :=
  (lc_fX67_dropAll_J47 hr4 hr14 x1 x2 x4 x5 0)
theorem lc_fX67_dropAll_B14 {r4 : Int × Int → zX} (hr4 : ∀ s, zLoc zSt_ (r4 s)) (x1 : Int) (x2 : Int) : ∀ r14 : Int × Int → zX, (∀ s, zLoc zSt_ (r14 s)) → ∀ s, zLoc zSt_ (fX67_dropAll_B14 r4 x1 x2 r14 s) := by
  intro r14 hr14 s
  obtain ⟨x4, x5⟩ := s
  unfold fX67_dropAll_B14
  exact (lc_ite (lc_fX67_dropAll_J89 hr4 x1 x2 x4) (lc_al (by decide) fun v3 => (lc_ite (lc_fX67_dropAll_J46 hr4 hr14 x1 x2 x4 x5) (lc_cl (lc_fX67_isWithin x5 x1) fun v7 => (lc_ite (lc_fX67_dropAll_J46 hr4 hr14 x1 x2 x4 x5) (lc_fX67_dropAll_J47 hr4 hr14 x1 x2 x4 x5 1))))))
theorem lc_fX67_dropAll_B4 (x1 : Int) : ∀ r4 : Int × Int → zX, (∀ s, zLoc zSt_ (r4 s)) → ∀ s, zLoc zSt_ (fX67_dropAll_B4 x1 r4 s) := by
  intro r4 hr4 s
  obtain ⟨x2, x3⟩ := s
  unfold fX67_dropAll_B4
  exact (lc_ite (lc_ret _) (lc_lp (lc_fX67_dropAll_B14 hr4 x1 x2) zBIG ((-1), 1)))
theorem lc_fX67_dropAll (x1 : Int) : zLoc zSt_ (fX67_dropAll x1) :=
  (lc_lp (lc_fX67_dropAll_B4 x1) zBIG (0, 1))
theorem lc_fX67_remove (x1 : Int) : zLoc zSt_ (fX67_remove x1) :=
  (lc_cl (lc_fX67_isNode x1) fun v1 => (lc_ite (lc_ret _) (lc_ite (lc_cl (lc_fX67_dropAll x1) fun v2 => (lc_ret _)) (lc_ret _))))
theorem lc_fX67_find (x1 : Int) (x2 : Int) : zLoc zSt_ (fX67_find x1 x2) :=
  (lc_cl (lc_fX67_isOf x1 1) fun v1 => (lc_ite (lc_cl (lc_fX67_entryNamed x1 x2) fun v2 => (lc_ret _)) (lc_ret _)))
theorem lc_fX67_countEntries_J37 {r4 : Int × Int → zX} (hr4 : ∀ s, zLoc zSt_ (r4 s)) (x1 : Int) (x3 : Int) (s0 : Int) : zLoc zSt_ (fX67_countEntries_J37 r4 x1 x3 s0) :=
  (lc_lt fun v2 => (hr4 (s0, v2)))
theorem lc_fX67_countEntries_J36 {r4 : Int × Int → zX} (hr4 : ∀ s, zLoc zSt_ (r4 s)) (x1 : Int) (x2 : Int) (x3 : Int) : zLoc zSt_ (fX67_countEntries_J36 r4 x1 x2 x3) :=
  (lc_fX67_countEntries_J37 hr4 x1 x3 x2)
theorem lc_fX67_countEntries_B4 (x1 : Int) : ∀ r4 : Int × Int → zX, (∀ s, zLoc zSt_ (r4 s)) → ∀ s, zLoc zSt_ (fX67_countEntries_B4 x1 r4 s) := by
  intro r4 hr4 s
  obtain ⟨x2, x3⟩ := s
  unfold fX67_countEntries_B4
  exact (lc_ite (lc_ret _) (lc_al (by decide) fun v1 => (lc_ite (lc_fX67_countEntries_J36 hr4 x1 x2 x3) (lc_al (by decide) fun v3 => (lc_ite (lc_fX67_countEntries_J36 hr4 x1 x2 x3) (lc_fX67_countEntries_J37 hr4 x1 x3 (zi (x2 + 1))))))))
theorem lc_fX67_countEntries (x1 : Int) : zLoc zSt_ (fX67_countEntries x1) :=
  (lc_lp (lc_fX67_countEntries_B4 x1) zBIG (0, 1))
theorem lc_fX67_about (x1 : Int) (x2 : Int) : zLoc zSt_ (fX67_about x1 x2) :=
  (lc_cl (lc_fX67_isNode x1) fun v1 => (lc_ite (lc_ite (lc_al (by decide) fun v3 => (lc_ret _)) (lc_ite (lc_al (by decide) fun v5 => (lc_ret _)) (lc_ite (lc_al (by decide) fun v7 => (lc_ret _)) (lc_ite (lc_al (by decide) fun v9 => (lc_ret _)) (lc_ite (lc_al (by decide) fun v11 => (lc_ret _)) (lc_ite (lc_al (by decide) fun v13 => (lc_ret _)) (lc_ite (lc_al (by decide) fun v15 => (lc_ret _)) (lc_ite (lc_al (by decide) fun v17 => (lc_ret _)) (lc_ite (lc_al (by decide) fun v19 => (lc_ret _)) (lc_ite (lc_al (by decide) fun v21 => (lc_ret _)) (lc_ite (lc_cl (lc_fX67_countEntries x1) fun v23 => (lc_ret _)) (lc_ite (lc_al (by decide) fun v25 => (lc_ret _)) (lc_ite (lc_al (by decide) fun v27 => (lc_ret _)) (lc_ite (lc_al (by decide) fun v29 => (lc_ret _)) (lc_ite (lc_al (by decide) fun v31 => (lc_ret _)) (lc_ite (lc_al (by decide) fun v33 => (lc_ret _)) (lc_ite (lc_al (by decide) fun v35 => (lc_ret _)) (lc_ret _)))))))))))))))))) (lc_ret _)))
theorem lc_fX67_modesFor_J154 {r9 : Int × Int × Int → zX} (hr9 : ∀ s, zLoc zSt_ (r9 s)) (x1 : Int) (x2 : Int) (x3 : Int) (x4 : Int) (x5 : Int) (x6 : Int) : zLoc zSt_ (fX67_modesFor_J154 r9 x1 x2 x3 x4 x5 x6) :=
  (lc_lt fun v8 => (hr9 (x4, x5, v8)))
theorem lc_fX67_modesFor_J124 {r9 : Int × Int × Int → zX} (hr9 : ∀ s, zLoc zSt_ (r9 s)) (x1 : Int) (x2 : Int) (x3 : Int) (x4 : Int) (x5 : Int) (x6 : Int) (x7 : Int) (x8 : Int) (s0 : Int) (s1 : Int) : zLoc zSt_ (fX67_modesFor_J124 r9 x1 x2 x3 x4 x5 x6 x7 x8 s0 s1) :=
  (lc_lt fun v7 => (lc_ite (lc_fX67_modesFor_J154 hr9 x1 x2 x3 x4 x5 x6) (lc_ite (lc_fX67_modesFor_J154 hr9 x1 x2 x3 x4 x5 x6) (lc_al (by decide) fun v9 => (lc_fX67_modesFor_J154 hr9 x1 x2 x3 v7 v9 x6)))))
theorem lc_fX67_modesFor_J105 {r9 : Int × Int × Int → zX} (hr9 : ∀ s, zLoc zSt_ (r9 s)) (x1 : Int) (x2 : Int) (x3 : Int) (x4 : Int) (x5 : Int) (x6 : Int) (x7 : Int) (x8 : Int) (s0 : Int) : zLoc zSt_ (fX67_modesFor_J105 r9 x1 x2 x3 x4 x5 x6 x7 x8 s0) :=
  (lc_al (by decide) fun v6 => (lc_ite (lc_fX67_modesFor_J124 hr9 x1 x2 x3 x4 x5 x6 x7 x8 s0 1) (lc_fX67_modesFor_J124 hr9 x1 x2 x3 x4 x5 x6 x7 x8 s0 0)))
theorem lc_fX67_modesFor_J86 {r9 : Int × Int × Int → zX} (hr9 : ∀ s, zLoc zSt_ (r9 s)) (x1 : Int) (x2 : Int) (x3 : Int) (x4 : Int) (x5 : Int) (x6 : Int) (x7 : Int) (s0 : Int) : zLoc zSt_ (fX67_modesFor_J86 r9 x1 x2 x3 x4 x5 x6 x7 s0) :=
  (lc_al (by decide) fun v5 => (lc_ite (lc_fX67_modesFor_J105 hr9 x1 x2 x3 x4 x5 x6 x7 s0 2) (lc_fX67_modesFor_J105 hr9 x1 x2 x3 x4 x5 x6 x7 s0 0)))
theorem lc_fX67_modesFor_J81 {r9 : Int × Int × Int → zX} (hr9 : ∀ s, zLoc zSt_ (r9 s)) (x1 : Int) (x2 : Int) (x3 : Int) (x4 : Int) (x5 : Int) (x6 : Int) (x7 : Int) : zLoc zSt_ (fX67_modesFor_J81 r9 x1 x2 x3 x4 x5 x6 x7) :=
  (lc_fX67_modesFor_J86 hr9 x1 x2 x3 x4 x5 x6 x7 1)
theorem lc_fX67_modesFor_J85 {r9 : Int × Int × Int → zX} (hr9 : ∀ s, zLoc zSt_ (r9 s)) (x1 : Int) (x2 : Int) (x3 : Int) (x4 : Int) (x5 : Int) (x6 : Int) (x7 : Int) : zLoc zSt_ (fX67_modesFor_J85 r9 x1 x2 x3 x4 x5 x6 x7) :=
  (lc_fX67_modesFor_J86 hr9 x1 x2 x3 x4 x5 x6 x7 0)
theorem lc_fX67_modesFor_J54 {r9 : Int × Int × Int → zX} (hr9 : ∀ s, zLoc zSt_ (r9 s)) (x1 : Int) (x2 : Int) (x3 : Int) (x4 : Int) (x5 : Int) (x6 : Int) (x7 : Int) : zLoc zSt_ (fX67_modesFor_J54 r9 x1 x2 x3 x4 x5 x6 x7) :=
  (lc_al (by decide) fun v4 => (lc_ite (lc_fX67_modesFor_J81 hr9 x1 x2 x3 x4 x5 x6 x7) (lc_al (by decide) fun v10 => (lc_ite (lc_fX67_modesFor_J85 hr9 x1 x2 x3 x4 x5 x6 x7) (lc_fX67_modesFor_J81 hr9 x1 x2 x3 x4 x5 x6 x7)))))
theorem lc_fX67_modesFor_B9 (x1 : Int) (x2 : Int) (x3 : Int) : ∀ r9 : Int × Int × Int → zX, (∀ s, zLoc zSt_ (r9 s)) → ∀ s, zLoc zSt_ (fX67_modesFor_B9 x1 x2 x3 r9 s) := by
  intro r9 hr9 s
  obtain ⟨x4, x5, x6⟩ := s
  unfold fX67_modesFor_B9
  exact (lc_al (by decide) fun v1 => (lc_ite (lc_ret _) (lc_lt fun v2 => (lc_al (by decide) fun v3 => (lc_ite (lc_fX67_modesFor_J54 hr9 x1 x2 x3 x4 x5 x6 v2) (lc_al (by decide) fun v11 => (lc_ite (lc_fX67_modesFor_J85 hr9 x1 x2 x3 x4 x5 x6 v2) (lc_fX67_modesFor_J54 hr9 x1 x2 x3 x4 x5 x6 v2))))))))
theorem lc_fX67_modesFor (x1 : Int) (x2 : Int) (x3 : Int) : zLoc zSt_ (fX67_modesFor x1 x2 x3) :=
  (lc_lp (lc_fX67_modesFor_B9 x1 x2 x3) zBIG ((-1), 0, 0))
theorem lc_fX67_modes (x1 : Int) (x2 : Int) (x3 : Int) : zLoc zSt_ (fX67_modes x1 x2 x3) :=
  (lc_cl (lc_fX67_isNode x1) fun v1 => (lc_ite (lc_ret _) (lc_cl (lc_fX67_in x2 0 15) fun v2 => (lc_ite (lc_ret _) (lc_cl (lc_fX67_in x3 0 7) fun v3 => (lc_ite (lc_cl (lc_fX67_modesFor x1 x2 x3) fun v4 => (lc_ret _)) (lc_ret _)))))))
theorem lc_fX67_isPlace (x1 : Int) (x2 : Int) : zLoc zSt_ (fX67_isPlace x1 x2) :=
  (lc_cl (lc_fX67_isOf x1 2) fun v1 => (lc_ite (lc_ret _) (lc_al (by decide) fun v2 => (lc_cl (lc_fX67_in x2 0 (zi (v2 - 1))) fun v3 => (lc_ite (lc_ret _) (lc_ret _))))))
theorem lc_fX67_word (x1 : Int) (x2 : Int) : zLoc zSt_ (fX67_word x1 x2) :=
  (lc_cl (lc_fX67_isPlace x1 x2) fun v1 => (lc_ite (lc_ret _) (lc_al (by decide) fun v2 => (lc_ret _))))
theorem lc_fX67_put (x1 : Int) (x2 : Int) (x3 : Int) : zLoc zSt_ (fX67_put x1 x2 x3) :=
  (lc_cl (lc_fX67_isPlace x1 x2) fun v1 => (lc_ite (lc_cl (lc_fX67_isWord x3) fun v2 => (lc_ite (lc_al (by decide) fun v3 => (lc_as (by decide) (lc_ret _))) (lc_ret _))) (lc_ret _)))
theorem lc_fX67_letter (x1 : Int) (x2 : Int) (x3 : Int) : zLoc zSt_ (fX67_letter x1 x2 x3) :=
  (lc_cl (lc_fX67_isOf x1 3) fun v1 => (lc_ite (lc_ret _) (lc_al (by decide) fun v2 => (lc_cl (lc_fX67_in x2 0 (zi (v2 - 1))) fun v3 => (lc_ite (lc_ite (lc_ite (lc_ret _) (lc_al (by decide) fun v4 => (lc_ret _))) (lc_al (by decide) fun v5 => (lc_ret _))) (lc_ret _))))))
theorem lc_fX67_audit (x1 : Int) (x2 : Int) : zLoc zSt_ (fX67_audit x1 x2) :=
  (lc_ite (lc_ret _) (lc_gf (by decide) fun v1 => (lc_ite (lc_ret _) (lc_gf (by decide) fun v2 => (lc_ite (lc_cl (lc_fX67_in x2 0 3) fun v3 => (lc_ite (lc_ret _) (lc_al (by decide) fun v4 => (lc_ret _)))) (lc_ret _))))))
theorem lc_fX67_login_J339 (x4 : Int) (x5 : Int) (x6 : Int) (x7 : Int) : zLoc zSt_ (fX67_login_J339 x4 x5 x6 x7) :=
  (lc_as (by decide) (lc_as (by decide) (lc_as (by decide) (lc_as (by decide) (lc_as (by decide) (lc_as (by decide) (lc_as (by decide) (lc_as (by decide) (lc_as (by decide) (lc_as (by decide) (lc_as (by decide) (lc_as (by decide) (lc_as (by decide) (lc_ret _))))))))))))))
theorem lc_fX67_login_B312 (x4 : Int) (x5 : Int) (x6 : Int) (x7 : Int) : ∀ r312 : Int → zX, (∀ s, zLoc zSt_ (r312 s)) → ∀ s, zLoc zSt_ (fX67_login_B312 x4 x5 x6 x7 r312 s) := by
  intro r312 hr312 x8
  unfold fX67_login_B312
  exact (lc_ite (lc_fX67_login_J339 x4 x5 x6 x7) (lc_as (by decide) (lc_lt fun v10 => (hr312 v10))))
theorem lc_fX67_login_J305 (x4 : Int) (x5 : Int) (x6 : Int) (x7 : Int) : zLoc zSt_ (fX67_login_J305 x4 x5 x6 x7) :=
  (lc_lt fun v9 => (lc_lp (lc_fX67_login_B312 x4 x5 x6 x7) zBIG v9))
theorem lc_fX67_login_B266 (x4 : Int) (x5 : Int) (x6 : Int) (x7 : Int) : ∀ r266 : Int → zX, (∀ s, zLoc zSt_ (r266 s)) → ∀ s, zLoc zSt_ (fX67_login_B266 x4 x5 x6 x7 r266 s) := by
  intro r266 hr266 x8
  unfold fX67_login_B266
  exact (lc_ite (lc_fX67_login_J305 x4 x5 x6 x7) (lc_as (by decide) (lc_as (by decide) (lc_lt fun v11 => (hr266 v11)))))
theorem lc_fX67_login_J258 (x4 : Int) (x5 : Int) (x6 : Int) (x7 : Int) : zLoc zSt_ (fX67_login_J258 x4 x5 x6 x7) :=
  (lc_lt fun v8 => (lc_lp (lc_fX67_login_B266 x4 x5 x6 x7) zBIG v8))
theorem lc_fX67_login_B215 (x4 : Int) (x5 : Int) (x6 : Int) (x7 : Int) : ∀ r215 : Int → zX, (∀ s, zLoc zSt_ (r215 s)) → ∀ s, zLoc zSt_ (fX67_login_B215 x4 x5 x6 x7 r215 s) := by
  intro r215 hr215 x8
  unfold fX67_login_B215
  exact (lc_ite (lc_fX67_login_J258 x4 x5 x6 x7) (lc_as (by decide) (lc_as (by decide) (lc_as (by decide) (lc_lt fun v12 => (hr215 v12))))))
theorem lc_fX67_login_J208 (x4 : Int) (x5 : Int) (x6 : Int) (x7 : Int) : zLoc zSt_ (fX67_login_J208 x4 x5 x6 x7) :=
  (lc_lt fun v7 => (lc_lp (lc_fX67_login_B215 x4 x5 x6 x7) zBIG v7))
theorem lc_fX67_login_B170 (x4 : Int) (x5 : Int) (x6 : Int) (x7 : Int) : ∀ r170 : Int → zX, (∀ s, zLoc zSt_ (r170 s)) → ∀ s, zLoc zSt_ (fX67_login_B170 x4 x5 x6 x7 r170 s) := by
  intro r170 hr170 x8
  unfold fX67_login_B170
  exact (lc_ite (lc_fX67_login_J208 x4 x5 x6 x7) (lc_as (by decide) (lc_as (by decide) (lc_lt fun v13 => (hr170 v13)))))
theorem lc_fX67_login_J101 (x1 : Int) (x2 : Int) (x3 : Int) (x4 : Int) (x5 : Int) (x6 : Int) (x7 : Int) : zLoc zSt_ (fX67_login_J101 x1 x2 x3 x4 x5 x6 x7) :=
  (lc_ite (lc_as (by decide) (lc_as (by decide) (lc_as (by decide) (lc_as (by decide) (lc_as (by decide) (lc_as (by decide) (lc_as (by decide) (lc_lp (lc_fX67_login_B170 x4 x5 x6 x7) zBIG 0)))))))) (lc_ret _))
theorem lc_fX67_login_B78 (x1 : Int) (x2 : Int) (x3 : Int) (x4 : Int) (x5 : Int) (x6 : Int) : ∀ r78 : Int → zX, (∀ s, zLoc zSt_ (r78 s)) → ∀ s, zLoc zSt_ (fX67_login_B78 x1 x2 x3 x4 x5 x6 r78 s) := by
  intro r78 hr78 x7
  unfold fX67_login_B78
  exact (lc_ite (lc_fX67_login_J101 x1 x2 x3 x4 x5 x6 x7) (lc_al (by decide) fun v14 => (lc_ite (lc_fX67_login_J101 x1 x2 x3 x4 x5 x6 x7) (lc_lt fun v15 => (hr78 v15)))))
theorem lc_fX67_login (x1 : Int) (x2 : Int) (x3 : Int) (x4 : Int) (x5 : Int) (x6 : Int) : zLoc zSt_ (fX67_login x1 x2 x3 x4 x5 x6) :=
  (lc_cl (lc_fX67_in x1 0 15) fun v1 => (lc_ite (lc_ret _) (lc_cl (lc_fX67_in x2 0 7) fun v2 => (lc_ite (lc_ret _) (lc_cl (lc_fX67_in x3 0 31) fun v3 => (lc_ite (lc_ret _) (lc_cl (lc_fX67_isOf x4 2) fun v4 => (lc_ite (lc_ret _) (lc_cl (lc_fX67_in x5 0 262143) fun v5 => (lc_ite (lc_ret _) (lc_cl (lc_fX67_in x6 0 7) fun v6 => (lc_ite (lc_lp (lc_fX67_login_B78 x1 x2 x3 x4 x5 x6) zBIG 0) (lc_ret _)))))))))))))
theorem lc_fX67_isThere (x1 : Int) : zLoc zSt_ (fX67_isThere x1) :=
  (lc_cl (lc_fX67_in x1 0 7) fun v1 => (lc_ite (lc_ret _) (lc_al (by decide) fun v2 => (lc_ite (lc_ret _) (lc_ret _)))))
theorem lc_fX67_logout (x1 : Int) : zLoc zSt_ (fX67_logout x1) :=
  (lc_cl (lc_fX67_isThere x1) fun v1 => (lc_ite (lc_as (by decide) (lc_ret _)) (lc_ret _)))
theorem lc_fX67_send (x1 : Int) (x2 : Int) : zLoc zSt_ (fX67_send x1 x2) :=
  (lc_cl (lc_fX67_isThere x1) fun v1 => (lc_ite (lc_ret _) (lc_cl (lc_fX67_isWord x2) fun v2 => (lc_ite (lc_al (by decide) fun v3 => (lc_ite (lc_al (by decide) fun v4 => (lc_as (by decide) (lc_al (by decide) fun v5 => (lc_as (by decide) (lc_al (by decide) fun v6 => (lc_ret _)))))) (lc_ret _))) (lc_ret _)))))
theorem lc_fX67_missing_J50 (s0 : Int) (s1 : Int) : zLoc zSt_ (fX67_missing_J50 s0 s1) :=
  (lc_ite (lc_ret _) (lc_ret _))
theorem lc_fX67_missing_J22 (x1 : Int) (x2 : Int) (x3 : Int) : zLoc zSt_ (fX67_missing_J22 x1 x2 x3) :=
  (lc_ite (lc_fX67_missing_J50 x3 64) (lc_al (by decide) fun v1 => (lc_al (by decide) fun v2 => (lc_fX67_missing_J50 x3 v2))))
theorem lc_fX67_missing (x1 : Int) (x2 : Int) (x3 : Int) : zLoc zSt_ (fX67_missing x1 x2 x3) :=
  (lc_ite (lc_fX67_missing_J22 x1 x2 x3) (lc_al (by decide) fun v3 => (lc_ite (lc_fX67_missing_J22 x1 x2 x3) (lc_ret _))))
theorem lc_fX67_fail (x1 : Int) (x2 : Int) (x3 : Int) (x4 : Int) : zLoc zSt_ (fX67_fail x1 x2 x3 x4) :=
  (lc_gf (by decide) fun v1 => (lc_ite (lc_ret _) (lc_pf (by decide) (lc_pf (by decide) (lc_pf (by decide) (lc_pf (by decide) (lc_ret _)))))))
theorem lc_fX67_barred_J157 (s0 : Int) : zLoc zSt_ (fX67_barred_J157 s0) :=
  (lc_ite (lc_ret _) (lc_ret _))
theorem lc_fX67_barred_J156 : zLoc zSt_ (fX67_barred_J156) :=
  (lc_fX67_barred_J157 0)
theorem lc_fX67_barred_J91 (x3 : Int) (x4 : Int) (x5 : Int) (x6 : Int) (s0 : Int) : zLoc zSt_ (fX67_barred_J91 x3 x4 x5 x6 s0) :=
  (lc_ite (lc_ite (lc_ite (lc_ite lc_fX67_barred_J156 (lc_ite lc_fX67_barred_J156 (lc_fX67_barred_J157 1))) (lc_ite (lc_fX67_barred_J157 0) (lc_fX67_barred_J157 1))) (lc_ite (lc_fX67_barred_J157 0) (lc_fX67_barred_J157 1))) (lc_ret _))
theorem lc_fX67_barred (x1 : Int) (x2 : Int) (x3 : Int) (x4 : Int) : zLoc zSt_ (fX67_barred x1 x2 x3 x4) :=
  (lc_al (by decide) fun v1 => (lc_al (by decide) fun v2 => (lc_al (by decide) fun v3 => (lc_al (by decide) fun v4 => (lc_cl (lc_fX67_modesFor x2 v3 v4) fun v5 => (lc_ite (lc_ite (lc_al (by decide) fun v6 => (lc_al (by decide) fun v7 => (lc_cl (lc_fX67_dominates v6 v7) fun v8 => (lc_fX67_barred_J91 x3 x4 v1 v2 v8)))) (lc_al (by decide) fun v9 => (lc_al (by decide) fun v10 => (lc_ite (lc_fX67_barred_J91 x3 x4 v1 v2 0) (lc_fX67_barred_J91 x3 x4 v1 v2 1))))) (lc_ret _)))))))
theorem lc_fX67_access_J88 (x6 : Int) : zLoc zSt_ (fX67_access_J88 x6) :=
  (lc_ite (lc_ret _) (lc_ret _))
theorem lc_fX67_access_J73 (x2 : Int) (x3 : Int) (x4 : Int) (x6 : Int) : zLoc zSt_ (fX67_access_J73 x2 x3 x4 x6) :=
  (lc_ite (lc_fX67_access_J88 x6) (lc_cl (lc_fX67_fail x6 x2 x3 x4) fun _ => (lc_fX67_access_J88 x6)))
theorem lc_fX67_access_J46 (x1 : Int) (x2 : Int) (x3 : Int) (x4 : Int) (x5 : Int) (x6 : Int) : zLoc zSt_ (fX67_access_J46 x1 x2 x3 x4 x5 x6) :=
  (lc_ite (lc_fX67_access_J73 x2 x3 x4 x6) (lc_al (by decide) fun v3 => (lc_cl (lc_fX67_barred x1 v3 x4 x5) fun v4 => (lc_fX67_access_J73 x2 x3 x4 v4))))
theorem lc_fX67_access_J41 (x2 : Int) (x3 : Int) (x4 : Int) (s0 : Int) : zLoc zSt_ (fX67_access_J41 x2 x3 x4 s0) :=
  (lc_fX67_access_J73 x2 x3 x4 s0)
theorem lc_fX67_access (x1 : Int) (x2 : Int) (x3 : Int) (x4 : Int) (x5 : Int) : zLoc zSt_ (fX67_access x1 x2 x3 x4 x5) :=
  (lc_cl (lc_fX67_missing x1 x2 x3) fun v1 => (lc_ite (lc_fX67_access_J46 x1 x2 x3 x4 x5 v1) (lc_ite (lc_fX67_access_J46 x1 x2 x3 x4 x5 v1) (lc_ite (lc_ite (lc_fX67_access_J41 x2 x3 x4 0) (lc_fX67_access_J41 x2 x3 x4 5)) (lc_fX67_access_J41 x2 x3 x4 3)))))
theorem lc_fX67_wordAt (x1 : Int) (x2 : Int) (x3 : Int) : zLoc zSt_ (fX67_wordAt x1 x2 x3) :=
  (lc_ite (lc_al (by decide) fun v1 => (lc_al (by decide) fun v2 => (lc_ret _))) (lc_al (by decide) fun v3 => (lc_ret _)))
theorem lc_fX67_isLegal_J168 (x1 : Int) (x3 : Int) : zLoc zSt_ (fX67_isLegal_J168 x1 x3) :=
  (lc_gf (by decide) fun v10 => (lc_ite (lc_ret _) (lc_ite (lc_ret _) (lc_ite (lc_ret _) (lc_ret _)))))
theorem lc_fX67_isLegal_J151 (x1 : Int) (x3 : Int) : zLoc zSt_ (fX67_isLegal_J151 x1 x3) :=
  (lc_gf (by decide) fun v9 => (lc_ite (lc_fX67_isLegal_J168 x1 x3) (lc_gf (by decide) fun v11 => (lc_ite (lc_ret _) (lc_fX67_isLegal_J168 x1 x3)))))
theorem lc_fX67_isLegal_J129 (x1 : Int) (x2 : Int) (s0 : Int) : zLoc zSt_ (fX67_isLegal_J129 x1 x2 s0) :=
  (lc_gf (by decide) fun v7 => (lc_ite (lc_ret _) (lc_gf (by decide) fun v8 => (lc_ite (lc_fX67_isLegal_J151 x1 s0) (lc_ite (lc_ret _) (lc_fX67_isLegal_J151 x1 s0))))))
theorem lc_fX67_isLegal_J124 (x1 : Int) (x2 : Int) : zLoc zSt_ (fX67_isLegal_J124 x1 x2) :=
  (lc_fX67_isLegal_J129 x1 x2 1)
theorem lc_fX67_isLegal_J78 (x1 : Int) (s0 : Int) : zLoc zSt_ (fX67_isLegal_J78 x1 s0) :=
  (lc_gf (by decide) fun v6 => (lc_ite (lc_fX67_isLegal_J124 x1 s0) (lc_gf (by decide) fun v12 => (lc_ite (lc_fX67_isLegal_J124 x1 s0) (lc_gf (by decide) fun v13 => (lc_ite (lc_fX67_isLegal_J124 x1 s0) (lc_gf (by decide) fun v14 => (lc_ite (lc_fX67_isLegal_J124 x1 s0) (lc_gf (by decide) fun v15 => (lc_ite (lc_fX67_isLegal_J129 x1 s0 0) (lc_fX67_isLegal_J124 x1 s0)))))))))))
theorem lc_fX67_isLegal_J73 (x1 : Int) : zLoc zSt_ (fX67_isLegal_J73 x1) :=
  (lc_fX67_isLegal_J78 x1 1)
theorem lc_fX67_isLegal (x1 : Int) : zLoc zSt_ (fX67_isLegal x1) :=
  (lc_gf (by decide) fun v1 => (lc_ite (lc_gf (by decide) fun v2 => (lc_ite (lc_ret _) (lc_gf (by decide) fun v3 => (lc_ite (lc_gf (by decide) fun v4 => (lc_cl (lc_fX67_in v4 2 13) fun v5 => (lc_ite (lc_fX67_isLegal_J73 x1) (lc_gf (by decide) fun v16 => (lc_cl (lc_fX67_in v16 20 24) fun v17 => (lc_ite (lc_fX67_isLegal_J73 x1) (lc_gf (by decide) fun v18 => (lc_ite (lc_fX67_isLegal_J78 x1 0) (lc_fX67_isLegal_J73 x1))))))))) (lc_ret _))))) (lc_ret _)))
theorem lc_fX67_may (x1 : Int) (x2 : Int) : zLoc zSt_ (fX67_may x1 x2) :=
  (lc_gf (by decide) fun v1 => (lc_gf (by decide) fun v2 => (lc_gf (by decide) fun v3 => (lc_cl (lc_fX67_access x1 v1 v2 v3 x2) fun v4 => (lc_rb _)))))
theorem lc_fX67_setWord (x1 : Int) (x2 : Int) (x3 : Int) (x4 : Int) : zLoc zSt_ (fX67_setWord x1 x2 x3 x4) :=
  (lc_ite (lc_al (by decide) fun v1 => (lc_as (by decide) (lc_ret _))) (lc_as (by decide) (lc_ret _)))
theorem lc_fX67_pointerWord (x0 : Int) (x1 : Int) (x2 : Int) : zLoc zSt_ (fX67_pointerWord x0 x1 x2) :=
  (lc_ret _)
theorem lc_fX67_flag_J35 (s1 : Int) (s2 : Int) : zLoc zSt_ (fX67_flag_J35 s1 s2) :=
  (lc_as (by decide) (lc_ret _))
theorem lc_fX67_flag_J16 (x1 : Int) (x2 : Int) (s1 : Int) (s2 : Int) : zLoc zSt_ (fX67_flag_J16 x1 x2 s1 s2) :=
  (lc_as (by decide) (lc_ite (lc_fX67_flag_J35 x1 0) (lc_fX67_flag_J35 x1 1)))
theorem lc_fX67_flag (x1 : Int) (x2 : Int) : zLoc zSt_ (fX67_flag x1 x2) :=
  (lc_ite (lc_fX67_flag_J16 x1 x2 x1 0) (lc_fX67_flag_J16 x1 x2 x1 1))
theorem lc_fX67_write_J18 (x1 : Int) (x2 : Int) : zLoc zSt_ (fX67_write_J18 x1 x2) :=
  (lc_cl (lc_fX67_may x1 4) fun v2 => (lc_ite (lc_gf (by decide) fun v3 => (lc_gf (by decide) fun v4 => (lc_cl (lc_fX67_wordAt x1 v3 v4) fun v5 => (lc_lt fun v6 => (lc_gf (by decide) fun v7 => (lc_ite (lc_gf (by decide) fun v9 => (lc_gf (by decide) fun v10 => (lc_al (by decide) fun v11 => (lc_cl (lc_fX67_setWord x1 v9 v10 v11) fun _ => (lc_ret _))))) (lc_ite (lc_gf (by decide) fun v14 => (lc_gf (by decide) fun v15 => (lc_al (by decide) fun v16 => (lc_cl (lc_fX67_setWord x1 v14 v15 v16) fun _ => (lc_ret _))))) (lc_ite (lc_gf (by decide) fun v19 => (lc_gf (by decide) fun v20 => (lc_al (by decide) fun v21 => (lc_cl (lc_fX67_setWord x1 v19 v20 v21) fun _ => (lc_ret _))))) (lc_ite (lc_gf (by decide) fun v24 => (lc_gf (by decide) fun v25 => (lc_al (by decide) fun v26 => (lc_al (by decide) fun v27 => (lc_al (by decide) fun v28 => (lc_cl (lc_fX67_pointerWord v26 v27 v28) fun v29 => (lc_cl (lc_fX67_setWord x1 v24 v25 v29) fun _ => (lc_ret _)))))))) (lc_ite (lc_gf (by decide) fun v32 => (lc_gf (by decide) fun v33 => (lc_cl (lc_fX67_setWord x1 v32 v33 ((zl (v5 + 1)) % 68719476736)) fun _ => (lc_cl (lc_fX67_flag x1 ((zl (v5 + 1)) % 68719476736)) fun _ => (lc_ret _))))) (lc_gf (by decide) fun v36 => (lc_gf (by decide) fun v37 => (lc_al (by decide) fun v38 => (lc_cl (lc_fX67_setWord x1 v36 v37 v38) fun _ => (lc_as (by decide) (lc_cl (lc_fX67_flag x1 v5) fun _ => (lc_ret _))))))))))))))))) (lc_ret _)))
theorem lc_fX67_write (x1 : Int) (x2 : Int) : zLoc zSt_ (fX67_write x1 x2) :=
  (lc_gf (by decide) fun v1 => (lc_ite (lc_fX67_write_J18 x1 x2) (lc_cl (lc_fX67_may x1 1) fun v41 => (lc_ite (lc_ret _) (lc_fX67_write_J18 x1 x2)))))
theorem lc_fX67_value_J32 (s0 : Int) : zLoc zSt_ (fX67_value_J32 s0) :=
  (lc_ret _)
theorem lc_fX67_value (x1 : Int) : zLoc zSt_ (fX67_value x1) :=
  (lc_gf (by decide) fun v1 => (lc_ite (lc_cl (lc_fX67_may x1 1) fun v2 => (lc_ite (lc_ret _) (lc_gf (by decide) fun v3 => (lc_gf (by decide) fun v4 => (lc_cl (lc_fX67_wordAt x1 v3 v4) fun v5 => (lc_ret _)))))) (lc_gf (by decide) fun v6 => (lc_ite (lc_gf (by decide) fun v7 => (lc_fX67_value_J32 (zi (v7 - 262144)))) (lc_gf (by decide) fun v8 => (lc_fX67_value_J32 v8))))))
theorem lc_fX67_signed (x0 : Int) : zLoc zSt_ (fX67_signed x0) :=
  (lc_ite (lc_ret _) (lc_ret _))
theorem lc_fX67_flagHalf_J32 (s1 : Int) (s2 : Int) : zLoc zSt_ (fX67_flagHalf_J32 s1 s2) :=
  (lc_as (by decide) (lc_ret _))
theorem lc_fX67_flagHalf_J14 (x1 : Int) (x2 : Int) (s1 : Int) (s2 : Int) : zLoc zSt_ (fX67_flagHalf_J14 x1 x2 s1 s2) :=
  (lc_as (by decide) (lc_ite (lc_fX67_flagHalf_J32 x1 0) (lc_fX67_flagHalf_J32 x1 1)))
theorem lc_fX67_flagHalf (x1 : Int) (x2 : Int) : zLoc zSt_ (fX67_flagHalf x1 x2) :=
  (lc_ite (lc_fX67_flagHalf_J14 x1 x2 x1 0) (lc_fX67_flagHalf_J14 x1 x2 x1 1))
theorem lc_fX67_reckon_J383 (x1 : Int) : zLoc zSt_ (fX67_reckon_J383 x1) :=
  (lc_al (by decide) fun v7 => (lc_cl (lc_fX67_flag x1 v7) fun _ => (lc_ret _)))
theorem lc_fX67_reckon_J326 (s1 : Int) (s2 : Int) : zLoc zSt_ (fX67_reckon_J326 s1 s2) :=
  (lc_as (by decide) (lc_ret _))
theorem lc_fX67_reckon_J302 (x1 : Int) (x3 : Int) (x5 : Int) (s1 : Int) (s2 : Int) : zLoc zSt_ (fX67_reckon_J302 x1 x3 x5 s1 s2) :=
  (lc_as (by decide) (lc_cl (lc_fX67_signed x5) fun v25 => (lc_cl (lc_fX67_signed x3) fun v26 => (lc_ite (lc_fX67_reckon_J326 x1 0) (lc_fX67_reckon_J326 x1 1)))))
theorem lc_fX67_reckon_J364 (x1 : Int) (x7 : Int) (s1 : Int) (s2 : Int) : zLoc zSt_ (fX67_reckon_J364 x1 x7 s1 s2) :=
  (lc_as (by decide) (lc_al (by decide) fun v30 => (lc_cl (lc_fX67_flagHalf x1 v30) fun _ => (lc_ret _))))
theorem lc_fX67_reckon_J52 (x1 : Int) (x2 : Int) (x3 : Int) : zLoc zSt_ (fX67_reckon_J52 x1 x2 x3) :=
  (lc_gf (by decide) fun v3 => (lc_ite (lc_al (by decide) fun v4 => (lc_gf (by decide) fun v5 => (lc_ite (lc_as (by decide) (lc_fX67_reckon_J383 x1)) (lc_ite (lc_as (by decide) (lc_cl (lc_fX67_flag x1 x3) fun _ => (lc_ret _))) (lc_ite (lc_as (by decide) (lc_fX67_reckon_J383 x1)) (lc_ite (lc_as (by decide) (lc_fX67_reckon_J383 x1)) (lc_ite (lc_as (by decide) (lc_fX67_reckon_J383 x1)) (lc_ite (lc_cl (lc_fX67_signed v4) fun v15 => (lc_cl (lc_fX67_signed x3) fun v16 => (lc_ne (lc_as (by decide) (lc_cl (lc_fX67_signed v4) fun v18 => (lc_cl (lc_fX67_signed x3) fun v19 => (lc_ne (lc_as (by decide) (lc_fX67_reckon_J383 x1))))))))) (lc_ite (lc_as (by decide) (lc_fX67_reckon_J383 x1)) (lc_ite (lc_as (by decide) (lc_fX67_reckon_J383 x1)) (lc_ite (lc_as (by decide) (lc_fX67_reckon_J383 x1)) (lc_ite (lc_ite (lc_fX67_reckon_J302 x1 x3 v4 x1 0) (lc_fX67_reckon_J302 x1 x3 v4 x1 1)) (lc_lt fun v27 => (lc_gf (by decide) fun v28 => (lc_ite (lc_al (by decide) fun v29 => (lc_fX67_reckon_J364 x1 v27 v27 (zl (v29 + x3)))) (lc_fX67_reckon_J364 x1 v27 v27 x3)))))))))))))))) (lc_ret _)))
theorem lc_fX67_reckon (x1 : Int) (x2 : Int) : zLoc zSt_ (fX67_reckon x1 x2) :=
  (lc_cl (lc_fX67_value x1) fun v1 => (lc_gf (by decide) fun v2 => (lc_ite (lc_fX67_reckon_J52 x1 x2 v1) (lc_ite (lc_fX67_reckon_J52 x1 x2 v1) (lc_gf (by decide) fun v32 => (lc_ite (lc_fX67_reckon_J52 x1 x2 v1) (lc_al (by decide) fun v33 => (lc_al (by decide) fun v34 => (lc_al (by decide) fun v35 => (lc_cl (lc_fX67_fail 12 v33 v34 v35) fun _ => (lc_fX67_reckon_J52 x1 x2 v1)))))))))))
theorem lc_fX67_shifted_J60 (s0 : Int) (s1 : Int) : zLoc zSt_ (fX67_shifted_J60 s0 s1) :=
  (lc_ret _)
theorem lc_fX67_shifted (x0 : Int) (x2 : Int) (x3 : Int) : zLoc zSt_ (fX67_shifted x0 x2 x3) :=
  (lc_ite (lc_ite (lc_cl (lc_fX67_signed x0) fun v1 => (lc_ite (lc_fX67_shifted_J60 v1 x3) (lc_fX67_shifted_J60 v1 40))) (lc_ite (lc_ret _) (lc_ret _))) (lc_ite (lc_ret _) (lc_ret _)))
theorem lc_fX67_place (x1 : Int) (x2 : Int) : zLoc zSt_ (fX67_place x1 x2) :=
  (lc_gf (by decide) fun v1 => (lc_ite (lc_gf (by decide) fun v3 => (lc_as (by decide) (lc_gf (by decide) fun v4 => (lc_cl (lc_fX67_flagHalf x1 v4) fun _ => (lc_ret _))))) (lc_ite (lc_gf (by decide) fun v7 => (lc_as (by decide) (lc_al (by decide) fun v8 => (lc_cl (lc_fX67_flag x1 v8) fun _ => (lc_ret _))))) (lc_ite (lc_gf (by decide) fun v11 => (lc_as (by decide) (lc_gf (by decide) fun v12 => (lc_as (by decide) (lc_gf (by decide) fun v13 => (lc_as (by decide) (lc_ret _))))))) (lc_ite (lc_gf (by decide) fun v15 => (lc_gf (by decide) fun v16 => (lc_gf (by decide) fun v17 => (lc_cl (lc_fX67_pointerWord v15 v16 v17) fun v18 => (lc_as (by decide) (lc_ret _)))))) (lc_al (by decide) fun v19 => (lc_gf (by decide) fun v20 => (lc_gf (by decide) fun v21 => (lc_cl (lc_fX67_shifted v19 v20 v21) fun v22 => (lc_as (by decide) (lc_al (by decide) fun v23 => (lc_cl (lc_fX67_flag x1 v23) fun _ => (lc_ret _)))))))))))))
theorem lc_fX67_go (x1 : Int) : zLoc zSt_ (fX67_go x1) :=
  (lc_gf (by decide) fun v1 => (lc_as (by decide) (lc_gf (by decide) fun v2 => (lc_as (by decide) (lc_ret _)))))
theorem lc_fX67_jump_J147 (x1 : Int) (s0 : Int) : zLoc zSt_ (fX67_jump_J147 x1 s0) :=
  (lc_ite (lc_ret _) (lc_cl (lc_fX67_go x1) fun _ => (lc_ret _)))
theorem lc_fX67_jump_J142 (x1 : Int) : zLoc zSt_ (fX67_jump_J142 x1) :=
  (lc_fX67_jump_J147 x1 1)
theorem lc_fX67_jump_J146 (x1 : Int) : zLoc zSt_ (fX67_jump_J146 x1) :=
  (lc_fX67_jump_J147 x1 0)
theorem lc_fX67_jump_J124 (x1 : Int) : zLoc zSt_ (fX67_jump_J124 x1) :=
  (lc_gf (by decide) fun v7 => (lc_ite (lc_fX67_jump_J146 x1) (lc_al (by decide) fun v8 => (lc_ite (lc_fX67_jump_J146 x1) (lc_fX67_jump_J142 x1)))))
theorem lc_fX67_jump_J106 (x1 : Int) : zLoc zSt_ (fX67_jump_J106 x1) :=
  (lc_gf (by decide) fun v6 => (lc_ite (lc_fX67_jump_J124 x1) (lc_al (by decide) fun v9 => (lc_ite (lc_fX67_jump_J142 x1) (lc_fX67_jump_J124 x1)))))
theorem lc_fX67_jump_J88 (x1 : Int) : zLoc zSt_ (fX67_jump_J88 x1) :=
  (lc_gf (by decide) fun v5 => (lc_ite (lc_fX67_jump_J106 x1) (lc_al (by decide) fun v10 => (lc_ite (lc_fX67_jump_J142 x1) (lc_fX67_jump_J106 x1)))))
theorem lc_fX67_jump (x1 : Int) (x2 : Int) : zLoc zSt_ (fX67_jump x1 x2) :=
  (lc_gf (by decide) fun v1 => (lc_ite (lc_gf (by decide) fun v2 => (lc_ite (lc_fX67_jump_J142 x1) (lc_gf (by decide) fun v4 => (lc_ite (lc_fX67_jump_J88 x1) (lc_al (by decide) fun v11 => (lc_ite (lc_fX67_jump_J142 x1) (lc_fX67_jump_J88 x1))))))) (lc_lt fun v12 => (lc_al (by decide) fun v13 => (lc_as (by decide) (lc_al (by decide) fun v14 => (lc_cl (lc_fX67_flagHalf x1 v14) fun _ => (lc_al (by decide) fun v16 => (lc_ite (lc_ret _) (lc_cl (lc_fX67_go x1) fun _ => (lc_ret _)))))))))))
theorem lc_fX67_tell_J103 (x1 : Int) : zLoc zSt_ (fX67_tell_J103 x1) :=
  (lc_al (by decide) fun v3 => (lc_as (by decide) (lc_ret _)))
theorem lc_fX67_tell_B64 (x1 : Int) (x9 : Int) : ∀ r64 : Int → zX, (∀ s, zLoc zSt_ (r64 s)) → ∀ s, zLoc zSt_ (fX67_tell_B64 x1 x9 r64 s) := by
  intro r64 hr64 x10
  unfold fX67_tell_B64
  exact (lc_ite (lc_fX67_tell_J103 x1) (lc_al (by decide) fun v4 => (lc_al (by decide) fun v5 => (lc_as (by decide) (lc_lt fun v6 => (hr64 v6))))))
theorem lc_fX67_tell (x1 : Int) (x2 : Int) (x3 : Int) (x5 : Int) (x7 : Int) : zLoc zSt_ (fX67_tell x1 x2 x3 x5 x7) :=
  (lc_al (by decide) fun v1 => (lc_lt fun v2 => (lc_as (by decide) (lc_as (by decide) (lc_as (by decide) (lc_as (by decide) (lc_lp (lc_fX67_tell_B64 x1 v2) zBIG v2)))))))
theorem lc_fX67_act_J215 (s1 : Int) (s2 : Int) : zLoc zSt_ (fX67_act_J215 s1 s2) :=
  (lc_as (by decide) (lc_ret _))
theorem lc_fX67_act_J193 (x1 : Int) (x3 : Int) : zLoc zSt_ (fX67_act_J193 x1 x3) :=
  (lc_gf (by decide) fun v9 => (lc_ite (lc_fX67_act_J215 x1 (Int.tmod (zi (x3 + 1)) 262144)) (lc_fX67_act_J215 x1 x3)))
theorem lc_fX67_act (x1 : Int) (x2 : Int) (x3 : Int) : zLoc zSt_ (fX67_act x1 x2 x3) :=
  (lc_gf (by decide) fun v1 => (lc_ite (lc_gf (by decide) fun v2 => (lc_ite (lc_gf (by decide) fun v3 => (lc_ite (lc_gf (by decide) fun v4 => (lc_ite (lc_gf (by decide) fun v5 => (lc_ite (lc_gf (by decide) fun v6 => (lc_ite (lc_ret _) (lc_as (by decide) (lc_gf (by decide) fun v7 => (lc_ite (lc_cl (lc_fX67_write x1 x2) fun _ => (lc_fX67_act_J193 x1 x3)) (lc_cl (lc_fX67_reckon x1 x2) fun _ => (lc_fX67_act_J193 x1 x3))))))) (lc_cl (lc_fX67_place x1 x2) fun _ => (lc_ret _)))) (lc_cl (lc_fX67_jump x1 x2) fun _ => (lc_ret _)))) (lc_al (by decide) fun v13 => (lc_as (by decide) (lc_al (by decide) fun v14 => (lc_cl (lc_fX67_flag x1 v14) fun _ => (lc_ret _))))))) (lc_al (by decide) fun v16 => (lc_al (by decide) fun v17 => (lc_as (by decide) (lc_as (by decide) (lc_al (by decide) fun v18 => (lc_cl (lc_fX67_flag x1 v18) fun _ => (lc_ret _))))))))) (lc_as (by decide) (lc_cl (lc_fX67_tell x1 6 0 0 0) fun _ => (lc_ret _)))))
theorem lc_fX67_isOfEntry (x0 : Int) : zLoc zSt_ (fX67_isOfEntry x0) :=
  (lc_ite (lc_ret _) (lc_ite (lc_ret _) (lc_ite (lc_ret _) (lc_cl (lc_fX67_in x0 10 13) fun v1 => (lc_ite (lc_ret _) (lc_ite (lc_ret _) (lc_cl (lc_fX67_in x0 25 27) fun v2 => (lc_ite (lc_ret _) (lc_ret _)))))))))
theorem lc_fX67_askDirectory_J92 (s0 : Int) (s2 : Int) (s3 : Int) : zLoc zSt_ (fX67_askDirectory_J92 s0 s2 s3) :=
  (lc_al (by decide) fun v7 => (lc_ite (lc_ret _) (lc_ret _)))
theorem lc_fX67_askDirectory_J69 (x1 : Int) (x2 : Int) (x3 : Int) : zLoc zSt_ (fX67_askDirectory_J69 x1 x2 x3) :=
  (lc_al (by decide) fun v6 => (lc_ite (lc_fX67_askDirectory_J92 v6 (zi (3 * x2)) 0) (lc_fX67_askDirectory_J92 v6 (zi (3 * x2)) 1)))
theorem lc_fX67_askDirectory (x1 : Int) (x2 : Int) (x3 : Int) : zLoc zSt_ (fX67_askDirectory x1 x2 x3) :=
  (lc_al (by decide) fun v1 => (lc_al (by decide) fun v2 => (lc_cl (lc_fX67_modesFor x2 v1 v2) fun v3 => (lc_ite (lc_ite (lc_al (by decide) fun v4 => (lc_al (by decide) fun v5 => (lc_ite (lc_fX67_askDirectory_J69 x1 x2 x3) (lc_ret _)))) (lc_al (by decide) fun v8 => (lc_al (by decide) fun v9 => (lc_cl (lc_fX67_dominates v8 v9) fun v10 => (lc_ite (lc_fX67_askDirectory_J69 x1 x2 x3) (lc_ret _)))))) (lc_ret _)))))
theorem lc_fX67_add_J292 (x1 : Int) (x8 : Int) (s1 : Int) (s2 : Int) (s3 : Int) (s4 : Int) : zLoc zSt_ (fX67_add_J292 x1 x8 s1 s2 s3 s4) :=
  (lc_cl (lc_fX67_make s1 s2 s3 s4 x8) fun v12 => (lc_al (by decide) fun v13 => (lc_al (by decide) fun v14 => (lc_al (by decide) fun v15 => (lc_cl (lc_fX67_setBrackets v12 v13 v14 v15) fun _ => (lc_al (by decide) fun v17 => (lc_al (by decide) fun v18 => (lc_cl (lc_fX67_addItem v12 v17 v18 7) fun _ => (lc_al (by decide) fun v20 => (lc_al (by decide) fun v21 => (lc_cl (lc_fX67_giveFirsts v12 v20 v21) fun _ => (lc_ret _))))))))))))
theorem lc_fX67_add_J223 (x1 : Int) (x2 : Int) (x3 : Int) (x5 : Int) (s0 : Int) : zLoc zSt_ (fX67_add_J223 x1 x2 x3 x5 s0) :=
  (lc_al (by decide) fun v6 => (lc_cl (lc_fX67_entryNamed x3 v6) fun v7 => (lc_ite (lc_cl (lc_fX67_costOf x5 s0) fun v8 => (lc_cl (lc_fX67_hasRoom x3 v8) fun v9 => (lc_ite (lc_al (by decide) fun v10 => (lc_ite (lc_al (by decide) fun v11 => (lc_fX67_add_J292 x1 s0 x5 x3 v10 v11)) (lc_al (by decide) fun v23 => (lc_fX67_add_J292 x1 s0 x5 x3 v10 (zi v23))))) (lc_ret _)))) (lc_ret _))))
theorem lc_fX67_add_J187 (x1 : Int) (x2 : Int) (x3 : Int) (x5 : Int) (x6 : Int) (x7 : Int) : zLoc zSt_ (fX67_add_J187 x1 x2 x3 x5 x6 x7) :=
  (lc_ite (lc_ite (lc_ite (lc_fX67_add_J223 x1 x2 x3 x5 0) (lc_fX67_add_J223 x1 x2 x3 x5 x6)) (lc_al (by decide) fun v24 => (lc_fX67_add_J223 x1 x2 x3 x5 (zi v24)))) (lc_ret _))
theorem lc_fX67_add_J185 (x1 : Int) (x2 : Int) (x3 : Int) (x5 : Int) (x6 : Int) (s0 : Int) : zLoc zSt_ (fX67_add_J185 x1 x2 x3 x5 x6 s0) :=
  (lc_fX67_add_J187 x1 x2 x3 x5 x6 s0)
theorem lc_fX67_add_J184 (x1 : Int) (x2 : Int) (x3 : Int) (x5 : Int) (x6 : Int) : zLoc zSt_ (fX67_add_J184 x1 x2 x3 x5 x6) :=
  (lc_fX67_add_J185 x1 x2 x3 x5 x6 0)
theorem lc_fX67_add_J180 (x1 : Int) (x2 : Int) (x3 : Int) (x5 : Int) (x6 : Int) : zLoc zSt_ (fX67_add_J180 x1 x2 x3 x5 x6) :=
  (lc_fX67_add_J185 x1 x2 x3 x5 x6 1)
theorem lc_fX67_add_J102 (x1 : Int) (x2 : Int) (x3 : Int) (x5 : Int) (x6 : Int) (s0 : Int) : zLoc zSt_ (fX67_add_J102 x1 x2 x3 x5 x6 s0) :=
  (lc_fX67_add_J187 x1 x2 x3 x5 x6 s0)
theorem lc_fX67_add_J101 (x1 : Int) (x2 : Int) (x3 : Int) (x5 : Int) (x6 : Int) : zLoc zSt_ (fX67_add_J101 x1 x2 x3 x5 x6) :=
  (lc_fX67_add_J102 x1 x2 x3 x5 x6 0)
theorem lc_fX67_add_J50 (x1 : Int) (x2 : Int) (x3 : Int) (s0 : Int) : zLoc zSt_ (fX67_add_J50 x1 x2 x3 s0) :=
  (lc_al (by decide) fun v3 => (lc_al (by decide) fun v4 => (lc_cl (lc_fX67_isName v4) fun v5 => (lc_ite (lc_ite (lc_fX67_add_J187 x1 x2 x3 s0 v3 v5) (lc_ite (lc_fX67_add_J184 x1 x2 x3 s0 v3) (lc_al (by decide) fun v25 => (lc_ite (lc_fX67_add_J184 x1 x2 x3 s0 v3) (lc_al (by decide) fun v26 => (lc_al (by decide) fun v27 => (lc_cl (lc_fX67_dominates (zi v26) v27) fun v28 => (lc_ite (lc_fX67_add_J184 x1 x2 x3 s0 v3) (lc_ite (lc_fX67_add_J184 x1 x2 x3 s0 v3) (lc_al (by decide) fun v29 => (lc_al (by decide) fun v30 => (lc_ite (lc_fX67_add_J180 x1 x2 x3 s0 v3) (lc_ite (lc_fX67_add_J184 x1 x2 x3 s0 v3) (lc_fX67_add_J180 x1 x2 x3 s0 v3)))))))))))))) (lc_ite (lc_fX67_add_J101 x1 x2 x3 s0 v3) (lc_al (by decide) fun v31 => (lc_ite (lc_fX67_add_J101 x1 x2 x3 s0 v3) (lc_fX67_add_J102 x1 x2 x3 s0 v3 1))))))))
theorem lc_fX67_add (x1 : Int) (x2 : Int) : zLoc zSt_ (fX67_add x1 x2) :=
  (lc_al (by decide) fun v1 => (lc_pf (by decide) (lc_cl (lc_fX67_askDirectory x1 v1 4) fun v2 => (lc_ite (lc_ite (lc_ite (lc_fX67_add_J50 x1 x2 v1 3) (lc_fX67_add_J50 x1 x2 v1 1)) (lc_fX67_add_J50 x1 x2 v1 2)) (lc_ret _)))))
theorem lc_fX67_note (x1 : Int) (x2 : Int) (x3 : Int) (x4 : Int) : zLoc zSt_ (fX67_note x1 x2 x3 x4) :=
  (lc_gf (by decide) fun v1 => (lc_lt fun v2 => (lc_as (by decide) (lc_as (by decide) (lc_as (by decide) (lc_as (by decide) (lc_gf (by decide) fun v3 => (lc_pf (by decide) (lc_ret _)))))))))
theorem lc_fX67_entryBehind_J94 {r5 : Int × Int → zX} (hr5 : ∀ s, zLoc zSt_ (r5 s)) (x1 : Int) (x2 : Int) (x4 : Int) (s0 : Int) : zLoc zSt_ (fX67_entryBehind_J94 r5 x1 x2 x4 s0) :=
  (lc_lt fun v2 => (hr5 (s0, v2)))
theorem lc_fX67_entryBehind_J93 {r5 : Int × Int → zX} (hr5 : ∀ s, zLoc zSt_ (r5 s)) (x1 : Int) (x2 : Int) (x3 : Int) (x4 : Int) : zLoc zSt_ (fX67_entryBehind_J93 r5 x1 x2 x3 x4) :=
  (lc_fX67_entryBehind_J94 hr5 x1 x2 x4 x3)
theorem lc_fX67_entryBehind_J88 {r5 : Int × Int → zX} (hr5 : ∀ s, zLoc zSt_ (r5 s)) (x1 : Int) (x2 : Int) (x4 : Int) : zLoc zSt_ (fX67_entryBehind_J88 r5 x1 x2 x4) :=
  (lc_fX67_entryBehind_J94 hr5 x1 x2 x4 x4)
theorem lc_fX67_entryBehind_J60 {r5 : Int × Int → zX} (hr5 : ∀ s, zLoc zSt_ (r5 s)) (x1 : Int) (x2 : Int) (x3 : Int) (x4 : Int) (s0 : Int) : zLoc zSt_ (fX67_entryBehind_J60 r5 x1 x2 x3 x4 s0) :=
  (lc_ite (lc_fX67_entryBehind_J93 hr5 x1 x2 x3 x4) (lc_ite (lc_fX67_entryBehind_J88 hr5 x1 x2 x4) (lc_al (by decide) fun v3 => (lc_al (by decide) fun v4 => (lc_ite (lc_fX67_entryBehind_J93 hr5 x1 x2 x3 x4) (lc_fX67_entryBehind_J88 hr5 x1 x2 x4))))))
theorem lc_fX67_entryBehind_J59 {r5 : Int × Int → zX} (hr5 : ∀ s, zLoc zSt_ (r5 s)) (x1 : Int) (x2 : Int) (x3 : Int) (x4 : Int) : zLoc zSt_ (fX67_entryBehind_J59 r5 x1 x2 x3 x4) :=
  (lc_fX67_entryBehind_J60 hr5 x1 x2 x3 x4 0)
theorem lc_fX67_entryBehind_J55 {r5 : Int × Int → zX} (hr5 : ∀ s, zLoc zSt_ (r5 s)) (x1 : Int) (x2 : Int) (x3 : Int) (x4 : Int) : zLoc zSt_ (fX67_entryBehind_J55 r5 x1 x2 x3 x4) :=
  (lc_fX67_entryBehind_J60 hr5 x1 x2 x3 x4 1)
theorem lc_fX67_entryBehind_B5 (x1 : Int) (x2 : Int) : ∀ r5 : Int × Int → zX, (∀ s, zLoc zSt_ (r5 s)) → ∀ s, zLoc zSt_ (fX67_entryBehind_B5 x1 x2 r5 s) := by
  intro r5 hr5 s
  obtain ⟨x3, x4⟩ := s
  unfold fX67_entryBehind_B5
  exact (lc_ite (lc_ret _) (lc_al (by decide) fun v1 => (lc_ite (lc_fX67_entryBehind_J59 hr5 x1 x2 x3 x4) (lc_al (by decide) fun v5 => (lc_ite (lc_fX67_entryBehind_J59 hr5 x1 x2 x3 x4) (lc_ite (lc_fX67_entryBehind_J55 hr5 x1 x2 x3 x4) (lc_al (by decide) fun v6 => (lc_al (by decide) fun v7 => (lc_ite (lc_fX67_entryBehind_J59 hr5 x1 x2 x3 x4) (lc_fX67_entryBehind_J55 hr5 x1 x2 x3 x4))))))))))
theorem lc_fX67_entryBehind (x1 : Int) (x2 : Int) : zLoc zSt_ (fX67_entryBehind x1 x2) :=
  (lc_lp (lc_fX67_entryBehind_B5 x1 x2) zBIG ((-1), 1))
theorem lc_fX67_entryAt_B19 (x1 : Int) (x2 : Int) : ∀ r19 : Int × Int → zX, (∀ s, zLoc zSt_ (r19 s)) → ∀ s, zLoc zSt_ (fX67_entryAt_B19 x1 x2 r19 s) := by
  intro r19 hr19 s
  obtain ⟨x4, x5⟩ := s
  unfold fX67_entryAt_B19
  exact (lc_ite (lc_ret _) (lc_ite (lc_ret _) (lc_cl (lc_fX67_entryBehind x1 x4) fun v2 => (lc_lt fun v3 => (hr19 (v2, v3))))))
theorem lc_fX67_entryAt (x1 : Int) (x2 : Int) : zLoc zSt_ (fX67_entryAt x1 x2) :=
  (lc_ite (lc_cl (lc_fX67_entryBehind x1 0) fun v1 => (lc_lp (lc_fX67_entryAt_B19 x1 x2) zBIG (v1, 0))) (lc_ret _))
theorem lc_fX67_nameOf_J62 (x1 : Int) (s0 : Int) : zLoc zSt_ (fX67_nameOf_J62 x1 s0) :=
  (lc_ite (lc_al (by decide) fun v8 => (lc_as (by decide) (lc_ret _))) (lc_ret _))
theorem lc_fX67_nameOf (x1 : Int) : zLoc zSt_ (fX67_nameOf x1) :=
  (lc_al (by decide) fun v1 => (lc_pf (by decide) (lc_al (by decide) fun v2 => (lc_cl (lc_fX67_askDirectory x1 v2 1) fun v3 => (lc_ite (lc_al (by decide) fun v4 => (lc_ite (lc_al (by decide) fun v5 => (lc_al (by decide) fun v6 => (lc_cl (lc_fX67_entryAt v5 v6) fun v7 => (lc_fX67_nameOf_J62 x1 v7)))) (lc_fX67_nameOf_J62 x1 (-1)))) (lc_ret _))))))
theorem lc_fX67_newLength_J39 (x1 : Int) (s0 : Int) : zLoc zSt_ (fX67_newLength_J39 x1 s0) :=
  (lc_ite (lc_pf (by decide) (lc_al (by decide) fun v3 => (lc_cl (lc_fX67_barred x1 s0 v3 4) fun v4 => (lc_ite (lc_al (by decide) fun v5 => (lc_ite (lc_al (by decide) fun v6 => (lc_cl (lc_fX67_setLength s0 (zi v6)) fun v7 => (lc_ite (lc_ret _) (lc_ret _)))) (lc_ret _))) (lc_ret _))))) (lc_ret _))
theorem lc_fX67_newLength (x1 : Int) : zLoc zSt_ (fX67_newLength x1) :=
  (lc_al (by decide) fun v1 => (lc_cl (lc_fX67_in v1 8 31) fun v2 => (lc_ite (lc_fX67_newLength_J39 x1 (-1)) (lc_al (by decide) fun v8 => (lc_al (by decide) fun v9 => (lc_fX67_newLength_J39 x1 v9))))))
theorem lc_fX67_newFirst (x1 : Int) : zLoc zSt_ (fX67_newFirst x1) :=
  (lc_al (by decide) fun v1 => (lc_pf (by decide) (lc_al (by decide) fun v2 => (lc_cl (lc_fX67_askDirectory x1 v2 2) fun v3 => (lc_ite (lc_lt fun v4 => (lc_al (by decide) fun v5 => (lc_cl (lc_fX67_in v5 1 2) fun v6 => (lc_ite (lc_ret _) (lc_al (by decide) fun v7 => (lc_al (by decide) fun v8 => (lc_al (by decide) fun v9 => (lc_cl (lc_fX67_isItem v7 v8 v9) fun v10 => (lc_ite (lc_al (by decide) fun v11 => (lc_al (by decide) fun v12 => (lc_al (by decide) fun v13 => (lc_al (by decide) fun v14 => (lc_al (by decide) fun v15 => (lc_cl (lc_fX67_initial v11 (zi v12) v13 v14 v15) fun v16 => (lc_ite (lc_ret _) (lc_ret _)))))))) (lc_ret _)))))))))) (lc_ret _))))))
theorem lc_fX67_doable_J141 (s1 : Int) (s2 : Int) (s3 : Int) : zLoc zSt_ (fX67_doable_J141 s1 s2 s3) :=
  (lc_as (by decide) (lc_ret _))
theorem lc_fX67_doable_J119 (x1 : Int) (x3 : Int) (s1 : Int) (s2 : Int) (s3 : Int) : zLoc zSt_ (fX67_doable_J119 x1 x3 s1 s2 s3) :=
  (lc_al (by decide) fun v9 => (lc_cl (lc_fX67_barred x1 x3 v9 4) fun v10 => (lc_ite (lc_fX67_doable_J141 s1 (zi (s2 + s3)) 0) (lc_fX67_doable_J141 s1 (zi (s2 + s3)) 4))))
theorem lc_fX67_doable_J98 (x1 : Int) (x3 : Int) (s1 : Int) (s2 : Int) : zLoc zSt_ (fX67_doable_J98 x1 x3 s1 s2) :=
  (lc_al (by decide) fun v7 => (lc_cl (lc_fX67_barred x1 x3 v7 2) fun v8 => (lc_ite (lc_fX67_doable_J119 x1 x3 s1 s2 0) (lc_fX67_doable_J119 x1 x3 s1 s2 2))))
theorem lc_fX67_doable_J51 (s1 : Int) (s2 : Int) : zLoc zSt_ (fX67_doable_J51 s1 s2) :=
  (lc_as (by decide) (lc_ret _))
theorem lc_fX67_doable (x1 : Int) : zLoc zSt_ (fX67_doable x1) :=
  (lc_al (by decide) fun v1 => (lc_ite (lc_al (by decide) fun v2 => (lc_lt fun v3 => (lc_ite (lc_al (by decide) fun v4 => (lc_ite (lc_al (by decide) fun v5 => (lc_cl (lc_fX67_barred x1 v4 v5 1) fun v6 => (lc_ite (lc_fX67_doable_J98 x1 v4 x1 0) (lc_fX67_doable_J98 x1 v4 x1 1)))) (lc_ret _))) (lc_al (by decide) fun v11 => (lc_ite (lc_fX67_doable_J51 x1 0) (lc_fX67_doable_J51 x1 5)))))) (lc_ret _)))
theorem lc_fX67_among_B130 (x1 : Int) : ∀ r130 : Int → zX, (∀ s, zLoc zSt_ (r130 s)) → ∀ s, zLoc zSt_ (fX67_among_B130 x1 r130 s) := by
  intro r130 hr130 x3
  unfold fX67_among_B130
  exact (lc_al (by decide) fun v10 => (lc_ite (lc_ret _) (lc_al (by decide) fun v11 => (lc_as (by decide) (lc_lt fun v12 => (hr130 v12))))))
theorem lc_fX67_among (x1 : Int) (x2 : Int) : zLoc zSt_ (fX67_among x1 x2) :=
  (lc_ite (lc_ite (lc_ite (lc_ite (lc_cl (lc_fX67_doable x1) fun v1 => (lc_ret _)) (lc_al (by decide) fun v2 => (lc_al (by decide) fun v3 => (lc_al (by decide) fun v4 => (lc_al (by decide) fun v5 => (lc_as (by decide) (lc_ret _))))))) (lc_al (by decide) fun v6 => (lc_as (by decide) (lc_ret _)))) (lc_al (by decide) fun v7 => (lc_as (by decide) (lc_al (by decide) fun v8 => (lc_as (by decide) (lc_lt fun v9 => (lc_lp (lc_fX67_among_B130 x1) zBIG v9))))))) (lc_al (by decide) fun v13 => (lc_ite (lc_ret _) (lc_al (by decide) fun v14 => (lc_ite (lc_ret _) (lc_al (by decide) fun v15 => (lc_al (by decide) fun v16 => (lc_cl (lc_fX67_dominates v15 v16) fun v17 => (lc_ite (lc_ret _) (lc_al (by decide) fun v18 => (lc_ite (lc_ret _) (lc_al (by decide) fun v19 => (lc_al (by decide) fun v20 => (lc_as (by decide) (lc_al (by decide) fun v21 => (lc_as (by decide) (lc_ret _)))))))))))))))))
theorem lc_fX67_plain_J289 (s1 : Int) (s2 : Int) : zLoc zSt_ (fX67_plain_J289 s1 s2) :=
  (lc_as (by decide) (lc_ret _))
theorem lc_fX67_plain_J313 (x1 : Int) (s1 : Int) (s2 : Int) : zLoc zSt_ (fX67_plain_J313 x1 s1 s2) :=
  (lc_as (by decide) (lc_al (by decide) fun v27 => (lc_as (by decide) (lc_al (by decide) fun v28 => (lc_as (by decide) (lc_al (by decide) fun v29 => (lc_as (by decide) (lc_ret _))))))))
theorem lc_fX67_plain (x1 : Int) (x2 : Int) : zLoc zSt_ (fX67_plain x1 x2) :=
  (lc_ite (lc_al (by decide) fun v2 => (lc_cl (lc_fX67_tell x1 1 v2 0 0) fun _ => (lc_ret _))) (lc_ite (lc_al (by decide) fun v5 => (lc_ite (lc_al (by decide) fun v6 => (lc_al (by decide) fun v7 => (lc_as (by decide) (lc_ret _)))) (lc_ret _))) (lc_ite (lc_as (by decide) (lc_ret _)) (lc_ite (lc_al (by decide) fun v10 => (lc_cl (lc_fX67_in v10 8 31) fun v11 => (lc_ite (lc_ret _) (lc_al (by decide) fun v12 => (lc_al (by decide) fun v13 => (lc_ite (lc_al (by decide) fun v14 => (lc_cl (lc_fX67_forget x1 (zi v14)) fun _ => (lc_ret _))) (lc_ret _))))))) (lc_ite (lc_cl (lc_fX67_nameOf x1) fun v17 => (lc_ret _)) (lc_ite (lc_cl (lc_fX67_newLength x1) fun v19 => (lc_ret _)) (lc_ite (lc_al (by decide) fun v21 => (lc_ite (lc_al (by decide) fun v22 => (lc_al (by decide) fun v23 => (lc_ite (lc_al (by decide) fun v24 => (lc_fX67_plain_J289 (zi ((zi (4 * x1)) + v22)) v24)) (lc_fX67_plain_J289 (zi ((zi (4 * x1)) + v22)) (-1))))) (lc_ret _))) (lc_ite (lc_al (by decide) fun v26 => (lc_ite (lc_fX67_plain_J313 x1 x1 0) (lc_fX67_plain_J313 x1 x1 1))) (lc_ite (lc_cl (lc_fX67_newFirst x1) fun v31 => (lc_ret _)) (lc_cl (lc_fX67_among x1 x2) fun v32 => (lc_ret _)))))))))))
theorem lc_fX67_numberFor_B35 (x1 : Int) : ∀ r35 : Int → zX, (∀ s, zLoc zSt_ (r35 s)) → ∀ s, zLoc zSt_ (fX67_numberFor_B35 x1 r35 s) := by
  intro r35 hr35 x3
  unfold fX67_numberFor_B35
  exact (lc_ite (lc_ret _) (lc_al (by decide) fun v1 => (lc_ite (lc_lt fun v2 => (hr35 v2)) (lc_ret _))))
theorem lc_fX67_numberFor_J32 (x1 : Int) : zLoc zSt_ (fX67_numberFor_J32 x1) :=
  (lc_lp (lc_fX67_numberFor_B35 x1) zBIG 8)
theorem lc_fX67_numberFor_B3 (x1 : Int) (x2 : Int) : ∀ r3 : Int → zX, (∀ s, zLoc zSt_ (r3 s)) → ∀ s, zLoc zSt_ (fX67_numberFor_B3 x1 x2 r3 s) := by
  intro r3 hr3 x3
  unfold fX67_numberFor_B3
  exact (lc_ite (lc_fX67_numberFor_J32 x1) (lc_al (by decide) fun v3 => (lc_ite (lc_lt fun v4 => (hr3 v4)) (lc_ret _))))
theorem lc_fX67_numberFor (x1 : Int) (x2 : Int) : zLoc zSt_ (fX67_numberFor x1 x2) :=
  (lc_lp (lc_fX67_numberFor_B3 x1 x2) zBIG 8)
theorem lc_fX67_look_J107 (x1 : Int) (x2 : Int) (x3 : Int) (s0 : Int) (s1 : Int) : zLoc zSt_ (fX67_look_J107 x1 x2 x3 s0 s1) :=
  (lc_ite (lc_ite (lc_al (by decide) fun v2 => (lc_al (by decide) fun v3 => (lc_cl (lc_fX67_modesFor x3 v2 v3) fun v4 => (lc_ite (lc_cl (lc_fX67_numberFor x1 x3) fun v5 => (lc_ite (lc_as (by decide) (lc_as (by decide) (lc_ret _))) (lc_ret _))) (lc_ret _))))) (lc_al (by decide) fun v6 => (lc_al (by decide) fun v7 => (lc_cl (lc_fX67_dominates v6 v7) fun v8 => (lc_ite (lc_as (by decide) (lc_ret _)) (lc_ret _)))))) (lc_ret _))
theorem lc_fX67_look (x1 : Int) (x2 : Int) (x3 : Int) : zLoc zSt_ (fX67_look x1 x2 x3) :=
  (lc_ite (lc_al (by decide) fun v1 => (lc_ite (lc_fX67_look_J107 x1 x2 x3 v1 2) (lc_fX67_look_J107 x1 x2 x3 v1 1))) (lc_al (by decide) fun v9 => (lc_al (by decide) fun v10 => (lc_al (by decide) fun v11 => (lc_al (by decide) fun v12 => (lc_al (by decide) fun v13 => (lc_al (by decide) fun v14 => (lc_as (by decide) (lc_ret _)))))))))
theorem lc_fX67_isUpgraded (x1 : Int) : zLoc zSt_ (fX67_isUpgraded x1) :=
  (lc_ite (lc_ret _) (lc_al (by decide) fun v1 => (lc_ite (lc_ret _) (lc_al (by decide) fun v2 => (lc_al (by decide) fun v3 => (lc_al (by decide) fun v4 => (lc_ite (lc_ret _) (lc_ret _))))))))
theorem lc_fX67_isOutOfRing (x1 : Int) (x2 : Int) : zLoc zSt_ (fX67_isOutOfRing x1 x2) :=
  (lc_al (by decide) fun v1 => (lc_al (by decide) fun v2 => (lc_ite (lc_ret _) (lc_ret _))))
theorem lc_fX67_newBrackets (x1 : Int) (x2 : Int) : zLoc zSt_ (fX67_newBrackets x1 x2) :=
  (lc_al (by decide) fun v1 => (lc_ite (lc_al (by decide) fun v2 => (lc_lt fun v3 => (lc_lt fun v4 => (lc_cl (lc_fX67_areBrackets x2 v4 (Int.tmod (zi (Int.tdiv v3 8)) 8) (Int.tmod (zi (Int.tdiv v3 64)) 8) (zi (Int.tdiv v3 512))) fun v5 => (lc_ite (lc_cl (lc_fX67_isOutOfRing x1 x2) fun v6 => (lc_ite (lc_ret _) (lc_al (by decide) fun v7 => (lc_ite (lc_cl (lc_fX67_brackets x2 v4 (Int.tmod (zi (Int.tdiv v3 8)) 8) (Int.tmod (zi (Int.tdiv v3 64)) 8) (zi (Int.tdiv v3 512))) fun v8 => (lc_ret _)) (lc_ret _))))) (lc_ret _)))))) (lc_ret _)))
theorem lc_fX67_newLimit (x1 : Int) (x2 : Int) : zLoc zSt_ (fX67_newLimit x1 x2) :=
  (lc_al (by decide) fun v1 => (lc_ite (lc_ret _) (lc_al (by decide) fun v2 => (lc_ite (lc_cl (lc_fX67_isUpgraded x2) fun v3 => (lc_ite (lc_cl (lc_fX67_isOutOfRing x1 x2) fun v4 => (lc_ite (lc_al (by decide) fun v5 => (lc_cl (lc_fX67_in v5 1 255) fun v6 => (lc_ite (lc_al (by decide) fun v7 => (lc_cl (lc_fX67_setLimit x2 (zi v7)) fun v8 => (lc_ite (lc_ret _) (lc_ret _)))) (lc_ret _)))) (lc_ret _))) (lc_ret _))) (lc_ret _)))))
theorem lc_fX67_modify (x1 : Int) (x2 : Int) (x3 : Int) : zLoc zSt_ (fX67_modify x1 x2 x3) :=
  (lc_lt fun v1 => (lc_ite (lc_cl (lc_fX67_isUpgraded x3) fun v3 => (lc_ite (lc_cl (lc_fX67_isOutOfRing x1 x3) fun v4 => (lc_ite (lc_cl (lc_fX67_countEntries x3) fun v5 => (lc_ite (lc_cl (lc_fX67_drop x3) fun _ => (lc_ret _)) (lc_ret _))) (lc_ret _))) (lc_ret _))) (lc_ite (lc_al (by decide) fun v8 => (lc_cl (lc_fX67_isName v8) fun v9 => (lc_ite (lc_cl (lc_fX67_isOutOfRing x1 x3) fun v10 => (lc_ite (lc_al (by decide) fun v11 => (lc_cl (lc_fX67_rename x3 v11) fun v12 => (lc_ret _))) (lc_ret _))) (lc_ret _)))) (lc_ite (lc_al (by decide) fun v14 => (lc_al (by decide) fun v15 => (lc_al (by decide) fun v16 => (lc_cl (lc_fX67_isItem v14 v15 v16) fun v17 => (lc_ite (lc_cl (lc_fX67_isOutOfRing x1 x3) fun v18 => (lc_ite (lc_al (by decide) fun v19 => (lc_al (by decide) fun v20 => (lc_al (by decide) fun v21 => (lc_cl (lc_fX67_item x3 v19 v20 v21) fun v22 => (lc_ite (lc_ret _) (lc_ret _)))))) (lc_ret _))) (lc_ret _)))))) (lc_ite (lc_cl (lc_fX67_newBrackets x1 x3) fun v24 => (lc_ret _)) (lc_cl (lc_fX67_newLimit x1 x3) fun v25 => (lc_ret _)))))))
theorem lc_fX67_askMailbox (x1 : Int) (x2 : Int) (x3 : Int) : zLoc zSt_ (fX67_askMailbox x1 x2 x3) :=
  (lc_al (by decide) fun v1 => (lc_al (by decide) fun v2 => (lc_cl (lc_fX67_modesFor x2 v1 v2) fun v3 => (lc_ite (lc_al (by decide) fun v4 => (lc_al (by decide) fun v5 => (lc_cl (lc_fX67_dominates v4 v5) fun v6 => (lc_ite (lc_al (by decide) fun v7 => (lc_al (by decide) fun v8 => (lc_ite (lc_ret _) (lc_ret _)))) (lc_ret _))))) (lc_ret _)))))
theorem lc_fX67_onMailbox_B346 (x3 : Int) (x5 : Int) : ∀ r346 : Int → zX, (∀ s, zLoc zSt_ (r346 s)) → ∀ s, zLoc zSt_ (fX67_onMailbox_B346 x3 x5 r346 s) := by
  intro r346 hr346 x9
  unfold fX67_onMailbox_B346
  exact (lc_al (by decide) fun v7 => (lc_ite (lc_ret _) (lc_al (by decide) fun v8 => (lc_as (by decide) (lc_al (by decide) fun v9 => (lc_as (by decide) (lc_lt fun v10 => (hr346 v10))))))))
theorem lc_fX67_onMailbox_J214 (x1 : Int) (x2 : Int) (x3 : Int) (x5 : Int) (x6 : Int) (x7 : Int) : zLoc zSt_ (fX67_onMailbox_J214 x1 x2 x3 x5 x6 x7) :=
  (lc_ite (lc_ite (lc_al (by decide) fun v5 => (lc_as (by decide) (lc_ite (lc_al (by decide) fun v6 => (lc_as (by decide) (lc_lp (lc_fX67_onMailbox_B346 x3 x5) zBIG x7))) (lc_al (by decide) fun v11 => (lc_as (by decide) (lc_ret _)))))) (lc_ret _)) (lc_ite (lc_al (by decide) fun v12 => (lc_al (by decide) fun v13 => (lc_as (by decide) (lc_al (by decide) fun v14 => (lc_al (by decide) fun v15 => (lc_as (by decide) (lc_al (by decide) fun v16 => (lc_as (by decide) (lc_ret _))))))))) (lc_ret _)))
theorem lc_fX67_onMailbox_J206 {r69 : Int × Int × Int × Int → zX} (hr69 : ∀ s, zLoc zSt_ (r69 s)) (x1 : Int) (x2 : Int) (x3 : Int) (x5 : Int) (x6 : Int) (x7 : Int) (x9 : Int) (s0 : Int) : zLoc zSt_ (fX67_onMailbox_J206 r69 x1 x2 x3 x5 x6 x7 x9 s0) :=
  (lc_lt fun v22 => (hr69 (x6, x7, s0, v22)))
theorem lc_fX67_onMailbox_J190 {r69 : Int × Int × Int × Int → zX} (hr69 : ∀ s, zLoc zSt_ (r69 s)) (x1 : Int) (x2 : Int) (x3 : Int) (x5 : Int) (x6 : Int) (x8 : Int) (x9 : Int) (x11 : Int) (s0 : Int) : zLoc zSt_ (fX67_onMailbox_J190 r69 x1 x2 x3 x5 x6 x8 x9 x11 s0) :=
  (lc_ite (lc_fX67_onMailbox_J206 hr69 x1 x2 x3 x5 x6 s0 x9 x8) (lc_fX67_onMailbox_J206 hr69 x1 x2 x3 x5 x6 s0 x9 (zi (x8 + 1))))
theorem lc_fX67_onMailbox_J188 {r69 : Int × Int × Int × Int → zX} (hr69 : ∀ s, zLoc zSt_ (r69 s)) (x1 : Int) (x2 : Int) (x3 : Int) (x5 : Int) (x6 : Int) (x7 : Int) (x8 : Int) (x9 : Int) (x11 : Int) : zLoc zSt_ (fX67_onMailbox_J188 r69 x1 x2 x3 x5 x6 x7 x8 x9 x11) :=
  (lc_fX67_onMailbox_J190 hr69 x1 x2 x3 x5 x6 x8 x9 x11 x7)
theorem lc_fX67_onMailbox_J183 {r69 : Int × Int × Int × Int → zX} (hr69 : ∀ s, zLoc zSt_ (r69 s)) (x1 : Int) (x2 : Int) (x3 : Int) (x5 : Int) (x6 : Int) (x8 : Int) (x9 : Int) (x11 : Int) : zLoc zSt_ (fX67_onMailbox_J183 r69 x1 x2 x3 x5 x6 x8 x9 x11) :=
  (lc_fX67_onMailbox_J190 hr69 x1 x2 x3 x5 x6 x8 x9 x11 x9)
theorem lc_fX67_onMailbox_J152 {r69 : Int × Int × Int × Int → zX} (hr69 : ∀ s, zLoc zSt_ (r69 s)) (x1 : Int) (x2 : Int) (x3 : Int) (x5 : Int) (x6 : Int) (x7 : Int) (x8 : Int) (x9 : Int) (s0 : Int) : zLoc zSt_ (fX67_onMailbox_J152 r69 x1 x2 x3 x5 x6 x7 x8 x9 s0) :=
  (lc_ite (lc_fX67_onMailbox_J188 hr69 x1 x2 x3 x5 x6 x7 x8 x9 s0) (lc_ite (lc_fX67_onMailbox_J188 hr69 x1 x2 x3 x5 x6 x7 x8 x9 s0) (lc_ite (lc_fX67_onMailbox_J183 hr69 x1 x2 x3 x5 x6 x8 x9 s0) (lc_al (by decide) fun v23 => (lc_ite (lc_fX67_onMailbox_J188 hr69 x1 x2 x3 x5 x6 x7 x8 x9 s0) (lc_fX67_onMailbox_J183 hr69 x1 x2 x3 x5 x6 x8 x9 s0))))))
theorem lc_fX67_onMailbox_J120 {r69 : Int × Int × Int × Int → zX} (hr69 : ∀ s, zLoc zSt_ (r69 s)) (x1 : Int) (x2 : Int) (x3 : Int) (x5 : Int) (x7 : Int) (x8 : Int) (x9 : Int) (x10 : Int) (s0 : Int) : zLoc zSt_ (fX67_onMailbox_J120 r69 x1 x2 x3 x5 x7 x8 x9 x10 s0) :=
  (lc_ite (lc_al (by decide) fun v19 => (lc_al (by decide) fun v20 => (lc_cl (lc_fX67_dominates v19 v20) fun v21 => (lc_fX67_onMailbox_J152 hr69 x1 x2 x3 x5 s0 x7 x8 x9 v21)))) (lc_fX67_onMailbox_J152 hr69 x1 x2 x3 x5 s0 x7 x8 x9 x10))
theorem lc_fX67_onMailbox_J104 {r69 : Int × Int × Int × Int → zX} (hr69 : ∀ s, zLoc zSt_ (r69 s)) (x1 : Int) (x2 : Int) (x3 : Int) (x5 : Int) (x6 : Int) (x7 : Int) (x8 : Int) (x9 : Int) (s0 : Int) : zLoc zSt_ (fX67_onMailbox_J104 r69 x1 x2 x3 x5 x6 x7 x8 x9 s0) :=
  (lc_ite (lc_fX67_onMailbox_J120 hr69 x1 x2 x3 x5 x7 x8 x9 s0 x6) (lc_fX67_onMailbox_J120 hr69 x1 x2 x3 x5 x7 x8 x9 s0 (zi (x6 + 1))))
theorem lc_fX67_onMailbox_B69 (x1 : Int) (x2 : Int) (x3 : Int) (x5 : Int) : ∀ r69 : Int × Int × Int × Int → zX, (∀ s, zLoc zSt_ (r69 s)) → ∀ s, zLoc zSt_ (fX67_onMailbox_B69 x1 x2 x3 x5 r69 s) := by
  intro r69 hr69 s
  obtain ⟨x6, x7, x8, x9⟩ := s
  unfold fX67_onMailbox_B69
  exact (lc_al (by decide) fun v4 => (lc_ite (lc_fX67_onMailbox_J214 x1 x2 x3 x5 x6 x7) (lc_al (by decide) fun v17 => (lc_al (by decide) fun v18 => (lc_ite (lc_fX67_onMailbox_J104 hr69 x1 x2 x3 x5 x6 x7 x8 x9 0) (lc_fX67_onMailbox_J104 hr69 x1 x2 x3 x5 x6 x7 x8 x9 1))))))
theorem lc_fX67_onMailbox_J37 (x1 : Int) (x2 : Int) (x3 : Int) (s1 : Int) (s2 : Int) (s3 : Int) : zLoc zSt_ (fX67_onMailbox_J37 x1 x2 x3 s1 s2 s3) :=
  (lc_cl (lc_fX67_askMailbox s1 s2 s3) fun v2 => (lc_ite (lc_lt fun v3 => (lc_lp (lc_fX67_onMailbox_B69 x1 x2 x3 v3) zBIG (0, (-1), 0, 0))) (lc_ret _)))
theorem lc_fX67_onMailbox (x1 : Int) (x2 : Int) (x3 : Int) : zLoc zSt_ (fX67_onMailbox x1 x2 x3) :=
  (lc_al (by decide) fun v1 => (lc_ite (lc_ite (lc_ite (lc_fX67_onMailbox_J37 x1 x2 x3 x1 x3 4) (lc_fX67_onMailbox_J37 x1 x2 x3 x1 x3 2)) (lc_fX67_onMailbox_J37 x1 x2 x3 x1 x3 1)) (lc_ret _)))
theorem lc_fX67_onEntry_J39 (x1 : Int) (x2 : Int) (x3 : Int) (s1 : Int) (s2 : Int) (s3 : Int) : zLoc zSt_ (fX67_onEntry_J39 x1 x2 x3 s1 s2 s3) :=
  (lc_cl (lc_fX67_askDirectory s1 s2 s3) fun v4 => (lc_ite (lc_al (by decide) fun v5 => (lc_cl (lc_fX67_isName v5) fun v6 => (lc_ite (lc_al (by decide) fun v7 => (lc_al (by decide) fun v8 => (lc_cl (lc_fX67_entryNamed v7 v8) fun v9 => (lc_ite (lc_pf (by decide) (lc_ite (lc_ite (lc_cl (lc_fX67_look x1 x2 v9) fun v10 => (lc_ret _)) (lc_cl (lc_fX67_modify x1 x2 v9) fun v11 => (lc_ret _))) (lc_cl (lc_fX67_onMailbox x1 x2 v9) fun v12 => (lc_ret _)))) (lc_ret _))))) (lc_ret _)))) (lc_ret _)))
theorem lc_fX67_onEntry (x1 : Int) (x2 : Int) : zLoc zSt_ (fX67_onEntry x1 x2) :=
  (lc_cl (lc_fX67_in x2 10 15) fun v1 => (lc_al (by decide) fun v2 => (lc_pf (by decide) (lc_al (by decide) fun v3 => (lc_ite (lc_fX67_onEntry_J39 x1 x2 v1 x1 v3 1) (lc_fX67_onEntry_J39 x1 x2 v1 x1 v3 2))))))
theorem lc_fX67_comeBack_J257 (x1 : Int) (x3 : Int) (x5 : Int) : zLoc zSt_ (fX67_comeBack_J257 x1 x3 x5) :=
  (lc_al (by decide) fun v9 => (lc_as (by decide) (lc_al (by decide) fun v10 => (lc_as (by decide) (lc_al (by decide) fun v11 => (lc_as (by decide) (lc_al (by decide) fun v12 => (lc_as (by decide) (lc_al (by decide) fun v13 => (lc_as (by decide) (lc_al (by decide) fun v14 => (lc_as (by decide) (lc_ret _)))))))))))))
theorem lc_fX67_comeBack_B172 (x1 : Int) (x3 : Int) (x5 : Int) : ∀ r172 : Int → zX, (∀ s, zLoc zSt_ (r172 s)) → ∀ s, zLoc zSt_ (fX67_comeBack_B172 x1 x3 x5 r172 s) := by
  intro r172 hr172 x6
  unfold fX67_comeBack_B172
  exact (lc_ite (lc_fX67_comeBack_J257 x1 x3 x5) (lc_al (by decide) fun v15 => (lc_as (by decide) (lc_al (by decide) fun v16 => (lc_as (by decide) (lc_al (by decide) fun v17 => (lc_as (by decide) (lc_lt fun v18 => (hr172 v18)))))))))
theorem lc_fX67_comeBack_J169 (x1 : Int) (x3 : Int) (x5 : Int) : zLoc zSt_ (fX67_comeBack_J169 x1 x3 x5) :=
  (lc_lp (lc_fX67_comeBack_B172 x1 x3 x5) zBIG 0)
theorem lc_fX67_comeBack_B135 (x1 : Int) (x3 : Int) (x5 : Int) : ∀ r135 : Int → zX, (∀ s, zLoc zSt_ (r135 s)) → ∀ s, zLoc zSt_ (fX67_comeBack_B135 x1 x3 x5 r135 s) := by
  intro r135 hr135 x6
  unfold fX67_comeBack_B135
  exact (lc_ite (lc_fX67_comeBack_J169 x1 x3 x5) (lc_al (by decide) fun v19 => (lc_as (by decide) (lc_lt fun v20 => (hr135 v20)))))
theorem lc_fX67_comeBack_J106 (x1 : Int) (x3 : Int) (s0 : Int) : zLoc zSt_ (fX67_comeBack_J106 x1 x3 s0) :=
  (lc_al (by decide) fun v7 => (lc_as (by decide) (lc_al (by decide) fun v8 => (lc_as (by decide) (lc_lp (lc_fX67_comeBack_B135 x1 x3 s0) zBIG 0)))))
theorem lc_fX67_comeBack_J69 (x1 : Int) (x2 : Int) (x4 : Int) : zLoc zSt_ (fX67_comeBack_J69 x1 x2 x4) :=
  (lc_as (by decide) (lc_as (by decide) (lc_ret _)))
theorem lc_fX67_comeBack_J47 (x1 : Int) (x2 : Int) (x3 : Int) (s0 : Int) : zLoc zSt_ (fX67_comeBack_J47 x1 x2 x3 s0) :=
  (lc_ite (lc_al (by decide) fun v6 => (lc_ite (lc_fX67_comeBack_J106 x1 x3 1) (lc_fX67_comeBack_J106 x1 x3 0))) (lc_ite (lc_fX67_comeBack_J69 x1 x2 s0) (lc_cl (lc_fX67_note x1 2 (-1) 5) fun _ => (lc_fX67_comeBack_J69 x1 x2 s0))))
theorem lc_fX67_comeBack (x1 : Int) (x2 : Int) : zLoc zSt_ (fX67_comeBack x1 x2) :=
  (lc_al (by decide) fun v1 => (lc_lt fun v2 => (lc_al (by decide) fun v3 => (lc_ite (lc_al (by decide) fun v4 => (lc_al (by decide) fun v5 => (lc_ite (lc_fX67_comeBack_J47 x1 x2 v2 0) (lc_fX67_comeBack_J47 x1 x2 v2 (-4))))) (lc_fX67_comeBack_J47 x1 x2 v2 (-1))))))
theorem lc_fX67_service_J16 (x1 : Int) : zLoc zSt_ (fX67_service_J16 x1) :=
  (lc_al (by decide) fun v2 => (lc_al (by decide) fun v3 => (lc_al (by decide) fun v4 => (lc_cl (lc_fX67_fail 13 v2 v3 v4) fun _ => (lc_ret _)))))
theorem lc_fX67_service_J183 (x1 : Int) (x3 : Int) (x4 : Int) : zLoc zSt_ (fX67_service_J183 x1 x3 x4) :=
  (lc_as (by decide) (lc_as (by decide) (lc_ret _)))
theorem lc_fX67_service_J153 (x1 : Int) (x3 : Int) (s0 : Int) : zLoc zSt_ (fX67_service_J153 x1 x3 s0) :=
  (lc_ite (lc_fX67_service_J183 x1 x3 s0) (lc_ite (lc_fX67_service_J183 x1 x3 s0) (lc_gf (by decide) fun v10 => (lc_cl (lc_fX67_note x1 2 v10 (zi (1 - s0))) fun _ => (lc_fX67_service_J183 x1 x3 s0)))))
theorem lc_fX67_service_J138 (x1 : Int) (x2 : Int) (x3 : Int) : zLoc zSt_ (fX67_service_J138 x1 x2 x3) :=
  (lc_cl (lc_fX67_add x1 x2) fun v9 => (lc_fX67_service_J153 x1 x3 v9))
theorem lc_fX67_service_J99 (x1 : Int) (x2 : Int) (x3 : Int) : zLoc zSt_ (fX67_service_J99 x1 x2 x3) :=
  (lc_pf (by decide) (lc_cl (lc_fX67_isOfEntry x2) fun v8 => (lc_ite (lc_ite (lc_fX67_service_J138 x1 x2 x3) (lc_ite (lc_fX67_service_J138 x1 x2 x3) (lc_ite (lc_cl (lc_fX67_plain x1 x2) fun v12 => (lc_fX67_service_J153 x1 x3 v12)) (lc_fX67_service_J138 x1 x2 x3)))) (lc_cl (lc_fX67_onEntry x1 x2) fun v13 => (lc_fX67_service_J153 x1 x3 v13)))))
theorem lc_fX67_service (x1 : Int) (x2 : Int) : zLoc zSt_ (fX67_service x1 x2) :=
  (lc_al (by decide) fun v1 => (lc_ite (lc_fX67_service_J16 x1) (lc_ite (lc_al (by decide) fun v6 => (lc_lt fun v7 => (lc_ite (lc_ite (lc_fX67_service_J99 x1 x2 v7) (lc_al (by decide) fun v14 => (lc_ite (lc_fX67_service_J99 x1 x2 v7) (lc_as (by decide) (lc_cl (lc_fX67_tell x1 7 0 0 0) fun _ => (lc_ret _)))))) (lc_cl (lc_fX67_comeBack x1 v7) fun _ => (lc_ret _))))) (lc_fX67_service_J16 x1))))
theorem lc_fX67_turnTo_J42 (x1 : Int) (x2 : Int) : zLoc zSt_ (fX67_turnTo_J42 x1 x2) :=
  (lc_as (by decide) (lc_ret _))
theorem lc_fX67_turnTo_J27 (x1 : Int) (x2 : Int) (s1 : Int) (s2 : Int) : zLoc zSt_ (fX67_turnTo_J27 x1 x2 s1 s2) :=
  (lc_gf (by decide) fun v3 => (lc_gf (by decide) fun v4 => (lc_cl (lc_fX67_tell s1 s2 x2 v3 v4) fun _ => (lc_fX67_turnTo_J42 x1 x2))))
theorem lc_fX67_turnTo (x1 : Int) (x2 : Int) : zLoc zSt_ (fX67_turnTo x1 x2) :=
  (lc_al (by decide) fun v1 => (lc_ite (lc_fX67_turnTo_J42 x1 x2) (lc_al (by decide) fun v2 => (lc_ite (lc_fX67_turnTo_J27 x1 x2 x1 4) (lc_fX67_turnTo_J27 x1 x2 x1 3)))))
theorem lc_fX67_call_J41 (s1 : Int) : zLoc zSt_ (fX67_call_J41 s1) :=
  (lc_gf (by decide) fun v4 => (lc_gf (by decide) fun v5 => (lc_gf (by decide) fun v6 => (lc_cl (lc_fX67_fail s1 v4 v5 v6) fun _ => (lc_ret _)))))
theorem lc_fX67_call_J29 (x4 : Int) : zLoc zSt_ (fX67_call_J29 x4) :=
  (lc_ite (lc_fX67_call_J41 3) (lc_fX67_call_J41 x4))
theorem lc_fX67_call_J223 (x1 : Int) (x2 : Int) (x3 : Int) (x4 : Int) (x7 : Int) : zLoc zSt_ (fX67_call_J223 x1 x2 x3 x4 x7) :=
  (lc_ite (lc_as (by decide) (lc_as (by decide) (lc_al (by decide) fun v20 => (lc_as (by decide) (lc_as (by decide) (lc_as (by decide) (lc_as (by decide) (lc_cl (lc_fX67_turnTo x1 x7) fun _ => (lc_cl (lc_fX67_go x1) fun _ => (lc_ret _)))))))))) (lc_gf (by decide) fun v23 => (lc_gf (by decide) fun v24 => (lc_gf (by decide) fun v25 => (lc_cl (lc_fX67_fail x4 v23 v24 v25) fun _ => (lc_ret _))))))
theorem lc_fX67_call_J221 (x1 : Int) (x2 : Int) (x3 : Int) (x4 : Int) (s0 : Int) : zLoc zSt_ (fX67_call_J221 x1 x2 x3 x4 s0) :=
  (lc_fX67_call_J223 x1 x2 x3 x4 s0)
theorem lc_fX67_call_J187 (x1 : Int) (x2 : Int) (x3 : Int) (x5 : Int) (x7 : Int) (s0 : Int) : zLoc zSt_ (fX67_call_J187 x1 x2 x3 x5 x7 s0) :=
  (lc_al (by decide) fun v19 => (lc_ite (lc_fX67_call_J221 x1 x2 x3 s0 x7) (lc_al (by decide) fun v27 => (lc_fX67_call_J221 x1 x2 x3 s0 v27))))
theorem lc_fX67_call_J115 (x1 : Int) (x2 : Int) (x3 : Int) (x5 : Int) (x6 : Int) (x7 : Int) : zLoc zSt_ (fX67_call_J115 x1 x2 x3 x5 x6 x7) :=
  (lc_ite (lc_al (by decide) fun v15 => (lc_ite (lc_al (by decide) fun v16 => (lc_ite (lc_gf (by decide) fun v17 => (lc_al (by decide) fun v18 => (lc_ite (lc_fX67_call_J187 x1 x2 x3 x5 x7 0) (lc_fX67_call_J187 x1 x2 x3 x5 x7 6)))) (lc_fX67_call_J187 x1 x2 x3 x5 x7 5))) (lc_fX67_call_J187 x1 x2 x3 x5 x7 0))) (lc_fX67_call_J187 x1 x2 x3 x5 x7 7))
theorem lc_fX67_call (x1 : Int) (x2 : Int) (x3 : Int) : zLoc zSt_ (fX67_call x1 x2 x3) :=
  (lc_gf (by decide) fun v1 => (lc_gf (by decide) fun v2 => (lc_cl (lc_fX67_missing x1 v1 v2) fun v3 => (lc_ite (lc_fX67_call_J29 v3) (lc_gf (by decide) fun v8 => (lc_ite (lc_gf (by decide) fun v9 => (lc_al (by decide) fun v10 => (lc_gf (by decide) fun v11 => (lc_cl (lc_fX67_barred x1 v10 v11 2) fun v12 => (lc_al (by decide) fun v13 => (lc_gf (by decide) fun v14 => (lc_ite (lc_fX67_call_J115 x1 x2 x3 v10 v13 v14) (lc_ite (lc_fX67_call_J223 x1 x2 x3 v12 v14) (lc_fX67_call_J115 x1 x2 x3 v10 v13 v14))))))))) (lc_fX67_call_J29 v3)))))))
theorem lc_fX67_isObject (x1 : Int) : zLoc zSt_ (fX67_isObject x1) :=
  (lc_al (by decide) fun v1 => (lc_ite (lc_ret _) (lc_al (by decide) fun v2 => (lc_ite (lc_ret _) (lc_ret _)))))
theorem lc_fX67_searched_J91 {r5 : Int → zX} (hr5 : ∀ s, zLoc zSt_ (r5 s)) (x1 : Int) (x2 : Int) (x4 : Int) : zLoc zSt_ (fX67_searched_J91 r5 x1 x2 x4) :=
  (lc_lt fun v3 => (hr5 v3))
theorem lc_fX67_searched_B5 (x1 : Int) (x2 : Int) : ∀ r5 : Int → zX, (∀ s, zLoc zSt_ (r5 s)) → ∀ s, zLoc zSt_ (fX67_searched_B5 x1 x2 r5 s) := by
  intro r5 hr5 x4
  unfold fX67_searched_B5
  exact (lc_ite (lc_ret _) (lc_al (by decide) fun v2 => (lc_ite (lc_fX67_searched_J91 hr5 x1 x2 x4) (lc_cl (lc_fX67_askDirectory x1 v2 1) fun v4 => (lc_ite (lc_fX67_searched_J91 hr5 x1 x2 x4) (lc_cl (lc_fX67_entryNamed v2 x2) fun v5 => (lc_ite (lc_fX67_searched_J91 hr5 x1 x2 x4) (lc_al (by decide) fun v6 => (lc_ite (lc_fX67_searched_J91 hr5 x1 x2 x4) (lc_al (by decide) fun v7 => (lc_al (by decide) fun v8 => (lc_cl (lc_fX67_modesFor v5 v7 v8) fun v9 => (lc_ite (lc_fX67_searched_J91 hr5 x1 x2 x4) (lc_ret _))))))))))))))
theorem lc_fX67_searched (x1 : Int) (x2 : Int) : zLoc zSt_ (fX67_searched x1 x2) :=
  (lc_lt fun v1 => (lc_lp (lc_fX67_searched_B5 x1 x2) zBIG v1))
theorem lc_fX67_definitionPlace (x1 : Int) (x2 : Int) : zLoc zSt_ (fX67_definitionPlace x1 x2) :=
  (lc_al (by decide) fun v1 => (lc_lt fun v2 => (lc_ite (lc_ret _) (lc_al (by decide) fun v3 => (lc_ite (lc_ret _) (lc_ret _))))))
theorem lc_fX67_defined_J64 {r3 : Int → zX} (hr3 : ∀ s, zLoc zSt_ (r3 s)) (x1 : Int) (x2 : Int) (x4 : Int) : zLoc zSt_ (fX67_defined_J64 r3 x1 x2 x4) :=
  (lc_lt fun v2 => (hr3 v2))
theorem lc_fX67_defined_J43 (x1 : Int) (x5 : Int) : zLoc zSt_ (fX67_defined_J43 x1 x5) :=
  (lc_al (by decide) fun v4 => (lc_ret _))
theorem lc_fX67_defined_B3 (x1 : Int) (x2 : Int) : ∀ r3 : Int → zX, (∀ s, zLoc zSt_ (r3 s)) → ∀ s, zLoc zSt_ (fX67_defined_B3 x1 x2 r3 s) := by
  intro r3 hr3 x4
  unfold fX67_defined_B3
  exact (lc_ite (lc_ret _) (lc_cl (lc_fX67_definitionPlace x1 x4) fun v1 => (lc_ite (lc_fX67_defined_J64 hr3 x1 x2 x4) (lc_al (by decide) fun v3 => (lc_ite (lc_fX67_defined_J64 hr3 x1 x2 x4) (lc_fX67_defined_J43 x1 v1))))))
theorem lc_fX67_defined (x1 : Int) (x2 : Int) : zLoc zSt_ (fX67_defined x1 x2) :=
  (lc_lp (lc_fX67_defined_B3 x1 x2) zBIG 0)
theorem lc_fX67_linkPlace (x1 : Int) (x2 : Int) : zLoc zSt_ (fX67_linkPlace x1 x2) :=
  (lc_al (by decide) fun v1 => (lc_lt fun v2 => (lc_ite (lc_ret _) (lc_al (by decide) fun v3 => (lc_ite (lc_ret _) (lc_ret _))))))
theorem lc_fX67_bindNow_J144 (x1 : Int) (x2 : Int) (x3 : Int) (x7 : Int) (s0 : Int) : zLoc zSt_ (fX67_bindNow_J144 x1 x2 x3 x7 s0) :=
  (lc_ite (lc_as (by decide) (lc_cl (lc_fX67_tell x1 5 x2 x7 s0) fun _ => (lc_ret _))) (lc_ret _))
theorem lc_fX67_bindNow_J86 (x1 : Int) (x2 : Int) (x3 : Int) (x4 : Int) (x5 : Int) (x6 : Int) (s0 : Int) : zLoc zSt_ (fX67_bindNow_J86 x1 x2 x3 x4 x5 x6 s0) :=
  (lc_ite (lc_as (by decide) (lc_cl (lc_fX67_isObject x6) fun v7 => (lc_ite (lc_fX67_bindNow_J144 x1 x2 x3 s0 (-1)) (lc_al (by decide) fun v9 => (lc_cl (lc_fX67_defined x6 v9) fun v10 => (lc_fX67_bindNow_J144 x1 x2 x3 s0 v10)))))) (lc_ret _))
theorem lc_fX67_bindNow_J68 (x1 : Int) (x2 : Int) (x3 : Int) (x4 : Int) (x5 : Int) (s0 : Int) : zLoc zSt_ (fX67_bindNow_J68 x1 x2 x3 x4 x5 s0) :=
  (lc_ite (lc_cl (lc_fX67_numberFor x1 s0) fun v6 => (lc_fX67_bindNow_J86 x1 x2 x3 x4 x5 s0 v6)) (lc_fX67_bindNow_J86 x1 x2 x3 x4 x5 s0 (-1)))
theorem lc_fX67_bindNow_J38 (x1 : Int) (x2 : Int) (x3 : Int) (x4 : Int) (s0 : Int) : zLoc zSt_ (fX67_bindNow_J38 x1 x2 x3 x4 s0) :=
  (lc_ite (lc_al (by decide) fun v4 => (lc_cl (lc_fX67_searched x1 v4) fun v5 => (lc_fX67_bindNow_J68 x1 x2 x3 x4 s0 v5))) (lc_fX67_bindNow_J68 x1 x2 x3 x4 s0 (-1)))
theorem lc_fX67_bindNow (x1 : Int) (x2 : Int) (x3 : Int) : zLoc zSt_ (fX67_bindNow x1 x2 x3) :=
  (lc_al (by decide) fun v1 => (lc_al (by decide) fun v2 => (lc_cl (lc_fX67_isObject v2) fun v3 => (lc_ite (lc_fX67_bindNow_J38 x1 x2 x3 v2 (-1)) (lc_cl (lc_fX67_linkPlace v2 x2) fun v11 => (lc_fX67_bindNow_J38 x1 x2 x3 v2 v11))))))
theorem lc_fX67_bind_J45 (x1 : Int) : zLoc zSt_ (fX67_bind_J45 x1) :=
  (lc_al (by decide) fun v3 => (lc_al (by decide) fun v4 => (lc_al (by decide) fun v5 => (lc_cl (lc_fX67_fail 11 v3 v4 v5) fun _ => (lc_ret _)))))
theorem lc_fX67_bind_J71 (x3 : Int) : zLoc zSt_ (fX67_bind_J71 x3) :=
  (lc_al (by decide) fun v8 => (lc_pf (by decide) (lc_al (by decide) fun v9 => (lc_pf (by decide) (lc_ret _)))))
theorem lc_fX67_bind (x1 : Int) (x2 : Int) : zLoc zSt_ (fX67_bind x1 x2) :=
  (lc_al (by decide) fun v1 => (lc_lt fun v2 => (lc_ite (lc_fX67_bind_J45 x1) (lc_al (by decide) fun v7 => (lc_ite (lc_fX67_bind_J71 v2) (lc_cl (lc_fX67_bindNow x1 x2 v2) fun v10 => (lc_ite (lc_fX67_bind_J71 v2) (lc_fX67_bind_J45 x1))))))))
theorem lc_fX67_follow_J97 : zLoc zSt_ (fX67_follow_J97) :=
  (lc_gf (by decide) fun v8 => (lc_gf (by decide) fun v9 => (lc_gf (by decide) fun v10 => (lc_cl (lc_fX67_fail 9 v8 v9 v10) fun _ => (lc_ret _)))))
theorem lc_fX67_follow_J254 {r4 : Int × Int → zX} (hr4 : ∀ s, zLoc zSt_ (r4 s)) (x1 : Int) (x3 : Int) (s0 : Int) : zLoc zSt_ (fX67_follow_J254 r4 x1 x3 s0) :=
  (lc_lt fun v21 => (hr4 (s0, v21)))
theorem lc_fX67_follow_J209 {r4 : Int × Int → zX} (hr4 : ∀ s, zLoc zSt_ (r4 s)) (x1 : Int) (x3 : Int) (x4 : Int) (s1 : Int) : zLoc zSt_ (fX67_follow_J209 r4 x1 x3 x4 s1) :=
  (lc_pf (by decide) (lc_pf (by decide) (lc_pf (by decide) (lc_ite (lc_fX67_follow_J254 hr4 x1 x3 0) (lc_fX67_follow_J254 hr4 x1 x3 1)))))
theorem lc_fX67_follow_J187 {r4 : Int × Int → zX} (hr4 : ∀ s, zLoc zSt_ (r4 s)) (x1 : Int) (x3 : Int) (x4 : Int) (x6 : Int) (s1 : Int) : zLoc zSt_ (fX67_follow_J187 r4 x1 x3 x4 x6 s1) :=
  (lc_pf (by decide) (lc_gf (by decide) fun v19 => (lc_ite (lc_gf (by decide) fun v20 => (lc_fX67_follow_J209 hr4 x1 x3 x4 v20)) (lc_fX67_follow_J209 hr4 x1 x3 x4 x6))))
theorem lc_fX67_follow_J154 {r4 : Int × Int → zX} (hr4 : ∀ s, zLoc zSt_ (r4 s)) (x1 : Int) (x3 : Int) (x4 : Int) (s0 : Int) : zLoc zSt_ (fX67_follow_J154 r4 x1 x3 x4 s0) :=
  (lc_lt fun v16 => (lc_gf (by decide) fun v17 => (lc_ite (lc_gf (by decide) fun v18 => (lc_fX67_follow_J187 hr4 x1 x3 x4 s0 v18)) (lc_fX67_follow_J187 hr4 x1 x3 x4 s0 v16))))
theorem lc_fX67_follow_J13 : zLoc zSt_ (fX67_follow_J13) :=
  (lc_gf (by decide) fun v23 => (lc_gf (by decide) fun v24 => (lc_gf (by decide) fun v25 => (lc_cl (lc_fX67_fail 10 v23 v24 v25) fun _ => (lc_ret _)))))
theorem lc_fX67_follow_B4 (x1 : Int) : ∀ r4 : Int × Int → zX, (∀ s, zLoc zSt_ (r4 s)) → ∀ s, zLoc zSt_ (fX67_follow_B4 x1 r4 s) := by
  intro r4 hr4 s
  obtain ⟨x2, x3⟩ := s
  unfold fX67_follow_B4
  exact (lc_ite (lc_ret _) (lc_ite (lc_gf (by decide) fun v1 => (lc_gf (by decide) fun v2 => (lc_gf (by decide) fun v3 => (lc_cl (lc_fX67_access x1 v1 v2 v3 1) fun v4 => (lc_ite (lc_gf (by decide) fun v5 => (lc_gf (by decide) fun v6 => (lc_cl (lc_fX67_wordAt x1 v5 v6) fun v7 => (lc_ite lc_fX67_follow_J97 (lc_ite (lc_gf (by decide) fun v12 => (lc_ite (lc_gf (by decide) fun v13 => (lc_al (by decide) fun v14 => (lc_al (by decide) fun v15 => (lc_fX67_follow_J154 hr4 x1 x3 v7 v15)))) (lc_gf (by decide) fun v22 => (lc_fX67_follow_J154 hr4 x1 x3 v7 v22)))) lc_fX67_follow_J97))))) (lc_ret _)))))) lc_fX67_follow_J13))
theorem lc_fX67_follow (x1 : Int) : zLoc zSt_ (fX67_follow x1) :=
  (lc_lp (lc_fX67_follow_B4 x1) zBIG (1, 0))
theorem lc_fX67_find_2_J201 (x1 : Int) : zLoc zSt_ (fX67_find_2_J201 x1) :=
  (lc_gf (by decide) fun v9 => (lc_ite (lc_ret _) (lc_cl (lc_fX67_follow x1) fun v10 => (lc_ite (lc_ret _) (lc_ret _)))))
theorem lc_fX67_find_2_J190 (x1 : Int) (x2 : Int) : zLoc zSt_ (fX67_find_2_J190 x1 x2) :=
  (lc_cl (lc_fX67_bind x1 x2) fun v8 => (lc_ite (lc_fX67_find_2_J201 x1) (lc_ret _)))
theorem lc_fX67_find_2_J171 (x1 : Int) (s1 : Int) : zLoc zSt_ (fX67_find_2_J171 x1 s1) :=
  (lc_pf (by decide) (lc_fX67_find_2_J201 x1))
theorem lc_fX67_find_2_J59 (x1 : Int) (x2 : Int) (s0 : Int) : zLoc zSt_ (fX67_find_2_J59 x1 x2 s0) :=
  (lc_al (by decide) fun v5 => (lc_pf (by decide) (lc_pf (by decide) (lc_al (by decide) fun v6 => (lc_pf (by decide) (lc_gf (by decide) fun v7 => (lc_ite (lc_ite (lc_ite (lc_fX67_find_2_J190 x1 x2) (lc_gf (by decide) fun v11 => (lc_ite (lc_fX67_find_2_J201 x1) (lc_fX67_find_2_J190 x1 x2)))) (lc_gf (by decide) fun v12 => (lc_lt fun v13 => (lc_al (by decide) fun v14 => (lc_pf (by decide) (lc_al (by decide) fun v15 => (lc_pf (by decide) (lc_al (by decide) fun v16 => (lc_al (by decide) fun v17 => (lc_ite (lc_al (by decide) fun v18 => (lc_fX67_find_2_J171 x1 v18)) (lc_al (by decide) fun v19 => (lc_fX67_find_2_J171 x1 v19)))))))))))) (lc_ret _))))))))
theorem lc_fX67_find_2_J37 (x1 : Int) (s0 : Int) : zLoc zSt_ (fX67_find_2_J37 x1 s0) :=
  (lc_gf (by decide) fun v3 => (lc_ite (lc_gf (by decide) fun v4 => (lc_fX67_find_2_J59 x1 s0 v4)) (lc_gf (by decide) fun v20 => (lc_fX67_find_2_J59 x1 s0 (zi (v20 - 4))))))
theorem lc_fX67_find_2 (x1 : Int) : zLoc zSt_ (fX67_find_2 x1) :=
  (lc_gf (by decide) fun v1 => (lc_ite (lc_gf (by decide) fun v2 => (lc_fX67_find_2_J37 x1 v2)) (lc_gf (by decide) fun v21 => (lc_gf (by decide) fun v22 => (lc_al (by decide) fun v23 => (lc_fX67_find_2_J37 x1 (Int.tmod (zi (v21 + v23)) 262144)))))))
theorem lc_fX67_perform_J178 (x1 : Int) (x2 : Int) (x3 : Int) (x6 : Int) : zLoc zSt_ (fX67_perform_J178 x1 x2 x3 x6) :=
  (lc_lt fun v9 => (lc_gf (by decide) fun v10 => (lc_ite (lc_gf (by decide) fun v11 => (lc_ite (lc_gf (by decide) fun v12 => (lc_ite (lc_as (by decide) (lc_cl (lc_fX67_act x1 x6 x3) fun _ => (lc_ret _))) (lc_gf (by decide) fun v14 => (lc_cl (lc_fX67_service x1 v14) fun _ => (lc_ret _))))) (lc_gf (by decide) fun v16 => (lc_cl (lc_fX67_turnTo x1 v16) fun _ => (lc_cl (lc_fX67_go x1) fun _ => (lc_ret _)))))) (lc_cl (lc_fX67_call x1 x2 x3) fun _ => (lc_ret _)))))
theorem lc_fX67_perform_J162 (x1 : Int) (x2 : Int) (x3 : Int) (x6 : Int) (s0 : Int) : zLoc zSt_ (fX67_perform_J162 x1 x2 x3 x6 s0) :=
  (lc_ite (lc_fX67_perform_J178 x1 x2 x3 x6) (lc_cl (lc_fX67_find_2 x1) fun v20 => (lc_ite (lc_fX67_perform_J178 x1 x2 x3 x6) (lc_ret _))))
theorem lc_fX67_perform_J157 (x1 : Int) (x2 : Int) (x3 : Int) (x6 : Int) : zLoc zSt_ (fX67_perform_J157 x1 x2 x3 x6) :=
  (lc_fX67_perform_J162 x1 x2 x3 x6 1)
theorem lc_fX67_perform (x1 : Int) : zLoc zSt_ (fX67_perform x1) :=
  (lc_al (by decide) fun v1 => (lc_al (by decide) fun v2 => (lc_al (by decide) fun v3 => (lc_cl (lc_fX67_access x1 v1 v2 v3 2) fun v4 => (lc_ite (lc_cl (lc_fX67_wordAt x1 v1 v2) fun v5 => (lc_pf (by decide) (lc_pf (by decide) (lc_pf (by decide) (lc_lt fun v6 => (lc_pf (by decide) (lc_pf (by decide) (lc_cl (lc_fX67_isLegal v6) fun v7 => (lc_ite (lc_gf (by decide) fun v8 => (lc_ite (lc_fX67_perform_J157 x1 v1 v2 v6) (lc_gf (by decide) fun v21 => (lc_ite (lc_fX67_perform_J162 x1 v1 v2 v6 0) (lc_fX67_perform_J157 x1 v1 v2 v6))))) (lc_al (by decide) fun v22 => (lc_cl (lc_fX67_fail 8 v1 v2 v22) fun _ => (lc_ret _)))))))))))) (lc_ret _))))))
theorem lc_fX67_suffer_J129 (x1 : Int) : zLoc zSt_ (fX67_suffer_J129 x1) :=
  (lc_as (by decide) (lc_cl (lc_fX67_tell x1 9 0 0 0) fun _ => (lc_ret _)))
theorem lc_fX67_suffer_J305 (x1 : Int) (x2 : Int) : zLoc zSt_ (fX67_suffer_J305 x1 x2) :=
  (lc_al (by decide) fun v17 => (lc_as (by decide) (lc_al (by decide) fun v18 => (lc_as (by decide) (lc_al (by decide) fun v19 => (lc_as (by decide) (lc_al (by decide) fun v20 => (lc_as (by decide) (lc_al (by decide) fun v21 => (lc_as (by decide) (lc_gf (by decide) fun v22 => (lc_as (by decide) (lc_gf (by decide) fun v23 => (lc_gf (by decide) fun v24 => (lc_gf (by decide) fun v25 => (lc_cl (lc_fX67_pointerWord v23 v24 v25) fun v26 => (lc_as (by decide) (lc_al (by decide) fun v27 => (lc_as (by decide) (lc_al (by decide) fun v28 => (lc_as (by decide) (lc_al (by decide) fun v29 => (lc_as (by decide) (lc_ret _))))))))))))))))))))))))
theorem lc_fX67_suffer_B227 (x1 : Int) (x2 : Int) : ∀ r227 : Int → zX, (∀ s, zLoc zSt_ (r227 s)) → ∀ s, zLoc zSt_ (fX67_suffer_B227 x1 x2 r227 s) := by
  intro r227 hr227 x3
  unfold fX67_suffer_B227
  exact (lc_ite (lc_fX67_suffer_J305 x1 x2) (lc_al (by decide) fun v30 => (lc_as (by decide) (lc_al (by decide) fun v31 => (lc_as (by decide) (lc_al (by decide) fun v32 => (lc_as (by decide) (lc_lt fun v33 => (hr227 v33)))))))))
theorem lc_fX67_suffer_J225 (x1 : Int) (x2 : Int) : zLoc zSt_ (fX67_suffer_J225 x1 x2) :=
  (lc_lp (lc_fX67_suffer_B227 x1 x2) zBIG 0)
theorem lc_fX67_suffer_B194 (x1 : Int) (x2 : Int) : ∀ r194 : Int → zX, (∀ s, zLoc zSt_ (r194 s)) → ∀ s, zLoc zSt_ (fX67_suffer_B194 x1 x2 r194 s) := by
  intro r194 hr194 x3
  unfold fX67_suffer_B194
  exact (lc_ite (lc_fX67_suffer_J225 x1 x2) (lc_al (by decide) fun v34 => (lc_as (by decide) (lc_lt fun v35 => (hr194 v35)))))
theorem lc_fX67_suffer_J74 (x1 : Int) : zLoc zSt_ (fX67_suffer_J74 x1) :=
  (lc_gf (by decide) fun v3 => (lc_gf (by decide) fun v4 => (lc_gf (by decide) fun v5 => (lc_cl (lc_fX67_tell x1 2 v3 v4 v5) fun _ => (lc_al (by decide) fun v7 => (lc_ite (lc_fX67_suffer_J129 x1) (lc_al (by decide) fun v9 => (lc_al (by decide) fun v10 => (lc_ite (lc_fX67_suffer_J129 x1) (lc_al (by decide) fun v11 => (lc_ite (lc_al (by decide) fun v12 => (lc_lt fun v13 => (lc_al (by decide) fun v14 => (lc_as (by decide) (lc_al (by decide) fun v15 => (lc_as (by decide) (lc_al (by decide) fun v16 => (lc_as (by decide) (lc_lp (lc_fX67_suffer_B194 x1 v13) zBIG 0))))))))) (lc_fX67_suffer_J129 x1))))))))))))
theorem lc_fX67_suffer_J72 (x1 : Int) (s1 : Int) (s2 : Int) (s3 : Int) : zLoc zSt_ (fX67_suffer_J72 x1 s1 s2 s3) :=
  (lc_as (by decide) (lc_fX67_suffer_J74 x1))
theorem lc_fX67_suffer (x1 : Int) : zLoc zSt_ (fX67_suffer x1) :=
  (lc_gf (by decide) fun v1 => (lc_cl (lc_fX67_in v1 3 7) fun v2 => (lc_ite (lc_fX67_suffer_J74 x1) (lc_gf (by decide) fun v36 => (lc_ite (lc_fX67_suffer_J74 x1) (lc_gf (by decide) fun v37 => (lc_al (by decide) fun v38 => (lc_gf (by decide) fun v39 => (lc_cl (lc_fX67_note x1 1 v38 v39) fun _ => (lc_al (by decide) fun v41 => (lc_gf (by decide) fun v42 => (lc_ite (lc_fX67_suffer_J72 x1 v38 v41 0) (lc_fX67_suffer_J72 x1 v38 v41 1)))))))))))))
theorem lc_fX67_isTicked_J79 (x1 : Int) : zLoc zSt_ (fX67_isTicked_J79 x1) :=
  (lc_al (by decide) fun v5 => (lc_as (by decide) (lc_pf (by decide) (lc_cl (lc_fX67_perform x1) fun _ => (lc_gf (by decide) fun v7 => (lc_ite (lc_ret _) (lc_cl (lc_fX67_suffer x1) fun _ => (lc_ret _))))))))
theorem lc_fX67_isTicked_J44 (x1 : Int) : zLoc zSt_ (fX67_isTicked_J44 x1) :=
  (lc_al (by decide) fun v4 => (lc_ite (lc_fX67_isTicked_J79 x1) (lc_as (by decide) (lc_al (by decide) fun v9 => (lc_cl (lc_fX67_tell x1 8 v9 0 0) fun _ => (lc_fX67_isTicked_J79 x1))))))
theorem lc_fX67_isTicked (x1 : Int) : zLoc zSt_ (fX67_isTicked x1) :=
  (lc_ite (lc_ret _) (lc_al (by decide) fun v1 => (lc_ite (lc_ret _) (lc_al (by decide) fun v2 => (lc_ite (lc_ret _) (lc_al (by decide) fun v3 => (lc_ite (lc_fX67_isTicked_J44 x1) (lc_al (by decide) fun v11 => (lc_ite (lc_fX67_isTicked_J44 x1) (lc_ret _))))))))))
theorem lc_fX67_tick_J49 {r28 : Int × Int → zX} (hr28 : ∀ s, zLoc zSt_ (r28 s)) (x1 : Int) (x2 : Int) (x4 : Int) (s0 : Int) : zLoc zSt_ (fX67_tick_J49 r28 x1 x2 x4 s0) :=
  (lc_lt fun v4 => (hr28 (s0, v4)))
theorem lc_fX67_tick_B28 (x1 : Int) (x2 : Int) : ∀ r28 : Int × Int → zX, (∀ s, zLoc zSt_ (r28 s)) → ∀ s, zLoc zSt_ (fX67_tick_B28 x1 x2 r28 s) := by
  intro r28 hr28 s
  obtain ⟨x3, x4⟩ := s
  unfold fX67_tick_B28
  exact (lc_ite (lc_ret _) (lc_cl (lc_fX67_isTicked x1) fun v3 => (lc_ite (lc_fX67_tick_J49 hr28 x1 x2 x4 x3) (lc_fX67_tick_J49 hr28 x1 x2 x4 (zi (x3 + 1))))))
theorem lc_fX67_tick (x1 : Int) (x2 : Int) : zLoc zSt_ (fX67_tick x1 x2) :=
  (lc_cl (lc_fX67_isThere x1) fun v1 => (lc_ite (lc_ret _) (lc_cl (lc_fX67_in x2 1 1000) fun v2 => (lc_ite (lc_lp (lc_fX67_tick_B28 x1 x2) zBIG (0, 0)) (lc_ret _)))))
theorem lc_fX67_schedule (x1 : Int) (x2 : Int) : zLoc zSt_ (fX67_schedule x1 x2) :=
  (lc_cl (lc_fX67_in x1 0 15) fun v1 => (lc_ite (lc_ret _) (lc_cl (lc_fX67_in x2 (-1) 7) fun v2 => (lc_ite (lc_al (by decide) fun v3 => (lc_as (by decide) (lc_ret _))) (lc_ret _)))))
theorem lc_fX67_run_J64 {r19 : Int × Int → zX} (hr19 : ∀ s, zLoc zSt_ (r19 s)) (x1 : Int) (x3 : Int) (s0 : Int) : zLoc zSt_ (fX67_run_J64 r19 x1 x3 s0) :=
  (lc_lt fun v6 => (hr19 (s0, v6)))
theorem lc_fX67_run_B19 (x1 : Int) : ∀ r19 : Int × Int → zX, (∀ s, zLoc zSt_ (r19 s)) → ∀ s, zLoc zSt_ (fX67_run_B19 x1 r19 s) := by
  intro r19 hr19 s
  obtain ⟨x2, x3⟩ := s
  unfold fX67_run_B19
  exact (lc_ite (lc_ret _) (lc_gf (by decide) fun v2 => (lc_al (by decide) fun v3 => (lc_gf (by decide) fun v4 => (lc_pf (by decide) (lc_cl (lc_fX67_isTicked v3) fun v5 => (lc_ite (lc_fX67_run_J64 hr19 x1 x3 x2) (lc_fX67_run_J64 hr19 x1 x3 (zi (x2 + 1))))))))))
theorem lc_fX67_run (x1 : Int) : zLoc zSt_ (fX67_run x1) :=
  (lc_cl (lc_fX67_in x1 1 2000) fun v1 => (lc_ite (lc_lp (lc_fX67_run_B19 x1) zBIG (0, 0)) (lc_ret _)))
theorem lc_fX67_register (x1 : Int) (x2 : Int) : zLoc zSt_ (fX67_register x1 x2) :=
  (lc_cl (lc_fX67_isThere x1) fun v1 => (lc_ite (lc_cl (lc_fX67_in x2 16 23) fun v2 => (lc_ite (lc_cl (lc_fX67_in x2 2 5) fun v3 => (lc_ite (lc_ite (lc_al (by decide) fun v5 => (lc_ret _)) (lc_ite (lc_al (by decide) fun v7 => (lc_ret _)) (lc_ite (lc_al (by decide) fun v9 => (lc_ret _)) (lc_ite (lc_al (by decide) fun v11 => (lc_ret _)) (lc_ite (lc_al (by decide) fun v13 => (lc_ret _)) (lc_ite (lc_al (by decide) fun v15 => (lc_ite (lc_ret _) (lc_ret _))) (lc_ite (lc_al (by decide) fun v17 => (lc_ite (lc_ret _) (lc_ret _))) (lc_ret _)))))))) (lc_al (by decide) fun v18 => (lc_ret _)))) (lc_lt fun v19 => (lc_al (by decide) fun v20 => (lc_al (by decide) fun v21 => (lc_al (by decide) fun v22 => (lc_cl (lc_fX67_pointerWord v20 v21 v22) fun v23 => (lc_ret _)))))))) (lc_ret _)))
theorem lc_fX67_process (x1 : Int) (x2 : Int) : zLoc zSt_ (fX67_process x1 x2) :=
  (lc_cl (lc_fX67_isThere x1) fun v1 => (lc_ite (lc_cl (lc_fX67_in x2 8 11) fun v2 => (lc_ite (lc_ite (lc_al (by decide) fun v4 => (lc_ret _)) (lc_ite (lc_al (by decide) fun v6 => (lc_ret _)) (lc_ite (lc_al (by decide) fun v8 => (lc_ret _)) (lc_ite (lc_al (by decide) fun v10 => (lc_ret _)) (lc_ite (lc_al (by decide) fun v12 => (lc_ret _)) (lc_ite (lc_al (by decide) fun v14 => (lc_ret _)) (lc_ite (lc_al (by decide) fun v16 => (lc_ret _)) (lc_ite (lc_al (by decide) fun v18 => (lc_ret _)) (lc_ite (lc_al (by decide) fun v20 => (lc_ite (lc_ret _) (lc_ret _))) (lc_ite (lc_al (by decide) fun v22 => (lc_ret _)) (lc_ret _))))))))))) (lc_al (by decide) fun v23 => (lc_ret _)))) (lc_ret _)))
theorem lc_fX67_stack (x1 : Int) (x2 : Int) (x3 : Int) : zLoc zSt_ (fX67_stack x1 x2 x3) :=
  (lc_cl (lc_fX67_isThere x1) fun v1 => (lc_ite (lc_ret _) (lc_cl (lc_fX67_in x2 0 7) fun v2 => (lc_ite (lc_ret _) (lc_cl (lc_fX67_in x3 0 63) fun v3 => (lc_ite (lc_ret _) (lc_al (by decide) fun v4 => (lc_ret _))))))))
theorem lc_fX67_known (x1 : Int) (x2 : Int) : zLoc zSt_ (fX67_known x1 x2) :=
  (lc_cl (lc_fX67_isThere x1) fun v1 => (lc_ite (lc_ret _) (lc_cl (lc_fX67_in x2 8 31) fun v2 => (lc_ite (lc_ret _) (lc_al (by decide) fun v3 => (lc_ret _))))))
theorem lc_fX67_link (x1 : Int) (x2 : Int) (x3 : Int) : zLoc zSt_ (fX67_link x1 x2 x3) :=
  (lc_cl (lc_fX67_isThere x1) fun v1 => (lc_ite (lc_ret _) (lc_cl (lc_fX67_in x2 8 31) fun v2 => (lc_ite (lc_ret _) (lc_cl (lc_fX67_in x3 0 15) fun v3 => (lc_ite (lc_ret _) (lc_al (by decide) fun v4 => (lc_ret _))))))))
theorem lc_fX67_event (x1 : Int) (x2 : Int) (x3 : Int) : zLoc zSt_ (fX67_event x1 x2 x3) :=
  (lc_cl (lc_fX67_isThere x1) fun v1 => (lc_ite (lc_ret _) (lc_ite (lc_ret _) (lc_al (by decide) fun v2 => (lc_ite (lc_ret _) (lc_al (by decide) fun v3 => (lc_ite (lc_cl (lc_fX67_in x3 0 3) fun v4 => (lc_ite (lc_ret _) (lc_al (by decide) fun v5 => (lc_ret _)))) (lc_ret _))))))))
theorem lc_fX67_sum (x1 : Int) : zLoc zSt_ (fX67_sum x1) :=
  (lc_cl (lc_fX67_isThere x1) fun v1 => (lc_ite (lc_ret _) (lc_al (by decide) fun v2 => (lc_ret _))))
theorem lc_fX67_lineEnd_B2 : ∀ r2 : Int → zX, (∀ s, zLoc zSt_ (r2 s)) → ∀ s, zLoc zSt_ (fX67_lineEnd_B2 r2 s) := by
  intro r2 hr2 x2
  unfold fX67_lineEnd_B2
  exact (lc_gf (by decide) fun v1 => (lc_ite (lc_ret _) (lc_al (by decide) fun v2 => (lc_ite (lc_ret _) (lc_al (by decide) fun v3 => (lc_ite (lc_ret _) (lc_lt fun v4 => (hr2 v4))))))))
theorem lc_fX67_lineEnd (x1 : Int) : zLoc zSt_ (fX67_lineEnd x1) :=
  (lc_lp lc_fX67_lineEnd_B2 zBIG x1)
theorem lc_fX67_isLetter (x0 : Int) : zLoc zSt_ (fX67_isLetter x0) :=
  (lc_cl (lc_fX67_in x0 97 122) fun v1 => (lc_rb _))
theorem lc_fX67_isDigit (x0 : Int) : zLoc zSt_ (fX67_isDigit x0) :=
  (lc_cl (lc_fX67_in x0 48 57) fun v1 => (lc_rb _))
theorem lc_fX67_isOfWord (x0 : Int) : zLoc zSt_ (fX67_isOfWord x0) :=
  (lc_cl (lc_fX67_isLetter x0) fun v1 => (lc_ite (lc_ret _) (lc_cl (lc_fX67_isDigit x0) fun v2 => (lc_ite (lc_ret _) (lc_ite (lc_ret _) (lc_ite (lc_ret _) (lc_ret _)))))))
theorem lc_fX67_next_J219 (s1 : Int) : zLoc zSt_ (fX67_next_J219 s1) :=
  (lc_pf (by decide) (lc_gf (by decide) fun v10 => (lc_pf (by decide) (lc_ret _))))
theorem lc_fX67_next_J208 (s0 : Int) : zLoc zSt_ (fX67_next_J208 s0) :=
  (lc_ite (lc_fX67_next_J219 3) (lc_fX67_next_J219 2))
theorem lc_fX67_next_J203 : zLoc zSt_ (fX67_next_J203) :=
  (lc_fX67_next_J208 1)
theorem lc_fX67_next_B109 : ∀ r109 : Int → zX, (∀ s, zLoc zSt_ (r109 s)) → ∀ s, zLoc zSt_ (fX67_next_B109 r109 s) := by
  intro r109 hr109 _
  unfold fX67_next_B109
  exact (lc_gf (by decide) fun v11 => (lc_gf (by decide) fun v12 => (lc_ite (lc_ret _) (lc_gf (by decide) fun v13 => (lc_al (by decide) fun v14 => (lc_cl (lc_fX67_isOfWord v14) fun v15 => (lc_ite (lc_ret _) (lc_gf (by decide) fun v16 => (lc_pf (by decide) (hr109 0))))))))))
theorem lc_fX67_next_J46 : zLoc zSt_ (fX67_next_J46) :=
  (lc_gf (by decide) fun v4 => (lc_pf (by decide) (lc_gf (by decide) fun v5 => (lc_gf (by decide) fun v6 => (lc_ite (lc_gf (by decide) fun v7 => (lc_al (by decide) fun v8 => (lc_cl (lc_fX67_isOfWord v8) fun v9 => (lc_ite (lc_ite lc_fX67_next_J203 (lc_ite lc_fX67_next_J203 (lc_ite lc_fX67_next_J203 (lc_ite lc_fX67_next_J203 (lc_ite lc_fX67_next_J203 (lc_ite lc_fX67_next_J203 (lc_ite lc_fX67_next_J203 (lc_ite lc_fX67_next_J203 (lc_ite (lc_fX67_next_J208 0) lc_fX67_next_J203))))))))) (lc_pf (by decide) (lc_lp lc_fX67_next_B109 zBIG 0)))))) (lc_pf (by decide) (lc_gf (by decide) fun v17 => (lc_pf (by decide) (lc_gf (by decide) fun v18 => (lc_pf (by decide) (lc_ret _)))))))))))
theorem lc_fX67_next_B8 : ∀ r8 : Int → zX, (∀ s, zLoc zSt_ (r8 s)) → ∀ s, zLoc zSt_ (fX67_next_B8 r8 s) := by
  intro r8 hr8 _
  unfold fX67_next_B8
  exact (lc_gf (by decide) fun v2 => (lc_gf (by decide) fun v3 => (lc_ite lc_fX67_next_J46 (lc_gf (by decide) fun v19 => (lc_al (by decide) fun v20 => (lc_ite lc_fX67_next_J46 (lc_gf (by decide) fun v21 => (lc_pf (by decide) (hr8 0)))))))))
theorem lc_fX67_next : zLoc zSt_ (fX67_next) :=
  (lc_gf (by decide) fun v1 => (lc_pf (by decide) (lc_lp lc_fX67_next_B8 zBIG 0)))
theorem lc_fX67_wrong (x1 : Int) (x2 : Int) : zLoc zSt_ (fX67_wrong x1 x2) :=
  (lc_gf (by decide) fun v1 => (lc_ite (lc_ret _) (lc_pf (by decide) (lc_pf (by decide) (lc_ret _)))))
theorem lc_fX67_isShort : zLoc zSt_ (fX67_isShort) :=
  (lc_gf (by decide) fun v1 => (lc_gf (by decide) fun v2 => (lc_ite (lc_ret _) (lc_ret _))))
theorem lc_fX67_takesN (x0 : Int) : zLoc zSt_ (fX67_takesN x0) :=
  (lc_ite (lc_ret _) (lc_ite (lc_ret _) (lc_ite (lc_ret _) (lc_ite (lc_ret _) (lc_ite (lc_ret _) (lc_ite (lc_ret _) (lc_ite (lc_ret _) (lc_ret _))))))))
theorem lc_fX67_mostN (x0 : Int) : zLoc zSt_ (fX67_mostN x0) :=
  (lc_ite (lc_ret _) (lc_ite (lc_ret _) (lc_ret _)))
theorem lc_fX67_signOf (x0 : Int) : zLoc zSt_ (fX67_signOf x0) :=
  (lc_cl (lc_fX67_isLetter x0) fun v1 => (lc_ite (lc_cl (lc_fX67_isDigit x0) fun v2 => (lc_ite (lc_ite (lc_ret _) (lc_ret _)) (lc_ret _))) (lc_ret _)))
theorem lc_fX67_nameOfToken_J46 {r4 : Int × Int → zX} (hr4 : ∀ s, zLoc zSt_ (r4 s)) (x3 : Int) (s0 : Int) (s1 : Int) : zLoc zSt_ (fX67_nameOfToken_J46 r4 x3 s0 s1) :=
  (lc_lt fun v3 => (lc_lt fun v4 => (hr4 (v3, v4))))
theorem lc_fX67_nameOfToken_B4 : ∀ r4 : Int × Int → zX, (∀ s, zLoc zSt_ (r4 s)) → ∀ s, zLoc zSt_ (fX67_nameOfToken_B4 r4 s) := by
  intro r4 hr4 s
  obtain ⟨x1, x3⟩ := s
  unfold fX67_nameOfToken_B4
  exact (lc_ite (lc_ret _) (lc_gf (by decide) fun v1 => (lc_gf (by decide) fun v2 => (lc_ite (lc_fX67_nameOfToken_J46 hr4 x3 (zl (x1 * 64)) 0) (lc_gf (by decide) fun v5 => (lc_al (by decide) fun v6 => (lc_cl (lc_fX67_signOf v6) fun v7 => (lc_fX67_nameOfToken_J46 hr4 x3 (zl (x1 * 64)) v7))))))))
theorem lc_fX67_nameOfToken : zLoc zSt_ (fX67_nameOfToken) :=
  (lc_lp lc_fX67_nameOfToken_B4 zBIG (0, 0))
theorem lc_fX67_isOperation_J135 (s1 : Int) : zLoc zSt_ (fX67_isOperation_J135 s1) :=
  (lc_pf (by decide) (lc_ret _))
theorem lc_fX67_isOperation_J114 (x5 : Int) (x6 : Int) : zLoc zSt_ (fX67_isOperation_J114 x5 x6) :=
  (lc_pf (by decide) (lc_cl (lc_fX67_takesN x6) fun v7 => (lc_ite (lc_fX67_isOperation_J135 0) (lc_fX67_isOperation_J135 x5))))
theorem lc_fX67_isOperation_J107 {r39 : Int → zX} (hr39 : ∀ s, zLoc zSt_ (r39 s)) (x1 : Int) (x3 : Int) (x5 : Int) (x6 : Int) (s0 : Int) : zLoc zSt_ (fX67_isOperation_J107 r39 x1 x3 x5 x6 s0) :=
  (lc_ite (lc_lt fun v6 => (hr39 v6)) (lc_fX67_isOperation_J114 x5 x6))
theorem lc_fX67_isOperation_J86 {r39 : Int → zX} (hr39 : ∀ s, zLoc zSt_ (r39 s)) (x1 : Int) (x3 : Int) (x5 : Int) (x6 : Int) : zLoc zSt_ (fX67_isOperation_J86 r39 x1 x3 x5 x6) :=
  (lc_fX67_isOperation_J107 hr39 x1 x3 x5 x6 0)
theorem lc_fX67_isOperation_B39 (x1 : Int) (x3 : Int) (x5 : Int) : ∀ r39 : Int → zX, (∀ s, zLoc zSt_ (r39 s)) → ∀ s, zLoc zSt_ (fX67_isOperation_B39 x1 x3 x5 r39 s) := by
  intro r39 hr39 x6
  unfold fX67_isOperation_B39
  exact (lc_ite (lc_ret _) (lc_cl (lc_fX67_takesN x6) fun v4 => (lc_ite (lc_ct fun v5 => (lc_ite (lc_fX67_isOperation_J107 hr39 x1 x3 x5 x6 0) (lc_fX67_isOperation_J107 hr39 x1 x3 x5 x6 1))) (lc_ct fun v8 => (lc_ite (lc_fX67_isOperation_J86 hr39 x1 x3 x5 x6) (lc_cl (lc_fX67_mostN x6) fun v9 => (lc_cl (lc_fX67_in x5 0 v9) fun v10 => (lc_ite (lc_fX67_isOperation_J86 hr39 x1 x3 x5 x6) (lc_fX67_isOperation_J107 hr39 x1 x3 x5 x6 1)))))))))
theorem lc_fX67_isOperation_J15 (s0 : Int) : zLoc zSt_ (fX67_isOperation_J15 s0) :=
  (lc_lt fun v2 => (lc_lt fun v3 => (lc_lp (lc_fX67_isOperation_B39 s0 v2 v3) zBIG 0)))
theorem lc_fX67_isOperation : zLoc zSt_ (fX67_isOperation) :=
  (lc_cl lc_fX67_isShort fun v1 => (lc_ite (lc_fX67_isOperation_J15 0) (lc_cl lc_fX67_nameOfToken fun v11 => (lc_fX67_isOperation_J15 v11))))
theorem lc_fX67_labelWord_J51 : zLoc zSt_ (fX67_labelWord_J51) :=
  (lc_gf (by decide) fun v7 => (lc_ite (lc_cl lc_fX67_nameOfToken fun v8 => (lc_cl lc_fX67_next fun _ => (lc_ret _))) (lc_ret _)))
theorem lc_fX67_labelWord_J42 : zLoc zSt_ (fX67_labelWord_J42) :=
  (lc_gf (by decide) fun v5 => (lc_cl (lc_fX67_wrong 2 v5) fun _ => lc_fX67_labelWord_J51))
theorem lc_fX67_labelWord : zLoc zSt_ (fX67_labelWord) :=
  (lc_gf (by decide) fun v1 => (lc_ite (lc_gf (by decide) fun v2 => (lc_al (by decide) fun v3 => (lc_cl (lc_fX67_isLetter v3) fun v4 => (lc_ite lc_fX67_labelWord_J42 (lc_cl lc_fX67_isShort fun v10 => (lc_ite lc_fX67_labelWord_J51 lc_fX67_labelWord_J42)))))) (lc_gf (by decide) fun v11 => (lc_cl (lc_fX67_wrong 1 v11) fun _ => lc_fX67_labelWord_J51))))
theorem lc_fX67_late (x1 : Int) (x2 : Int) : zLoc zSt_ (fX67_late x1 x2) :=
  (lc_gf (by decide) fun v1 => (lc_ite (lc_ret _) (lc_pf (by decide) (lc_pf (by decide) (lc_ret _)))))
theorem lc_fX67_labelNamed_J27 (x3 : Int) : zLoc zSt_ (fX67_labelNamed_J27 x3) :=
  (lc_gf (by decide) fun v2 => (lc_ite (lc_ret _) (lc_ret _)))
theorem lc_fX67_labelNamed_B2 (x1 : Int) : ∀ r2 : Int → zX, (∀ s, zLoc zSt_ (r2 s)) → ∀ s, zLoc zSt_ (fX67_labelNamed_B2 x1 r2 s) := by
  intro r2 hr2 x3
  unfold fX67_labelNamed_B2
  exact (lc_gf (by decide) fun v1 => (lc_ite (lc_fX67_labelNamed_J27 x3) (lc_al (by decide) fun v3 => (lc_ite (lc_fX67_labelNamed_J27 x3) (lc_lt fun v4 => (hr2 v4))))))
theorem lc_fX67_labelNamed (x1 : Int) : zLoc zSt_ (fX67_labelNamed x1) :=
  (lc_lp (lc_fX67_labelNamed_B2 x1) zBIG 0)
theorem lc_fX67_labelAt_J36 (x4 : Int) : zLoc zSt_ (fX67_labelAt_J36 x4) :=
  (lc_ite (lc_al (by decide) fun v3 => (lc_ret _)) (lc_ret _))
theorem lc_fX67_labelAt_J16 (x3 : Int) (s0 : Int) : zLoc zSt_ (fX67_labelAt_J16 x3 s0) :=
  (lc_gf (by decide) fun v2 => (lc_ite (lc_fX67_labelAt_J36 s0) (lc_ite (lc_fX67_labelAt_J36 s0) (lc_cl (lc_fX67_late 5 x3) fun _ => (lc_fX67_labelAt_J36 s0)))))
theorem lc_fX67_labelAt (x1 : Int) (x3 : Int) : zLoc zSt_ (fX67_labelAt x1 x3) :=
  (lc_gf (by decide) fun v1 => (lc_ite (lc_fX67_labelAt_J16 x3 (-1)) (lc_cl (lc_fX67_labelNamed x1) fun v5 => (lc_fX67_labelAt_J16 x3 v5))))
theorem lc_fX67_definitionOfText : zLoc zSt_ (fX67_definitionOfText) :=
  (lc_gf (by decide) fun v1 => (lc_cl lc_fX67_labelWord fun v2 => (lc_gf (by decide) fun v3 => (lc_ite (lc_gf (by decide) fun v4 => (lc_ite (lc_gf (by decide) fun v5 => (lc_as (by decide) (lc_gf (by decide) fun v6 => (lc_cl (lc_fX67_labelAt v2 v1) fun v7 => (lc_as (by decide) (lc_gf (by decide) fun v8 => (lc_pf (by decide) (lc_ret _)))))))) (lc_cl (lc_fX67_wrong 6 v1) fun _ => (lc_ret _)))) (lc_ret _)))))
theorem lc_fX67_isNumber_J48 {r19 : Int × Int → zX} (hr19 : ∀ s, zLoc zSt_ (r19 s)) (x2 : Int) (s0 : Int) : zLoc zSt_ (fX67_isNumber_J48 r19 x2 s0) :=
  (lc_lt fun v4 => (hr19 (s0, v4)))
theorem lc_fX67_isNumber_J47 {r19 : Int × Int → zX} (hr19 : ∀ s, zLoc zSt_ (r19 s)) (x2 : Int) : zLoc zSt_ (fX67_isNumber_J47 r19 x2) :=
  (lc_fX67_isNumber_J48 hr19 x2 0)
theorem lc_fX67_isNumber_B19 : ∀ r19 : Int × Int → zX, (∀ s, zLoc zSt_ (r19 s)) → ∀ s, zLoc zSt_ (fX67_isNumber_B19 r19 s) := by
  intro r19 hr19 s
  obtain ⟨x1, x2⟩ := s
  unfold fX67_isNumber_B19
  exact (lc_gf (by decide) fun v3 => (lc_ite (lc_rb _) (lc_ite (lc_fX67_isNumber_J47 hr19 x2) (lc_al (by decide) fun v5 => (lc_cl (lc_fX67_isDigit v5) fun v6 => (lc_ite (lc_fX67_isNumber_J47 hr19 x2) (lc_fX67_isNumber_J48 hr19 x2 1)))))))
theorem lc_fX67_isNumber_J13 (s0 : Int) : zLoc zSt_ (fX67_isNumber_J13 s0) :=
  (lc_gf (by decide) fun v2 => (lc_lp lc_fX67_isNumber_B19 zBIG (s0, v2)))
theorem lc_fX67_isNumber : zLoc zSt_ (fX67_isNumber) :=
  (lc_gf (by decide) fun v1 => (lc_ite (lc_fX67_isNumber_J13 0) (lc_fX67_isNumber_J13 1)))
theorem lc_fX67_numeral_J64 (x1 : Int) : zLoc zSt_ (fX67_numeral_J64 x1) :=
  (lc_cl lc_fX67_next fun _ => (lc_ret _))
theorem lc_fX67_numeral_B32 : ∀ r32 : Int × Int → zX, (∀ s, zLoc zSt_ (r32 s)) → ∀ s, zLoc zSt_ (fX67_numeral_B32 r32 s) := by
  intro r32 hr32 s
  obtain ⟨x1, x3⟩ := s
  unfold fX67_numeral_B32
  exact (lc_gf (by decide) fun v4 => (lc_ite (lc_fX67_numeral_J64 x1) (lc_al (by decide) fun v6 => (lc_lt fun v7 => (lc_lt fun v8 => (hr32 (v7, v8)))))))
theorem lc_fX67_numeral : zLoc zSt_ (fX67_numeral) :=
  (lc_gf (by decide) fun v1 => (lc_gf (by decide) fun v2 => (lc_ite (lc_gf (by decide) fun v3 => (lc_lp lc_fX67_numeral_B32 zBIG (0, v3))) (lc_gf (by decide) fun v9 => (lc_cl (lc_fX67_wrong 3 v9) fun _ => (lc_ret _))))))
theorem lc_fX67_bounded_J20 : zLoc zSt_ (fX67_bounded_J20) :=
  (lc_gf (by decide) fun v3 => (lc_cl (lc_fX67_wrong 1 v3) fun _ => (lc_ret _)))
theorem lc_fX67_bounded (x1 : Int) : zLoc zSt_ (fX67_bounded x1) :=
  (lc_gf (by decide) fun v1 => (lc_gf (by decide) fun v2 => (lc_ite lc_fX67_bounded_J20 (lc_cl lc_fX67_isNumber fun v5 => (lc_ite (lc_cl lc_fX67_numeral fun v6 => (lc_gf (by decide) fun v7 => (lc_ite (lc_ret _) (lc_ite (lc_ret _) (lc_cl (lc_fX67_wrong 3 v1) fun _ => (lc_ret _)))))) lc_fX67_bounded_J20)))))
theorem lc_fX67_emit_J27 : zLoc zSt_ (fX67_emit_J27) :=
  (lc_gf (by decide) fun v2 => (lc_pf (by decide) (lc_ret _)))
theorem lc_fX67_emit (x1 : Int) : zLoc zSt_ (fX67_emit x1) :=
  (lc_gf (by decide) fun v1 => (lc_ite lc_fX67_emit_J27 (lc_gf (by decide) fun v3 => (lc_ite lc_fX67_emit_J27 (lc_gf (by decide) fun v4 => (lc_as (by decide) lc_fX67_emit_J27))))))
theorem lc_fX67_isSign (x1 : Int) : zLoc zSt_ (fX67_isSign x1) :=
  (lc_gf (by decide) fun v1 => (lc_ite (lc_ret _) (lc_gf (by decide) fun v2 => (lc_al (by decide) fun v3 => (lc_ite (lc_ret _) (lc_ret _))))))
theorem lc_fX67_passes (x1 : Int) : zLoc zSt_ (fX67_passes x1) :=
  (lc_cl (lc_fX67_isSign x1) fun v1 => (lc_ite (lc_rb _) (lc_cl lc_fX67_next fun _ => (lc_rb _))))
theorem lc_fX67_comma : zLoc zSt_ (fX67_comma) :=
  (lc_gf (by decide) fun v1 => (lc_ite (lc_ret _) (lc_cl (lc_fX67_passes 44) fun v2 => (lc_ite (lc_ret _) (lc_gf (by decide) fun v3 => (lc_cl (lc_fX67_wrong 1 v3) fun _ => (lc_ret _)))))))
theorem lc_fX67_term_J20 : zLoc zSt_ (fX67_term_J20) :=
  (lc_gf (by decide) fun v2 => (lc_cl lc_fX67_labelWord fun v3 => (lc_gf (by decide) fun v4 => (lc_ite (lc_cl (lc_fX67_labelAt v3 v2) fun v5 => (lc_ret _)) (lc_ret _)))))
theorem lc_fX67_term : zLoc zSt_ (fX67_term) :=
  (lc_gf (by decide) fun v1 => (lc_ite lc_fX67_term_J20 (lc_cl lc_fX67_isNumber fun v6 => (lc_ite lc_fX67_term_J20 (lc_cl lc_fX67_numeral fun v7 => (lc_ret _))))))
theorem lc_fX67_expression_J107 (x1 : Int) (x3 : Int) (x5 : Int) (x6 : Int) (x8 : Int) : zLoc zSt_ (fX67_expression_J107 x1 x3 x5 x6 x8) :=
  (lc_gf (by decide) fun v6 => (lc_ite (lc_ret _) (lc_gf (by decide) fun v7 => (lc_ite (lc_ret _) (lc_cl (lc_fX67_in x8 x1 x3) fun v8 => (lc_ite (lc_ret _) (lc_cl (lc_fX67_late 3 x5) fun _ => (lc_ret _))))))))
theorem lc_fX67_expression_J102 {r41 : Int → zX} (hr41 : ∀ s, zLoc zSt_ (r41 s)) (x1 : Int) (x3 : Int) (x5 : Int) (x6 : Int) (s0 : Int) : zLoc zSt_ (fX67_expression_J102 r41 x1 x3 x5 x6 s0) :=
  (hr41 s0)
theorem lc_fX67_expression_J66 {r41 : Int → zX} (hr41 : ∀ s, zLoc zSt_ (r41 s)) (x1 : Int) (x3 : Int) (x5 : Int) (x6 : Int) (x8 : Int) : zLoc zSt_ (fX67_expression_J66 r41 x1 x3 x5 x6 x8) :=
  (lc_cl (lc_fX67_isSign 45) fun v11 => (lc_cl lc_fX67_next fun _ => (lc_cl lc_fX67_term fun v13 => (lc_ite (lc_fX67_expression_J102 hr41 x1 x3 x5 x6 (zl (x8 + v13))) (lc_fX67_expression_J102 hr41 x1 x3 x5 x6 (zl (x8 - v13)))))))
theorem lc_fX67_expression_B41 (x1 : Int) (x3 : Int) (x5 : Int) (x6 : Int) : ∀ r41 : Int → zX, (∀ s, zLoc zSt_ (r41 s)) → ∀ s, zLoc zSt_ (fX67_expression_B41 x1 x3 x5 x6 r41 s) := by
  intro r41 hr41 x8
  unfold fX67_expression_B41
  exact (lc_gf (by decide) fun v5 => (lc_ite (lc_fX67_expression_J107 x1 x3 x5 x6 x8) (lc_cl (lc_fX67_isSign 43) fun v10 => (lc_ite (lc_fX67_expression_J66 hr41 x1 x3 x5 x6 x8) (lc_cl (lc_fX67_isSign 45) fun v14 => (lc_ite (lc_fX67_expression_J107 x1 x3 x5 x6 x8) (lc_fX67_expression_J66 hr41 x1 x3 x5 x6 x8)))))))
theorem lc_fX67_expression_J39 (x1 : Int) (x3 : Int) (x5 : Int) (x6 : Int) (s0 : Int) : zLoc zSt_ (fX67_expression_J39 x1 x3 x5 x6 s0) :=
  (lc_lp (lc_fX67_expression_B41 x1 x3 x5 x6) zBIG s0)
theorem lc_fX67_expression (x1 : Int) (x3 : Int) : zLoc zSt_ (fX67_expression x1 x3) :=
  (lc_gf (by decide) fun v1 => (lc_gf (by decide) fun v2 => (lc_cl (lc_fX67_passes 45) fun v3 => (lc_cl lc_fX67_term fun v4 => (lc_ite (lc_fX67_expression_J39 x1 x3 v1 v2 v4) (lc_fX67_expression_J39 x1 x3 v1 v2 (zl (- v4))))))))
theorem lc_fX67_half : zLoc zSt_ (fX67_half) :=
  (lc_cl (lc_fX67_expression (-131072) 262143) fun v1 => (lc_ret _))
theorem lc_fX67_pointerOfText_J96 (x1 : Int) (x5 : Int) (s1 : Int) (s2 : Int) : zLoc zSt_ (fX67_pointerOfText_J96 x1 x5 s1 s2) :=
  (lc_cl (lc_fX67_emit (zoR (zoR (zoR s1 s2) (zl (x1 * 16777216))) x5)) fun _ => (lc_ret _))
theorem lc_fX67_pointerOfText_J73 (x1 : Int) (x3 : Int) (x5 : Int) (s0 : Int) : zLoc zSt_ (fX67_pointerOfText_J73 x1 x3 x5 s0) :=
  (lc_ite (lc_fX67_pointerOfText_J96 x1 x5 (zoR 42949672960 (zl (x3 * 1073741824))) 0) (lc_fX67_pointerOfText_J96 x1 x5 (zoR 42949672960 (zl (x3 * 1073741824))) 536870912))
theorem lc_fX67_pointerOfText_J72 (x1 : Int) (x3 : Int) (x5 : Int) : zLoc zSt_ (fX67_pointerOfText_J72 x1 x3 x5) :=
  (lc_fX67_pointerOfText_J73 x1 x3 x5 0)
theorem lc_fX67_pointerOfText_J50 (x1 : Int) (x3 : Int) (s0 : Int) : zLoc zSt_ (fX67_pointerOfText_J50 x1 x3 s0) :=
  (lc_gf (by decide) fun v6 => (lc_ite (lc_fX67_pointerOfText_J72 x1 x3 s0) (lc_cl (lc_fX67_passes 42) fun v8 => (lc_ite (lc_fX67_pointerOfText_J72 x1 x3 s0) (lc_fX67_pointerOfText_J73 x1 x3 s0 1)))))
theorem lc_fX67_pointerOfText_J30 (x1 : Int) (s0 : Int) : zLoc zSt_ (fX67_pointerOfText_J30 x1 s0) :=
  (lc_cl lc_fX67_comma fun _ => (lc_gf (by decide) fun v5 => (lc_ite (lc_fX67_pointerOfText_J50 x1 s0 0) (lc_cl lc_fX67_half fun v9 => (lc_fX67_pointerOfText_J50 x1 s0 v9)))))
theorem lc_fX67_pointerOfText : zLoc zSt_ (fX67_pointerOfText) :=
  (lc_cl (lc_fX67_bounded 31) fun v1 => (lc_cl lc_fX67_comma fun _ => (lc_gf (by decide) fun v3 => (lc_ite (lc_fX67_pointerOfText_J30 v1 0) (lc_cl (lc_fX67_bounded 7) fun v10 => (lc_fX67_pointerOfText_J30 v1 v10))))))
theorem lc_fX67_wordsOfText_J115 {r2 : Int → zX} (hr2 : ∀ s, zLoc zSt_ (r2 s)) (s0 : Int) : zLoc zSt_ (fX67_wordsOfText_J115 r2 s0) :=
  (hr2 s0)
theorem lc_fX67_wordsOfText_J114 {r2 : Int → zX} (hr2 : ∀ s, zLoc zSt_ (r2 s)) : zLoc zSt_ (fX67_wordsOfText_J114 r2) :=
  (lc_fX67_wordsOfText_J115 hr2 0)
theorem lc_fX67_wordsOfText_J94 {r2 : Int → zX} (hr2 : ∀ s, zLoc zSt_ (r2 s)) : zLoc zSt_ (fX67_wordsOfText_J94 r2) :=
  (lc_gf (by decide) fun v5 => (lc_ite (lc_fX67_wordsOfText_J114 hr2) (lc_cl (lc_fX67_passes 44) fun v6 => (lc_ite (lc_fX67_wordsOfText_J114 hr2) (lc_fX67_wordsOfText_J115 hr2 1)))))
theorem lc_fX67_wordsOfText_B2 : ∀ r2 : Int → zX, (∀ s, zLoc zSt_ (r2 s)) → ∀ s, zLoc zSt_ (fX67_wordsOfText_B2 r2 s) := by
  intro r2 hr2 x1
  unfold fX67_wordsOfText_B2
  exact (lc_ite (lc_ret _) (lc_gf (by decide) fun v1 => (lc_ite (lc_ret _) (lc_cl (lc_fX67_passes 39) fun v2 => (lc_ite (lc_cl (lc_fX67_expression (-34359738368) 68719476735) fun v3 => (lc_cl (lc_fX67_emit (v3 % 68719476736)) fun _ => (lc_fX67_wordsOfText_J94 hr2))) (lc_gf (by decide) fun v7 => (lc_ite (lc_cl lc_fX67_isShort fun v8 => (lc_ite (lc_cl lc_fX67_nameOfToken fun v9 => (lc_cl (lc_fX67_emit v9) fun _ => (lc_cl lc_fX67_next fun _ => (lc_fX67_wordsOfText_J94 hr2)))) (lc_gf (by decide) fun v12 => (lc_cl (lc_fX67_wrong 2 v12) fun _ => (lc_fX67_wordsOfText_J94 hr2))))) (lc_gf (by decide) fun v14 => (lc_cl (lc_fX67_wrong 1 v14) fun _ => (lc_fX67_wordsOfText_J94 hr2))))))))))
theorem lc_fX67_wordsOfText : zLoc zSt_ (fX67_wordsOfText) :=
  (lc_lp lc_fX67_wordsOfText_B2 zBIG 1)
theorem lc_fX67_isP : zLoc zSt_ (fX67_isP) :=
  (lc_gf (by decide) fun v1 => (lc_ite (lc_ret _) (lc_gf (by decide) fun v2 => (lc_gf (by decide) fun v3 => (lc_ite (lc_ret _) (lc_gf (by decide) fun v4 => (lc_al (by decide) fun v5 => (lc_ite (lc_ret _) (lc_gf (by decide) fun v6 => (lc_al (by decide) fun v7 => (lc_cl (lc_fX67_in v7 48 55) fun v8 => (lc_ite (lc_ret _) (lc_ret _)))))))))))))
theorem lc_fX67_linkOf_J42 (x1 : Int) (x3 : Int) (x5 : Int) (x6 : Int) : zLoc zSt_ (fX67_linkOf_J42 x1 x3 x5 x6) :=
  (lc_ite (lc_gf (by decide) fun v2 => (lc_ite (lc_ret _) (lc_as (by decide) (lc_as (by decide) (lc_gf (by decide) fun v3 => (lc_pf (by decide) (lc_ret _))))))) (lc_cl (lc_fX67_wrong 6 x5) fun _ => (lc_ret _)))
theorem lc_fX67_linkOf_J36 {r3 : Int → zX} (hr3 : ∀ s, zLoc zSt_ (r3 s)) (x1 : Int) (x3 : Int) (x5 : Int) (x6 : Int) : zLoc zSt_ (fX67_linkOf_J36 r3 x1 x3 x5 x6) :=
  (lc_lt fun v6 => (hr3 v6))
theorem lc_fX67_linkOf_B3 (x1 : Int) (x3 : Int) (x5 : Int) : ∀ r3 : Int → zX, (∀ s, zLoc zSt_ (r3 s)) → ∀ s, zLoc zSt_ (fX67_linkOf_B3 x1 x3 x5 r3 s) := by
  intro r3 hr3 x6
  unfold fX67_linkOf_B3
  exact (lc_gf (by decide) fun v1 => (lc_ite (lc_fX67_linkOf_J42 x1 x3 x5 x6) (lc_al (by decide) fun v5 => (lc_ite (lc_fX67_linkOf_J36 hr3 x1 x3 x5 x6) (lc_al (by decide) fun v7 => (lc_ite (lc_fX67_linkOf_J42 x1 x3 x5 x6) (lc_fX67_linkOf_J36 hr3 x1 x3 x5 x6)))))))
theorem lc_fX67_linkOf (x1 : Int) (x3 : Int) (x5 : Int) : zLoc zSt_ (fX67_linkOf x1 x3 x5) :=
  (lc_lp (lc_fX67_linkOf_B3 x1 x3 x5) zBIG 0)
theorem lc_fX67_behindWord_J30 (x1 : Int) : zLoc zSt_ (fX67_behindWord_J30 x1) :=
  (lc_gf (by decide) fun v3 => (lc_ite (lc_ret _) (lc_al (by decide) fun v4 => (lc_cl (lc_fX67_isOfWord v4) fun v5 => (lc_ite (lc_ret _) (lc_al (by decide) fun v6 => (lc_ret _)))))))
theorem lc_fX67_behindWord_B5 : ∀ r5 : Int → zX, (∀ s, zLoc zSt_ (r5 s)) → ∀ s, zLoc zSt_ (fX67_behindWord_B5 r5 s) := by
  intro r5 hr5 x1
  unfold fX67_behindWord_B5
  exact (lc_gf (by decide) fun v2 => (lc_ite (lc_fX67_behindWord_J30 x1) (lc_al (by decide) fun v7 => (lc_ite (lc_fX67_behindWord_J30 x1) (lc_lt fun v8 => (hr5 v8))))))
theorem lc_fX67_behindWord : zLoc zSt_ (fX67_behindWord) :=
  (lc_gf (by decide) fun v1 => (lc_lp lc_fX67_behindWord_B5 zBIG v1))
theorem lc_fX67_operand_J347 (x1 : Int) (x3 : Int) (x5 : Int) (x8 : Int) : zLoc zSt_ (fX67_operand_J347 x1 x3 x5 x8) :=
  (lc_gf (by decide) fun v7 => (lc_gf (by decide) fun v8 => (lc_cl (lc_fX67_emit (zoR (zoR (zoR (zoR (zoR (zl (v7 * 1073741824)) (zl (x1 * 134217728))) (zl (x3 * 16777216))) (zl (v8 * 2097152))) (zl (x8 * 262144))) x5)) fun _ => (lc_ret _))))
theorem lc_fX67_operand_J307 (x1 : Int) (x3 : Int) (x5 : Int) (s0 : Int) : zLoc zSt_ (fX67_operand_J307 x1 x3 x5 s0) :=
  (lc_ite (lc_gf (by decide) fun v12 => (lc_al (by decide) fun v13 => (lc_lt fun v14 => (lc_cl lc_fX67_next fun _ => (lc_fX67_operand_J347 x1 x3 x5 v14))))) (lc_gf (by decide) fun v16 => (lc_cl (lc_fX67_wrong 1 v16) fun _ => (lc_ret _))))
theorem lc_fX67_operand_J306 (x1 : Int) (x3 : Int) (x5 : Int) : zLoc zSt_ (fX67_operand_J306 x1 x3 x5) :=
  (lc_fX67_operand_J307 x1 x3 x5 0)
theorem lc_fX67_operand_J224 (x1 : Int) (x3 : Int) (x5 : Int) : zLoc zSt_ (fX67_operand_J224 x1 x3 x5) :=
  (lc_gf (by decide) fun v6 => (lc_ite (lc_fX67_operand_J347 x1 x3 x5 0) (lc_cl (lc_fX67_passes 44) fun v10 => (lc_ite (lc_fX67_operand_J347 x1 x3 x5 0) (lc_gf (by decide) fun v11 => (lc_ite (lc_fX67_operand_J306 x1 x3 x5) (lc_gf (by decide) fun v18 => (lc_gf (by decide) fun v19 => (lc_ite (lc_fX67_operand_J306 x1 x3 x5) (lc_gf (by decide) fun v20 => (lc_al (by decide) fun v21 => (lc_ite (lc_fX67_operand_J306 x1 x3 x5) (lc_gf (by decide) fun v22 => (lc_al (by decide) fun v23 => (lc_cl (lc_fX67_in v23 48 51) fun v24 => (lc_ite (lc_fX67_operand_J306 x1 x3 x5) (lc_fX67_operand_J307 x1 x3 x5 1)))))))))))))))))
theorem lc_fX67_operand_J223 (x3 : Int) (x5 : Int) (s0 : Int) : zLoc zSt_ (fX67_operand_J223 x3 x5 s0) :=
  (lc_fX67_operand_J224 s0 x3 x5)
theorem lc_fX67_operand_J180 (x1 : Int) (x3 : Int) (x5 : Int) : zLoc zSt_ (fX67_operand_J180 x1 x3 x5) :=
  (lc_gf (by decide) fun v5 => (lc_ite (lc_fX67_operand_J224 x1 x3 x5) (lc_ite (lc_fX67_operand_J224 x1 x3 x5) (lc_cl (lc_fX67_passes 42) fun v25 => (lc_ite (lc_fX67_operand_J224 x1 x3 x5) (lc_ite (lc_fX67_operand_J223 x3 x5 (zl (x1 + 4))) (lc_fX67_operand_J223 x3 x5 6)))))))
theorem lc_fX67_operand_J169 (x1 : Int) (x3 : Int) (s0 : Int) : zLoc zSt_ (fX67_operand_J169 x1 x3 s0) :=
  (lc_fX67_operand_J180 x1 x3 s0)
theorem lc_fX67_operand_J145 (x1 : Int) (x3 : Int) (x8 : Int) (x9 : Int) (s0 : Int) : zLoc zSt_ (fX67_operand_J145 x1 x3 x8 x9 s0) :=
  (lc_gf (by decide) fun v30 => (lc_ite (lc_fX67_operand_J169 x1 x3 0) (lc_cl (lc_fX67_linkOf x9 s0 x8) fun v31 => (lc_fX67_operand_J169 x1 x3 v31))))
theorem lc_fX67_operand_J130 (x1 : Int) (x3 : Int) (x8 : Int) (x9 : Int) : zLoc zSt_ (fX67_operand_J130 x1 x3 x8 x9) :=
  (lc_gf (by decide) fun v29 => (lc_ite (lc_fX67_operand_J145 x1 x3 x8 x9 0) (lc_cl lc_fX67_labelWord fun v32 => (lc_fX67_operand_J145 x1 x3 x8 x9 v32))))
theorem lc_fX67_operand_J96 (x1 : Int) (x3 : Int) (x7 : Int) : zLoc zSt_ (fX67_operand_J96 x1 x3 x7) :=
  (lc_ite (lc_cl lc_fX67_half fun v4 => (lc_fX67_operand_J180 x1 x3 v4)) (lc_gf (by decide) fun v26 => (lc_cl lc_fX67_labelWord fun v27 => (lc_gf (by decide) fun v28 => (lc_ite (lc_fX67_operand_J130 3 x3 v26 v27) (lc_cl lc_fX67_next fun _ => (lc_fX67_operand_J130 3 x3 v26 v27)))))))
theorem lc_fX67_operand_J23 (x1 : Int) (x3 : Int) (s0 : Int) : zLoc zSt_ (fX67_operand_J23 x1 x3 s0) :=
  (lc_cl (lc_fX67_passes 35) fun v2 => (lc_ite (lc_cl lc_fX67_isP fun v3 => (lc_ite (lc_fX67_operand_J96 x1 x3 s0) (lc_ite (lc_fX67_operand_J96 x1 x3 s0) (lc_gf (by decide) fun v34 => (lc_al (by decide) fun v35 => (lc_lt fun v36 => (lc_cl lc_fX67_next fun _ => (lc_cl lc_fX67_next fun _ => (lc_cl lc_fX67_half fun v39 => (lc_fX67_operand_J180 1 v36 v39)))))))))) (lc_cl lc_fX67_half fun v40 => (lc_fX67_operand_J180 2 x3 v40))))
theorem lc_fX67_operand : zLoc zSt_ (fX67_operand) :=
  (lc_gf (by decide) fun v1 => (lc_ite (lc_fX67_operand_J23 0 0 0) (lc_cl lc_fX67_behindWord fun v41 => (lc_fX67_operand_J23 0 0 v41))))
theorem lc_fX67_statement_B154 (x3 : Int) : ∀ r154 : Int → zX, (∀ s, zLoc zSt_ (r154 s)) → ∀ s, zLoc zSt_ (fX67_statement_B154 x3 r154 s) := by
  intro r154 hr154 x5
  unfold fX67_statement_B154
  exact (lc_ite (lc_ret _) (lc_gf (by decide) fun v14 => (lc_ite (lc_ret _) (lc_cl (lc_fX67_emit 0) fun _ => (lc_lt fun v16 => (hr154 v16))))))
theorem lc_fX67_statement_J62 : zLoc zSt_ (fX67_statement_J62) :=
  (lc_gf (by decide) fun v23 => (lc_cl (lc_fX67_emit (zl (v23 * 1073741824))) fun _ => (lc_ret _)))
theorem lc_fX67_statement_J33 (s0 : Int) : zLoc zSt_ (fX67_statement_J33 s0) :=
  (lc_cl lc_fX67_isOperation fun v3 => (lc_ite (lc_ct fun v4 => (lc_ite (lc_ct fun v5 => (lc_ite (lc_ct fun v6 => (lc_ite (lc_ct fun v7 => (lc_ite (lc_gf (by decide) fun v8 => (lc_cl (lc_fX67_wrong 2 v8) fun _ => (lc_ret _))) (lc_cl lc_fX67_next fun _ => (lc_cl lc_fX67_definitionOfText fun _ => (lc_ret _))))) (lc_cl lc_fX67_next fun _ => (lc_cl (lc_fX67_bounded 1023) fun v13 => (lc_lp (lc_fX67_statement_B154 v13) zBIG 0))))) (lc_cl lc_fX67_next fun _ => (lc_cl lc_fX67_pointerOfText fun _ => (lc_ret _))))) (lc_cl lc_fX67_next fun _ => (lc_cl lc_fX67_wordsOfText fun _ => (lc_ret _))))) (lc_cl lc_fX67_next fun _ => (lc_gf (by decide) fun v22 => (lc_ite lc_fX67_statement_J62 (lc_gf (by decide) fun v25 => (lc_ite (lc_cl lc_fX67_operand fun _ => (lc_ret _)) lc_fX67_statement_J62)))))))
theorem lc_fX67_statement : zLoc zSt_ (fX67_statement) :=
  (lc_gf (by decide) fun v1 => (lc_ite (lc_cl lc_fX67_isShort fun v2 => (lc_ite (lc_fX67_statement_J33 0) (lc_cl lc_fX67_nameOfToken fun v27 => (lc_fX67_statement_J33 v27)))) (lc_gf (by decide) fun v28 => (lc_cl (lc_fX67_wrong 1 v28) fun _ => (lc_ret _)))))
theorem lc_fX67_lineOfText_J140 : zLoc zSt_ (fX67_lineOfText_J140) :=
  (lc_gf (by decide) fun v4 => (lc_ite (lc_ret _) (lc_gf (by decide) fun v5 => (lc_ite (lc_ret _) (lc_gf (by decide) fun v6 => (lc_cl (lc_fX67_wrong 1 v6) fun _ => (lc_ret _)))))))
theorem lc_fX67_lineOfText_J129 : zLoc zSt_ (fX67_lineOfText_J129) :=
  (lc_gf (by decide) fun v3 => (lc_ite lc_fX67_lineOfText_J140 (lc_cl lc_fX67_statement fun _ => lc_fX67_lineOfText_J140)))
theorem lc_fX67_lineOfText_J89 (x2 : Int) : zLoc zSt_ (fX67_lineOfText_J89 x2) :=
  (lc_gf (by decide) fun v16 => (lc_ite lc_fX67_lineOfText_J129 (lc_gf (by decide) fun v17 => (lc_as (by decide) (lc_gf (by decide) fun v18 => (lc_gf (by decide) fun v19 => (lc_as (by decide) (lc_gf (by decide) fun v20 => (lc_pf (by decide) lc_fX67_lineOfText_J129)))))))))
theorem lc_fX67_lineOfText_J65 (x1 : Int) (x2 : Int) : zLoc zSt_ (fX67_lineOfText_J65 x1 x2) :=
  (lc_gf (by decide) fun v15 => (lc_ite (lc_fX67_lineOfText_J89 x2) (lc_gf (by decide) fun v21 => (lc_ite (lc_fX67_lineOfText_J89 x2) (lc_cl (lc_fX67_wrong 6 x1) fun _ => (lc_ret _))))))
theorem lc_fX67_lineOfText : zLoc zSt_ (fX67_lineOfText) :=
  (lc_cl lc_fX67_next fun _ => (lc_gf (by decide) fun v2 => (lc_ite lc_fX67_lineOfText_J129 (lc_cl lc_fX67_behindWord fun v9 => (lc_ite lc_fX67_lineOfText_J129 (lc_gf (by decide) fun v10 => (lc_cl lc_fX67_labelWord fun v11 => (lc_gf (by decide) fun v12 => (lc_ite (lc_cl lc_fX67_next fun _ => (lc_gf (by decide) fun v14 => (lc_ite (lc_fX67_lineOfText_J65 v10 v11) (lc_cl (lc_fX67_labelNamed v11) fun v23 => (lc_ite (lc_fX67_lineOfText_J65 v10 v11) (lc_cl (lc_fX67_wrong 4 v10) fun _ => (lc_ret _))))))) (lc_ret _))))))))))
theorem lc_fX67_readText_J80 {r17 : Int → zX} (hr17 : ∀ s, zLoc zSt_ (r17 s)) (x2 : Int) : zLoc zSt_ (fX67_readText_J80 r17 x2) :=
  (lc_lt fun v8 => (hr17 v8))
theorem lc_fX67_readText_B55 {r17 : Int → zX} (hr17 : ∀ s, zLoc zSt_ (r17 s)) : ∀ r55 : Int → zX, (∀ s, zLoc zSt_ (r55 s)) → ∀ s, zLoc zSt_ (fX67_readText_B55 r17 r55 s) := by
  intro r55 hr55 x2
  unfold fX67_readText_B55
  exact (lc_gf (by decide) fun v7 => (lc_ite (lc_fX67_readText_J80 hr17 x2) (lc_al (by decide) fun v9 => (lc_ite (lc_fX67_readText_J80 hr17 x2) (lc_lt fun v10 => (hr55 v10))))))
theorem lc_fX67_readText_B17 : ∀ r17 : Int → zX, (∀ s, zLoc zSt_ (r17 s)) → ∀ s, zLoc zSt_ (fX67_readText_B17 r17 s) := by
  intro r17 hr17 x2
  unfold fX67_readText_B17
  exact (lc_gf (by decide) fun v2 => (lc_ite (lc_ret _) (lc_gf (by decide) fun v3 => (lc_ite (lc_ret _) (lc_cl (lc_fX67_lineEnd x2) fun v4 => (lc_pf (by decide) (lc_pf (by decide) (lc_cl lc_fX67_lineOfText fun _ => (lc_gf (by decide) fun v6 => (lc_lp (lc_fX67_readText_B55 hr17) zBIG v6))))))))))
theorem lc_fX67_readText (x1 : Int) : zLoc zSt_ (fX67_readText x1) :=
  (lc_pb (by decide) (lc_pf (by decide) (lc_pf (by decide) (lc_lp lc_fX67_readText_B17 zBIG 0))))
theorem lc_fX67_assemble_J357 {r316 : Int → zX} (hr316 : ∀ s, zLoc zSt_ (r316 s)) (x1 : Int) (x4 : Int) (x5 : Int) (s1 : Int) (s2 : Int) : zLoc zSt_ (fX67_assemble_J357 r316 x1 x4 x5 s1 s2) :=
  (lc_as (by decide) (lc_lt fun v18 => (hr316 v18)))
theorem lc_fX67_assemble_B316 (x1 : Int) (x4 : Int) : ∀ r316 : Int → zX, (∀ s, zLoc zSt_ (r316 s)) → ∀ s, zLoc zSt_ (fX67_assemble_B316 x1 x4 r316 s) := by
  intro r316 hr316 x5
  unfold fX67_assemble_B316
  exact (lc_al (by decide) fun v17 => (lc_ite (lc_ret _) (lc_ite (lc_fX67_assemble_J357 hr316 x1 x4 x5 (zi ((zi (1024 * x1)) + x5)) 0) (lc_al (by decide) fun v19 => (lc_fX67_assemble_J357 hr316 x1 x4 x5 (zi ((zi (1024 * x1)) + x5)) v19)))))
theorem lc_fX67_assemble_J313 (x1 : Int) (x4 : Int) : zLoc zSt_ (fX67_assemble_J313 x1 x4) :=
  (lc_lp (lc_fX67_assemble_B316 x1 x4) zBIG 0)
theorem lc_fX67_assemble_B259 (x1 : Int) (x3 : Int) (x4 : Int) : ∀ r259 : Int → zX, (∀ s, zLoc zSt_ (r259 s)) → ∀ s, zLoc zSt_ (fX67_assemble_B259 x1 x3 x4 r259 s) := by
  intro r259 hr259 x5
  unfold fX67_assemble_B259
  exact (lc_gf (by decide) fun v16 => (lc_ite (lc_fX67_assemble_J313 x1 x4) (lc_al (by decide) fun v20 => (lc_as (by decide) (lc_al (by decide) fun v21 => (lc_as (by decide) (lc_lt fun v22 => (hr259 v22))))))))
theorem lc_fX67_assemble_J256 (x1 : Int) (x3 : Int) (x4 : Int) : zLoc zSt_ (fX67_assemble_J256 x1 x3 x4) :=
  (lc_lp (lc_fX67_assemble_B259 x1 x3 x4) zBIG 0)
theorem lc_fX67_assemble_B203 (x1 : Int) (x2 : Int) (x3 : Int) (x4 : Int) : ∀ r203 : Int → zX, (∀ s, zLoc zSt_ (r203 s)) → ∀ s, zLoc zSt_ (fX67_assemble_B203 x1 x2 x3 x4 r203 s) := by
  intro r203 hr203 x5
  unfold fX67_assemble_B203
  exact (lc_gf (by decide) fun v15 => (lc_ite (lc_fX67_assemble_J256 x1 x3 x4) (lc_al (by decide) fun v23 => (lc_as (by decide) (lc_al (by decide) fun v24 => (lc_as (by decide) (lc_lt fun v25 => (hr203 v25))))))))
theorem lc_fX67_assemble_J144 (x1 : Int) (x2 : Int) (x3 : Int) (x4 : Int) (s1 : Int) : zLoc zSt_ (fX67_assemble_J144 x1 x2 x3 x4 s1) :=
  (lc_pf (by decide) (lc_gf (by decide) fun v12 => (lc_ite (lc_gf (by decide) fun v13 => (lc_as (by decide) (lc_gf (by decide) fun v14 => (lc_as (by decide) (lc_lp (lc_fX67_assemble_B203 x1 x2 x3 x4) zBIG 0))))) (lc_gf (by decide) fun v26 => (lc_ret _)))))
theorem lc_fX67_assemble_J123 (x1 : Int) (x2 : Int) (x3 : Int) (x4 : Int) : zLoc zSt_ (fX67_assemble_J123 x1 x2 x3 x4) :=
  (lc_pf (by decide) (lc_gf (by decide) fun v11 => (lc_ite (lc_fX67_assemble_J144 x1 x2 x3 x4 (-1)) (lc_gf (by decide) fun v27 => (lc_fX67_assemble_J144 x1 x2 x3 x4 v27)))))
theorem lc_fX67_assemble_J68 (x1 : Int) : zLoc zSt_ (fX67_assemble_J68 x1) :=
  (lc_gf (by decide) fun v4 => (lc_gf (by decide) fun v5 => (lc_gf (by decide) fun v6 => (lc_lt fun v7 => (lc_gf (by decide) fun v8 => (lc_lt fun v9 => (lc_gf (by decide) fun v10 => (lc_ite (lc_fX67_assemble_J123 x1 v4 v7 v9) (lc_al (by decide) fun v28 => (lc_ite (lc_fX67_assemble_J123 x1 v4 v7 v9) (lc_gf (by decide) fun v29 => (lc_cl (lc_fX67_wrong 6 v29) fun _ => (lc_fX67_assemble_J123 x1 v4 v7 v9)))))))))))))
theorem lc_fX67_assemble (x1 : Int) : zLoc zSt_ (fX67_assemble x1) :=
  (lc_cl (lc_fX67_isOf x1 2) fun v1 => (lc_ite (lc_pf (by decide) (lc_pf (by decide) (lc_pf (by decide) (lc_pf (by decide) (lc_cl (lc_fX67_readText 0) fun _ => (lc_gf (by decide) fun v3 => (lc_ite (lc_fX67_assemble_J68 x1) (lc_cl (lc_fX67_readText 1) fun _ => (lc_gf (by decide) fun v32 => (lc_ite (lc_fX67_assemble_J68 x1) (lc_gf (by decide) fun v33 => (lc_gf (by decide) fun v34 => (lc_cl (lc_fX67_wrong v33 v34) fun _ => (lc_fX67_assemble_J68 x1)))))))))))))) (lc_ret _)))
theorem lc_fX67_type_J76 : zLoc zSt_ (fX67_type_J76) :=
  (lc_gf (by decide) fun v3 => (lc_ret _))
theorem lc_fX67_type_B33 (x1 : Int) (x3 : Int) : ∀ r33 : Int → zX, (∀ s, zLoc zSt_ (r33 s)) → ∀ s, zLoc zSt_ (fX67_type_B33 x1 x3 r33 s) := by
  intro r33 hr33 x4
  unfold fX67_type_B33
  exact (lc_ite lc_fX67_type_J76 (lc_gf (by decide) fun v4 => (lc_as (by decide) (lc_gf (by decide) fun v5 => (lc_pf (by decide) (lc_lt fun v6 => (hr33 v6)))))))
theorem lc_fX67_type (x1 : Int) (x3 : Int) : zLoc zSt_ (fX67_type x1 x3) :=
  (lc_cl (lc_fX67_in x3 1 8) fun v1 => (lc_ite (lc_gf (by decide) fun v2 => (lc_ite (lc_lp (lc_fX67_type_B33 x1 x3) zBIG 0) (lc_ret _))) (lc_ret _)))
theorem lc_fX67_place_2 : zLoc zSt_ (fX67_place_2) :=
  (lc_gf (by decide) fun v1 => (lc_ret _))
theorem lc_fX67_isListable_J121 (x0 : Int) (x5 : Int) : zLoc zSt_ (fX67_isListable_J121 x0 x5) :=
  (lc_ite (lc_ret _) (lc_ite (lc_ret _) (lc_ret _)))
theorem lc_fX67_isListable_J87 (x0 : Int) (x3 : Int) (x4 : Int) (s0 : Int) (s1 : Int) (s2 : Int) : zLoc zSt_ (fX67_isListable_J87 x0 x3 x4 s0 s1 s2) :=
  (lc_cl (lc_fX67_in s0 s1 s2) fun v4 => (lc_ite (lc_ret _) (lc_ite (lc_ret _) (lc_ite (lc_fX67_isListable_J121 x0 v4) (lc_ite (lc_ret _) (lc_fX67_isListable_J121 x0 v4))))))
theorem lc_fX67_isListable_J60 (x0 : Int) (x2 : Int) (x3 : Int) (s0 : Int) : zLoc zSt_ (fX67_isListable_J60 x0 x2 x3 s0) :=
  (lc_cl (lc_fX67_takesN x2) fun v3 => (lc_ite (lc_fX67_isListable_J87 x0 x3 s0 ((x0 / 2097152) % 8) 0 0) (lc_cl (lc_fX67_mostN x2) fun v5 => (lc_fX67_isListable_J87 x0 x3 s0 ((x0 / 2097152) % 8) 0 v5))))
theorem lc_fX67_isListable_J55 (x0 : Int) (x2 : Int) (x3 : Int) : zLoc zSt_ (fX67_isListable_J55 x0 x2 x3) :=
  (lc_fX67_isListable_J60 x0 x2 x3 1)
theorem lc_fX67_isListable_J45 (x0 : Int) (x2 : Int) (x3 : Int) : zLoc zSt_ (fX67_isListable_J45 x0 x2 x3) :=
  (lc_ite (lc_fX67_isListable_J55 x0 x2 x3) (lc_ite (lc_fX67_isListable_J60 x0 x2 x3 0) (lc_fX67_isListable_J55 x0 x2 x3)))
theorem lc_fX67_isListable_J33 (x0 : Int) (x2 : Int) (x3 : Int) : zLoc zSt_ (fX67_isListable_J33 x0 x2 x3) :=
  (lc_ite (lc_fX67_isListable_J45 x0 x2 x3) (lc_ret _))
theorem lc_fX67_isListable (x0 : Int) : zLoc zSt_ (fX67_isListable x0) :=
  (lc_lt fun v1 => (lc_lt fun v2 => (lc_ite (lc_ret _) (lc_ite (lc_fX67_isListable_J33 x0 v1 v2) (lc_ite (lc_fX67_isListable_J45 x0 v1 v2) (lc_fX67_isListable_J33 x0 v1 v2))))))
theorem lc_fX67_write_2 (x1 : Int) : zLoc zSt_ (fX67_write_2 x1) :=
  (lc_gf (by decide) fun v1 => (lc_as (by decide) (lc_gf (by decide) fun v2 => (lc_pf (by decide) (lc_ret _)))))
theorem lc_fX67_writeName_J70 {r3 : Int → zX} (hr3 : ∀ s, zLoc zSt_ (r3 s)) (x1 : Int) (x3 : Int) : zLoc zSt_ (fX67_writeName_J70 r3 x1 x3) :=
  (lc_lt fun v2 => (hr3 v2))
theorem lc_fX67_writeName_J67 {r3 : Int → zX} (hr3 : ∀ s, zLoc zSt_ (r3 s)) (x1 : Int) (x3 : Int) (s1 : Int) : zLoc zSt_ (fX67_writeName_J67 r3 x1 x3 s1) :=
  (lc_cl (lc_fX67_write_2 s1) fun _ => (lc_fX67_writeName_J70 hr3 x1 x3))
theorem lc_fX67_writeName_B3 (x1 : Int) : ∀ r3 : Int → zX, (∀ s, zLoc zSt_ (r3 s)) → ∀ s, zLoc zSt_ (fX67_writeName_B3 x1 r3 s) := by
  intro r3 hr3 x3
  unfold fX67_writeName_B3
  exact (lc_ite (lc_ret _) (lc_lt fun v1 => (lc_ite (lc_fX67_writeName_J70 hr3 x1 x3) (lc_ite (lc_ite (lc_ite (lc_fX67_writeName_J67 hr3 x1 x3 46) (lc_fX67_writeName_J67 hr3 x1 x3 95)) (lc_fX67_writeName_J67 hr3 x1 x3 (zi (v1 + 21)))) (lc_fX67_writeName_J67 hr3 x1 x3 (zi (v1 + 96)))))))
theorem lc_fX67_writeName (x1 : Int) : zLoc zSt_ (fX67_writeName x1) :=
  (lc_lp (lc_fX67_writeName_B3 x1) zBIG 30)
theorem lc_fX67_writeNumber_B21 (x1 : Int) : ∀ r21 : Int → zX, (∀ s, zLoc zSt_ (r21 s)) → ∀ s, zLoc zSt_ (fX67_writeNumber_B21 x1 r21 s) := by
  intro r21 hr21 x3
  unfold fX67_writeNumber_B21
  exact (lc_ite (lc_ret _) (lc_ne (lc_cl (lc_fX67_write_2 (zi (zl (48 + (Int.tmod (zl (Int.tdiv x1 x3)) 10))))) fun _ => (lc_lt fun v3 => (hr21 v3)))))
theorem lc_fX67_writeNumber_B2 (x1 : Int) : ∀ r2 : Int → zX, (∀ s, zLoc zSt_ (r2 s)) → ∀ s, zLoc zSt_ (fX67_writeNumber_B2 x1 r2 s) := by
  intro r2 hr2 x3
  unfold fX67_writeNumber_B2
  exact (lc_ite (lc_lp (lc_fX67_writeNumber_B21 x1) zBIG x3) (lc_lt fun v4 => (hr2 v4)))
theorem lc_fX67_writeNumber (x1 : Int) : zLoc zSt_ (fX67_writeNumber x1) :=
  (lc_lp (lc_fX67_writeNumber_B2 x1) zBIG 1)
theorem lc_fX67_list_J105 : zLoc zSt_ (fX67_list_J105) :=
  (lc_gf (by decide) fun v8 => (lc_ret _))
theorem lc_fX67_list_J227 : zLoc zSt_ (fX67_list_J227) :=
  (lc_gf (by decide) fun v14 => (lc_ret _))
theorem lc_fX67_list_J188 (x1 : Int) : zLoc zSt_ (fX67_list_J188 x1) :=
  (lc_ite lc_fX67_list_J227 (lc_cl (lc_fX67_write_2 44) fun _ => (lc_cl (lc_fX67_write_2 120) fun _ => (lc_cl (lc_fX67_writeNumber (zl (((x1 / 262144) % 8) - 1))) fun _ => lc_fX67_list_J227))))
theorem lc_fX67_list_J167 (x1 : Int) (x4 : Int) : zLoc zSt_ (fX67_list_J167 x1 x4) :=
  (lc_cl (lc_fX67_writeNumber (x1 % 262144)) fun _ => (lc_ite (lc_fX67_list_J188 x1) (lc_cl (lc_fX67_write_2 42) fun _ => (lc_fX67_list_J188 x1))))
theorem lc_fX67_list_J143 (x1 : Int) (x4 : Int) : zLoc zSt_ (fX67_list_J143 x1 x4) :=
  (lc_cl (lc_fX67_write_2 112) fun _ => (lc_cl (lc_fX67_writeNumber ((x1 / 16777216) % 8)) fun _ => (lc_cl (lc_fX67_write_2 124) fun _ => (lc_fX67_list_J167 x1 x4))))
theorem lc_fX67_list_J94 (x1 : Int) (x3 : Int) (x4 : Int) : zLoc zSt_ (fX67_list_J94 x1 x3 x4) :=
  (lc_ite lc_fX67_list_J105 (lc_ite (lc_cl (lc_fX67_write_2 32) fun _ => (lc_ite (lc_ite (lc_fX67_list_J143 x1 x4) (lc_ite (lc_fX67_list_J167 x1 x4) (lc_fX67_list_J143 x1 x4))) (lc_cl (lc_fX67_write_2 35) fun _ => (lc_fX67_list_J167 x1 x4)))) lc_fX67_list_J105))
theorem lc_fX67_list (x1 : Int) : zLoc zSt_ (fX67_list x1) :=
  (lc_cl (lc_fX67_isWord x1) fun v1 => (lc_ite (lc_pf (by decide) (lc_cl (lc_fX67_isListable x1) fun v2 => (lc_ite (lc_lt fun v3 => (lc_lt fun v4 => (lc_ct fun v5 => (lc_cl (lc_fX67_writeName v5) fun _ => (lc_cl (lc_fX67_takesN v3) fun v7 => (lc_ite (lc_fX67_list_J94 x1 v3 v4) (lc_cl (lc_fX67_writeNumber ((x1 / 2097152) % 8)) fun _ => (lc_fX67_list_J94 x1 v3 v4)))))))) (lc_ct fun v21 => (lc_cl (lc_fX67_writeName v21) fun _ => (lc_cl (lc_fX67_write_2 32) fun _ => (lc_cl (lc_fX67_writeNumber x1) fun _ => (lc_gf (by decide) fun v25 => (lc_ret _))))))))) (lc_ret _)))
theorem lc_fX67_listed (x1 : Int) : zLoc zSt_ (fX67_listed x1) :=
  (lc_gf (by decide) fun v1 => (lc_cl (lc_fX67_in x1 0 (zi (v1 - 1))) fun v2 => (lc_ite (lc_ret _) (lc_al (by decide) fun v3 => (lc_ret _)))))
theorem lc_fX67_putByte (x1 : Int) : zLoc zSt_ (fX67_putByte x1) :=
  (lc_gf (by decide) fun v1 => (lc_as (by decide) (lc_gf (by decide) fun v2 => (lc_pf (by decide) (lc_gf (by decide) fun v3 => (lc_pf (by decide) (lc_ret _)))))))
theorem lc_fX67_putWord_B3 (x1 : Int) : ∀ r3 : Int → zX, (∀ s, zLoc zSt_ (r3 s)) → ∀ s, zLoc zSt_ (fX67_putWord_B3 x1 r3 s) := by
  intro r3 hr3 x3
  unfold fX67_putWord_B3
  exact (lc_ite (lc_ret _) (lc_cl (lc_fX67_putByte (zi ((x1 / 2 ^ (x3 % 64).toNat) % 256))) fun _ => (lc_lt fun v2 => (hr3 v2))))
theorem lc_fX67_putWord (x1 : Int) : zLoc zSt_ (fX67_putWord x1) :=
  (lc_lp (lc_fX67_putWord_B3 x1) zBIG 32)
theorem lc_fX67_putItems_B8 {c1 : Nat} (hc1 : zSt_ c1) (x2 : Int) (x3 : Int) : ∀ r8 : Int → zX, (∀ s, zLoc zSt_ (r8 s)) → ∀ s, zLoc zSt_ (fX67_putItems_B8 c1 x2 x3 r8 s) := by
  intro r8 hr8 x4
  unfold fX67_putItems_B8
  exact (lc_ite (lc_ret _) (lc_al hc1 fun v2 => (lc_cl (lc_fX67_putByte v2) fun _ => (lc_lt fun v4 => (hr8 v4)))))
theorem lc_fX67_putItems {c1 : Nat} (hc1 : zSt_ c1) (x2 : Int) (x3 : Int) : zLoc zSt_ (fX67_putItems c1 x2 x3) :=
  (lc_cl (lc_fX67_putByte x3) fun _ => (lc_lp (lc_fX67_putItems_B8 hc1 x2 x3) zBIG x2))
theorem lc_fX67_putNode_B255 (x1 : Int) : ∀ r255 : Int → zX, (∀ s, zLoc zSt_ (r255 s)) → ∀ s, zLoc zSt_ (fX67_putNode_B255 x1 r255 s) := by
  intro r255 hr255 x2
  unfold fX67_putNode_B255
  exact (lc_al (by decide) fun v13 => (lc_ite (lc_ret _) (lc_al (by decide) fun v14 => (lc_cl (lc_fX67_putByte v14) fun _ => (lc_al (by decide) fun v16 => (lc_cl (lc_fX67_putWord v16) fun _ => (lc_lt fun v18 => (hr255 v18))))))))
theorem lc_fX67_putNode_B204 (x1 : Int) : ∀ r204 : Int → zX, (∀ s, zLoc zSt_ (r204 s)) → ∀ s, zLoc zSt_ (fX67_putNode_B204 x1 r204 s) := by
  intro r204 hr204 x2
  unfold fX67_putNode_B204
  exact (lc_al (by decide) fun v25 => (lc_ite (lc_ret _) (lc_al (by decide) fun v26 => (lc_cl (lc_fX67_putWord v26) fun _ => (lc_lt fun v28 => (hr204 v28))))))
theorem lc_fX67_putNode_J49 (x1 : Int) : zLoc zSt_ (fX67_putNode_J49 x1) :=
  (lc_al (by decide) fun v6 => (lc_cl (lc_fX67_putItems (show zSt_ 6813 by decide) (zi (18 * x1)) v6) fun _ => (lc_al (by decide) fun v8 => (lc_ite (lc_al (by decide) fun v9 => (lc_ite (lc_al (by decide) fun v10 => (lc_cl (lc_fX67_putByte v10) fun _ => (lc_lt fun v12 => (lc_lp (lc_fX67_putNode_B255 x1) zBIG v12)))) (lc_al (by decide) fun v19 => (lc_cl (lc_fX67_putByte v19) fun _ => (lc_al (by decide) fun v21 => (lc_cl (lc_fX67_putByte (zi (Int.tdiv v21 256))) fun _ => (lc_al (by decide) fun v23 => (lc_cl (lc_fX67_putByte (Int.tmod v23 256)) fun _ => (lc_lp (lc_fX67_putNode_B204 x1) zBIG 0))))))))) (lc_al (by decide) fun v29 => (lc_cl (lc_fX67_putByte v29) fun _ => (lc_al (by decide) fun v31 => (lc_cl (lc_fX67_putByte v31) fun _ => (lc_al (by decide) fun v33 => (lc_cl (lc_fX67_putItems (show zSt_ 6815 by decide) (zi ((zi (18 * x1)) + 9)) v33) fun _ => (lc_al (by decide) fun v35 => (lc_cl (lc_fX67_putItems (show zSt_ 6815 by decide) (zi (18 * x1)) v35) fun _ => (lc_cl (lc_fX67_countEntries x1) fun v37 => (lc_cl (lc_fX67_putByte v37) fun _ => (lc_ret _)))))))))))))))
theorem lc_fX67_putNode_B24 (x1 : Int) : ∀ r24 : Int → zX, (∀ s, zLoc zSt_ (r24 s)) → ∀ s, zLoc zSt_ (fX67_putNode_B24 x1 r24 s) := by
  intro r24 hr24 x2
  unfold fX67_putNode_B24
  exact (lc_ite (lc_fX67_putNode_J49 x1) (lc_al (by decide) fun v39 => (lc_cl (lc_fX67_putByte v39) fun _ => (lc_lt fun v41 => (hr24 v41)))))
theorem lc_fX67_putNode (x1 : Int) : zLoc zSt_ (fX67_putNode x1) :=
  (lc_al (by decide) fun v1 => (lc_cl (lc_fX67_putByte v1) fun _ => (lc_al (by decide) fun v3 => (lc_cl (lc_fX67_putWord v3) fun _ => (lc_lt fun v5 => (lc_lp (lc_fX67_putNode_B24 x1) zBIG v5))))))
theorem lc_fX67_behindOnTape_B24 (x2 : Int) : ∀ r24 : Int × Int → zX, (∀ s, zLoc zSt_ (r24 s)) → ∀ s, zLoc zSt_ (fX67_behindOnTape_B24 x2 r24 s) := by
  intro r24 hr24 s
  obtain ⟨x3, x4⟩ := s
  unfold fX67_behindOnTape_B24
  exact (lc_ite (lc_ret _) (lc_ite (lc_ret _) (lc_al (by decide) fun v2 => (lc_cl (lc_fX67_entryBehind v2 x4) fun v3 => (lc_al (by decide) fun v4 => (hr24 (v3, v4)))))))
theorem lc_fX67_behindOnTape_J20 (x1 : Int) (x2 : Int) (s0 : Int) : zLoc zSt_ (fX67_behindOnTape_J20 x1 x2 s0) :=
  (lc_lp (lc_fX67_behindOnTape_B24 x2) zBIG (s0, x1))
theorem lc_fX67_behindOnTape (x1 : Int) (x2 : Int) : zLoc zSt_ (fX67_behindOnTape x1 x2) :=
  (lc_al (by decide) fun v1 => (lc_ite (lc_fX67_behindOnTape_J20 x1 x2 (-1)) (lc_cl (lc_fX67_entryBehind x1 0) fun v5 => (lc_fX67_behindOnTape_J20 x1 x2 v5))))
theorem lc_fX67_dump_J63 : zLoc zSt_ (fX67_dump_J63) :=
  (lc_gf (by decide) fun v5 => (lc_cl (lc_fX67_putByte (zi (Int.tdiv v5 256))) fun _ => (lc_cl (lc_fX67_putByte (Int.tmod v5 256)) fun _ => (lc_gf (by decide) fun v8 => (lc_ret _)))))
theorem lc_fX67_dump_B44 (x1 : Int) : ∀ r44 : Int → zX, (∀ s, zLoc zSt_ (r44 s)) → ∀ s, zLoc zSt_ (fX67_dump_B44 x1 r44 s) := by
  intro r44 hr44 x2
  unfold fX67_dump_B44
  exact (lc_ite lc_fX67_dump_J63 (lc_cl (lc_fX67_putNode x2) fun _ => (lc_cl (lc_fX67_behindOnTape x2 x1) fun v10 => (hr44 v10))))
theorem lc_fX67_dump (x1 : Int) : zLoc zSt_ (fX67_dump x1) :=
  (lc_cl (lc_fX67_isNode x1) fun v1 => (lc_ite (lc_ret _) (lc_ite (lc_pf (by decide) (lc_pf (by decide) (lc_cl (lc_fX67_putByte 82) fun _ => (lc_cl (lc_fX67_putByte 72) fun _ => (lc_cl (lc_fX67_putByte 1) fun _ => (lc_lp (lc_fX67_dump_B44 x1) zBIG x1)))))) (lc_ret _))))
theorem lc_fX67_tape (x1 : Int) : zLoc zSt_ (fX67_tape x1) :=
  (lc_gf (by decide) fun v1 => (lc_cl (lc_fX67_in x1 0 (zi (v1 - 1))) fun v2 => (lc_ite (lc_ret _) (lc_al (by decide) fun v3 => (lc_ret _)))))
theorem lc_fX67_alter_J67 (s1 : Int) : zLoc zSt_ (fX67_alter_J67 s1) :=
  (lc_pf (by decide) (lc_gf (by decide) fun v6 => (lc_ret _)))
theorem lc_fX67_alter (x1 : Int) (x2 : Int) : zLoc zSt_ (fX67_alter x1 x2) :=
  (lc_gf (by decide) fun v1 => (lc_cl (lc_fX67_in x1 0 v1) fun v2 => (lc_ite (lc_ret _) (lc_cl (lc_fX67_in x2 0 255) fun v3 => (lc_ite (lc_ite (lc_as (by decide) (lc_gf (by decide) fun v4 => (lc_ite (lc_gf (by decide) fun v5 => (lc_fX67_alter_J67 v5)) (lc_gf (by decide) fun v7 => (lc_fX67_alter_J67 (zi (v7 + 1))))))) (lc_ret _)) (lc_ret _))))))
theorem lc_fX67_cut (x1 : Int) : zLoc zSt_ (fX67_cut x1) :=
  (lc_gf (by decide) fun v1 => (lc_cl (lc_fX67_in x1 0 v1) fun v2 => (lc_ite (lc_gf (by decide) fun v3 => (lc_lt fun v4 => (lc_pf (by decide) (lc_ret _)))) (lc_ret _))))
theorem lc_fX67_torn (x1 : Int) (x2 : Int) : zLoc zSt_ (fX67_torn x1 x2) :=
  (lc_gf (by decide) fun v1 => (lc_ite (lc_ret _) (lc_pf (by decide) (lc_pf (by decide) (lc_ret _)))))
theorem lc_fX67_take_J62 (x3 : Int) : zLoc zSt_ (fX67_take_J62 x3) :=
  (lc_gf (by decide) fun v7 => (lc_pf (by decide) (lc_gf (by decide) fun v8 => (lc_pf (by decide) (lc_gf (by decide) fun v9 => (lc_ite (lc_ret _) (lc_ret _)))))))
theorem lc_fX67_take (x1 : Int) (x2 : Int) : zLoc zSt_ (fX67_take x1 x2) :=
  (lc_gf (by decide) fun v1 => (lc_ite (lc_gf (by decide) fun v2 => (lc_gf (by decide) fun v3 => (lc_ite (lc_gf (by decide) fun v4 => (lc_al (by decide) fun v5 => (lc_cl (lc_fX67_in v5 x1 x2) fun v6 => (lc_ite (lc_fX67_take_J62 v5) (lc_gf (by decide) fun v10 => (lc_cl (lc_fX67_torn 3 v10) fun _ => (lc_fX67_take_J62 v5))))))) (lc_gf (by decide) fun v12 => (lc_cl (lc_fX67_torn 1 v12) fun _ => (lc_ret _)))))) (lc_ret _)))
theorem lc_fX67_takeWord_J38 (x1 : Int) (x2 : Int) : zLoc zSt_ (fX67_takeWord_J38 x1 x2) :=
  (lc_cl (lc_fX67_isWord x2) fun v2 => (lc_ite (lc_ret _) (lc_cl (lc_fX67_torn 3 x1) fun _ => (lc_ret _))))
theorem lc_fX67_takeWord_B10 (x1 : Int) : ∀ r10 : Int × Int → zX, (∀ s, zLoc zSt_ (r10 s)) → ∀ s, zLoc zSt_ (fX67_takeWord_B10 x1 r10 s) := by
  intro r10 hr10 s
  obtain ⟨x2, x4⟩ := s
  unfold fX67_takeWord_B10
  exact (lc_ite (lc_fX67_takeWord_J38 x1 x2) (lc_cl (lc_fX67_take 0 255) fun v4 => (lc_lt fun v5 => (lc_lt fun v6 => (hr10 (v5, v6))))))
theorem lc_fX67_takeWord : zLoc zSt_ (fX67_takeWord) :=
  (lc_gf (by decide) fun v1 => (lc_lp (lc_fX67_takeWord_B10 v1) zBIG (0, 0)))
theorem lc_fX67_labelAbove (x1 : Int) : zLoc zSt_ (fX67_labelAbove x1) :=
  (lc_ite (lc_al (by decide) fun v1 => (lc_ret _)) (lc_gf (by decide) fun v2 => (lc_al (by decide) fun v3 => (lc_ret _))))
theorem lc_fX67_hasName_J52 {r6 : Int × Int → zX} (hr6 : ∀ s, zLoc zSt_ (r6 s)) (x1 : Int) (x2 : Int) (x5 : Int) (s0 : Int) : zLoc zSt_ (fX67_hasName_J52 r6 x1 x2 x5 s0) :=
  (lc_lt fun v2 => (hr6 (s0, v2)))
theorem lc_fX67_hasName_J47 {r6 : Int × Int → zX} (hr6 : ∀ s, zLoc zSt_ (r6 s)) (x1 : Int) (x2 : Int) (x5 : Int) : zLoc zSt_ (fX67_hasName_J47 r6 x1 x2 x5) :=
  (lc_fX67_hasName_J52 hr6 x1 x2 x5 1)
theorem lc_fX67_hasName_J51 {r6 : Int × Int → zX} (hr6 : ∀ s, zLoc zSt_ (r6 s)) (x1 : Int) (x2 : Int) (x5 : Int) : zLoc zSt_ (fX67_hasName_J51 r6 x1 x2 x5) :=
  (lc_fX67_hasName_J52 hr6 x1 x2 x5 0)
theorem lc_fX67_hasName_B6 (x1 : Int) (x2 : Int) : ∀ r6 : Int × Int → zX, (∀ s, zLoc zSt_ (r6 s)) → ∀ s, zLoc zSt_ (fX67_hasName_B6 x1 x2 r6 s) := by
  intro r6 hr6 s
  obtain ⟨x4, x5⟩ := s
  unfold fX67_hasName_B6
  exact (lc_gf (by decide) fun v1 => (lc_ite (lc_rb _) (lc_ite (lc_fX67_hasName_J47 hr6 x1 x2 x5) (lc_al (by decide) fun v3 => (lc_ite (lc_fX67_hasName_J51 hr6 x1 x2 x5) (lc_al (by decide) fun v4 => (lc_ite (lc_fX67_hasName_J51 hr6 x1 x2 x5) (lc_ite (lc_fX67_hasName_J51 hr6 x1 x2 x5) (lc_fX67_hasName_J47 hr6 x1 x2 x5)))))))))
theorem lc_fX67_hasName (x1 : Int) (x2 : Int) : zLoc zSt_ (fX67_hasName x1 x2) :=
  (lc_lp (lc_fX67_hasName_B6 x1 x2) zBIG (0, 0))
theorem lc_fX67_takeHead_J77 (x1 : Int) (x2 : Int) (x3 : Int) (x5 : Int) : zLoc zSt_ (fX67_takeHead_J77 x1 x2 x3 x5) :=
  (lc_as (by decide) (lc_as (by decide) (lc_as (by decide) (lc_cl (lc_fX67_labelAbove x1) fun v7 => (lc_as (by decide) (lc_as (by decide) (lc_as (by decide) (lc_as (by decide) (lc_gf (by decide) fun v8 => (lc_pf (by decide) (lc_ret _)))))))))))
theorem lc_fX67_takeHead_J46 (x1 : Int) (x2 : Int) (x3 : Int) (x4 : Int) (x5 : Int) : zLoc zSt_ (fX67_takeHead_J46 x1 x2 x3 x4 x5) :=
  (lc_gf (by decide) fun v6 => (lc_ite (lc_fX67_takeHead_J77 x1 x2 x3 x5) (lc_gf (by decide) fun v9 => (lc_ite (lc_fX67_takeHead_J77 x1 x2 x3 x5) (lc_cl (lc_fX67_hasName x1 x5) fun v10 => (lc_ite (lc_fX67_takeHead_J77 x1 x2 x3 x5) (lc_cl (lc_fX67_torn 4 x4) fun _ => (lc_fX67_takeHead_J77 x1 x2 x3 x5))))))))
theorem lc_fX67_takeHead (x1 : Int) : zLoc zSt_ (fX67_takeHead x1) :=
  (lc_gf (by decide) fun v1 => (lc_cl (lc_fX67_take 1 3) fun v2 => (lc_gf (by decide) fun v3 => (lc_cl lc_fX67_takeWord fun v4 => (lc_gf (by decide) fun v5 => (lc_ite (lc_fX67_takeHead_J46 x1 v1 v2 v3 v4) (lc_cl (lc_fX67_isName v4) fun v12 => (lc_ite (lc_fX67_takeHead_J46 x1 v1 v2 v3 v4) (lc_cl (lc_fX67_torn 3 v3) fun _ => (lc_fX67_takeHead_J46 x1 v1 v2 v3 v4))))))))))
theorem lc_fX67_takeItems_J267 {r210 : Int → zX} (hr210 : ∀ s, zLoc zSt_ (r210 s)) (x1 : Int) (x3 : Int) (x4 : Int) (x5 : Int) : zLoc zSt_ (fX67_takeItems_J267 r210 x1 x3 x4 x5) :=
  (lc_lt fun v6 => (hr210 v6))
theorem lc_fX67_takeItems_B210 (x1 : Int) (x3 : Int) (x4 : Int) : ∀ r210 : Int → zX, (∀ s, zLoc zSt_ (r210 s)) → ∀ s, zLoc zSt_ (fX67_takeItems_B210 x1 x3 x4 r210 s) := by
  intro r210 hr210 x5
  unfold fX67_takeItems_B210
  exact (lc_gf (by decide) fun v4 => (lc_ite (lc_ret _) (lc_ite (lc_ret _) (lc_ite (lc_al (by decide) fun v5 => (lc_as (by decide) (lc_fX67_takeItems_J267 hr210 x1 x3 x4 x5))) (lc_al (by decide) fun v7 => (lc_as (by decide) (lc_fX67_takeItems_J267 hr210 x1 x3 x4 x5)))))))
theorem lc_fX67_takeItems_J207 (x1 : Int) (x3 : Int) (x4 : Int) : zLoc zSt_ (fX67_takeItems_J207 x1 x3 x4) :=
  (lc_lp (lc_fX67_takeItems_B210 x1 x3 x4) zBIG 0)
theorem lc_fX67_takeItems_J189 (x1 : Int) (x3 : Int) (x4 : Int) : zLoc zSt_ (fX67_takeItems_J189 x1 x3 x4) :=
  (lc_gf (by decide) fun v3 => (lc_ite (lc_fX67_takeItems_J207 x1 x3 x4) (lc_as (by decide) (lc_fX67_takeItems_J207 x1 x3 x4))))
theorem lc_fX67_takeItems_J165 (x1 : Int) (x2 : Int) (x3 : Int) (x4 : Int) : zLoc zSt_ (fX67_takeItems_J165 x1 x2 x3 x4) :=
  (lc_gf (by decide) fun v2 => (lc_ite (lc_fX67_takeItems_J189 x1 x3 x4) (lc_ite (lc_fX67_takeItems_J189 x1 x3 x4) (lc_as (by decide) (lc_fX67_takeItems_J207 x1 x3 x4)))))
theorem lc_fX67_takeItems_J141 {r11 : Int → zX} (hr11 : ∀ s, zLoc zSt_ (r11 s)) (x1 : Int) (x2 : Int) (x3 : Int) (x4 : Int) (x5 : Int) : zLoc zSt_ (fX67_takeItems_J141 r11 x1 x2 x3 x4 x5) :=
  (lc_cl (lc_fX67_take 0 7) fun v12 => (lc_as (by decide) (lc_lt fun v13 => (hr11 v13))))
theorem lc_fX67_takeItems_J135 {r11 : Int → zX} (hr11 : ∀ s, zLoc zSt_ (r11 s)) {r68 : Int → zX} (hr68 : ∀ s, zLoc zSt_ (r68 s)) (x1 : Int) (x2 : Int) (x3 : Int) (x4 : Int) (x5 : Int) (x6 : Int) (x7 : Int) : zLoc zSt_ (fX67_takeItems_J135 r11 r68 x1 x2 x3 x4 x5 x6 x7) :=
  (lc_lt fun v15 => (hr68 v15))
theorem lc_fX67_takeItems_B68 {r11 : Int → zX} (hr11 : ∀ s, zLoc zSt_ (r11 s)) (x1 : Int) (x2 : Int) (x3 : Int) (x4 : Int) (x5 : Int) (x6 : Int) : ∀ r68 : Int → zX, (∀ s, zLoc zSt_ (r68 s)) → ∀ s, zLoc zSt_ (fX67_takeItems_B68 r11 x1 x2 x3 x4 x5 x6 r68 s) := by
  intro r68 hr68 x7
  unfold fX67_takeItems_B68
  exact (lc_ite (lc_fX67_takeItems_J141 hr11 x1 x2 x3 x4 x5) (lc_gf (by decide) fun v14 => (lc_ite (lc_fX67_takeItems_J135 hr11 hr68 x1 x2 x3 x4 x5 x6 x7) (lc_al (by decide) fun v16 => (lc_al (by decide) fun v17 => (lc_ite (lc_fX67_takeItems_J135 hr11 hr68 x1 x2 x3 x4 x5 x6 x7) (lc_al (by decide) fun v18 => (lc_al (by decide) fun v19 => (lc_ite (lc_fX67_takeItems_J135 hr11 hr68 x1 x2 x3 x4 x5 x6 x7) (lc_cl (lc_fX67_torn 3 x6) fun _ => (lc_fX67_takeItems_J135 hr11 hr68 x1 x2 x3 x4 x5 x6 x7)))))))))))
theorem lc_fX67_takeItems_B11 (x1 : Int) (x2 : Int) (x3 : Int) (x4 : Int) : ∀ r11 : Int → zX, (∀ s, zLoc zSt_ (r11 s)) → ∀ s, zLoc zSt_ (fX67_takeItems_B11 x1 x2 x3 x4 r11 s) := by
  intro r11 hr11 x5
  unfold fX67_takeItems_B11
  exact (lc_ite (lc_fX67_takeItems_J165 x1 x2 x3 x4) (lc_gf (by decide) fun v8 => (lc_ite (lc_fX67_takeItems_J165 x1 x2 x3 x4) (lc_gf (by decide) fun v9 => (lc_cl (lc_fX67_take 0 16) fun v10 => (lc_as (by decide) (lc_cl (lc_fX67_take 0 8) fun v11 => (lc_as (by decide) (lc_lp (lc_fX67_takeItems_B68 hr11 x1 x2 x3 x4 x5 v9) zBIG 0)))))))))
theorem lc_fX67_takeItems (x1 : Int) (x2 : Int) (x3 : Int) : zLoc zSt_ (fX67_takeItems x1 x2 x3) :=
  (lc_cl (lc_fX67_take 0 x1) fun v1 => (lc_lp (lc_fX67_takeItems_B11 x1 x2 x3 v1) zBIG 0))
theorem lc_fX67_takeLetters_J174 (x2 : Int) (x3 : Int) : zLoc zSt_ (fX67_takeLetters_J174 x2 x3) :=
  (lc_gf (by decide) fun v2 => (lc_ite (lc_ret _) (lc_as (by decide) (lc_ret _))))
theorem lc_fX67_takeLetters_J168 {r33 : Int → zX} (hr33 : ∀ s, zLoc zSt_ (r33 s)) (x1 : Int) (x2 : Int) (x3 : Int) (x4 : Int) : zLoc zSt_ (fX67_takeLetters_J168 r33 x1 x2 x3 x4) :=
  (lc_lt fun v11 => (hr33 v11))
theorem lc_fX67_takeLetters_J125 {r33 : Int → zX} (hr33 : ∀ s, zLoc zSt_ (r33 s)) (x1 : Int) (x2 : Int) (x3 : Int) (x4 : Int) (x6 : Int) : zLoc zSt_ (fX67_takeLetters_J125 r33 x1 x2 x3 x4 x6) :=
  (lc_cl lc_fX67_takeWord fun v9 => (lc_gf (by decide) fun v10 => (lc_ite (lc_fX67_takeLetters_J168 hr33 x1 x2 x3 x4) (lc_as (by decide) (lc_as (by decide) (lc_fX67_takeLetters_J168 hr33 x1 x2 x3 x4))))))
theorem lc_fX67_takeLetters_J89 {r33 : Int → zX} (hr33 : ∀ s, zLoc zSt_ (r33 s)) (x1 : Int) (x2 : Int) (x3 : Int) (x4 : Int) (x5 : Int) (x6 : Int) : zLoc zSt_ (fX67_takeLetters_J89 r33 x1 x2 x3 x4 x5 x6) :=
  (lc_al (by decide) fun v7 => (lc_as (by decide) (lc_gf (by decide) fun v8 => (lc_ite (lc_fX67_takeLetters_J125 hr33 x1 x2 x3 x4 x6) (lc_al (by decide) fun v12 => (lc_ite (lc_fX67_takeLetters_J125 hr33 x1 x2 x3 x4 x6) (lc_cl (lc_fX67_torn 3 x5) fun _ => (lc_fX67_takeLetters_J125 hr33 x1 x2 x3 x4 x6))))))))
theorem lc_fX67_takeLetters_B33 (x1 : Int) (x2 : Int) (x3 : Int) : ∀ r33 : Int → zX, (∀ s, zLoc zSt_ (r33 s)) → ∀ s, zLoc zSt_ (fX67_takeLetters_B33 x1 x2 x3 r33 s) := by
  intro r33 hr33 x4
  unfold fX67_takeLetters_B33
  exact (lc_ite (lc_fX67_takeLetters_J174 x2 x3) (lc_gf (by decide) fun v3 => (lc_ite (lc_fX67_takeLetters_J174 x2 x3) (lc_gf (by decide) fun v4 => (lc_cl (lc_fX67_take 0 31) fun v5 => (lc_gf (by decide) fun v6 => (lc_ite (lc_fX67_takeLetters_J89 hr33 x1 x2 x3 x4 v4 v5) (lc_al (by decide) fun v14 => (lc_cl (lc_fX67_dominates v5 v14) fun v15 => (lc_ite (lc_fX67_takeLetters_J89 hr33 x1 x2 x3 x4 v4 v5) (lc_cl (lc_fX67_torn 5 v4) fun _ => (lc_fX67_takeLetters_J89 hr33 x1 x2 x3 x4 v4 v5))))))))))))
theorem lc_fX67_takeLetters_J21 (x1 : Int) (x2 : Int) : zLoc zSt_ (fX67_takeLetters_J21 x1 x2) :=
  (lc_cl (lc_fX67_take 0 128) fun v1 => (lc_lp (lc_fX67_takeLetters_B33 x1 x2 v1) zBIG 0))
theorem lc_fX67_takeLetters_B2 (x1 : Int) (x2 : Int) : ∀ r2 : Int → zX, (∀ s, zLoc zSt_ (r2 s)) → ∀ s, zLoc zSt_ (fX67_takeLetters_B2 x1 x2 r2 s) := by
  intro r2 hr2 x3
  unfold fX67_takeLetters_B2
  exact (lc_ite (lc_fX67_takeLetters_J21 x1 x2) (lc_as (by decide) (lc_lt fun v17 => (hr2 v17))))
theorem lc_fX67_takeLetters (x1 : Int) (x2 : Int) : zLoc zSt_ (fX67_takeLetters x1 x2) :=
  (lc_lp (lc_fX67_takeLetters_B2 x1 x2) zBIG 0)
theorem lc_fX67_charge_J25 (x2 : Int) (x3 : Int) : zLoc zSt_ (fX67_charge_J25 x2 x3) :=
  (lc_ite (lc_gf (by decide) fun v1 => (lc_pf (by decide) (lc_ret _))) (lc_al (by decide) fun v2 => (lc_as (by decide) (lc_ret _))))
theorem lc_fX67_charge_B2 (x2 : Int) : ∀ r2 : Int → zX, (∀ s, zLoc zSt_ (r2 s)) → ∀ s, zLoc zSt_ (fX67_charge_B2 x2 r2 s) := by
  intro r2 hr2 x3
  unfold fX67_charge_B2
  exact (lc_ite (lc_fX67_charge_J25 x2 x3) (lc_al (by decide) fun v3 => (lc_ite (lc_fX67_charge_J25 x2 x3) (lc_al (by decide) fun v4 => (hr2 v4)))))
theorem lc_fX67_charge (x1 : Int) (x2 : Int) : zLoc zSt_ (fX67_charge x1 x2) :=
  (lc_lp (lc_fX67_charge_B2 x2) zBIG x1)
theorem lc_fX67_takeSegment_J112 (x1 : Int) (x2 : Int) (x4 : Int) : zLoc zSt_ (fX67_takeSegment_J112 x1 x2 x4) :=
  (lc_gf (by decide) fun v8 => (lc_ite (lc_ret _) (lc_as (by decide) (lc_ret _))))
theorem lc_fX67_takeSegment_J106 {r64 : Int → zX} (hr64 : ∀ s, zLoc zSt_ (r64 s)) (x1 : Int) (x2 : Int) (x4 : Int) (x5 : Int) : zLoc zSt_ (fX67_takeSegment_J106 r64 x1 x2 x4 x5) :=
  (lc_lt fun v12 => (hr64 v12))
theorem lc_fX67_takeSegment_B64 (x1 : Int) (x2 : Int) (x4 : Int) : ∀ r64 : Int → zX, (∀ s, zLoc zSt_ (r64 s)) → ∀ s, zLoc zSt_ (fX67_takeSegment_B64 x1 x2 x4 r64 s) := by
  intro r64 hr64 x5
  unfold fX67_takeSegment_B64
  exact (lc_ite (lc_fX67_takeSegment_J112 x1 x2 x4) (lc_gf (by decide) fun v9 => (lc_ite (lc_fX67_takeSegment_J112 x1 x2 x4) (lc_cl lc_fX67_takeWord fun v10 => (lc_gf (by decide) fun v11 => (lc_ite (lc_fX67_takeSegment_J106 hr64 x1 x2 x4 x5) (lc_as (by decide) (lc_fX67_takeSegment_J106 hr64 x1 x2 x4 x5))))))))
theorem lc_fX67_takeSegment_J61 (x1 : Int) (x2 : Int) (x4 : Int) : zLoc zSt_ (fX67_takeSegment_J61 x1 x2 x4) :=
  (lc_lp (lc_fX67_takeSegment_B64 x1 x2 x4) zBIG 0)
theorem lc_fX67_takeSegment (x1 : Int) : zLoc zSt_ (fX67_takeSegment x1) :=
  (lc_cl (lc_fX67_take 0 63) fun v1 => (lc_gf (by decide) fun v2 => (lc_cl (lc_fX67_take 0 255) fun v3 => (lc_lt fun v4 => (lc_cl (lc_fX67_take 0 255) fun v5 => (lc_lt fun v6 => (lc_gf (by decide) fun v7 => (lc_ite (lc_fX67_takeSegment_J61 x1 v1 v6) (lc_ite (lc_fX67_takeSegment_J61 x1 v1 v6) (lc_cl (lc_fX67_torn 3 v2) fun _ => (lc_fX67_takeSegment_J61 x1 v1 v6)))))))))))
theorem lc_fX67_takeDirectory_J82 (x1 : Int) (x3 : Int) (x5 : Int) : zLoc zSt_ (fX67_takeDirectory_J82 x1 x3 x5) :=
  (lc_as (by decide) (lc_as (by decide) (lc_ret _)))
theorem lc_fX67_takeDirectory_J43 (x1 : Int) (x3 : Int) (x4 : Int) : zLoc zSt_ (fX67_takeDirectory_J43 x1 x3 x4) :=
  (lc_gf (by decide) fun v5 => (lc_cl (lc_fX67_take 0 255) fun v6 => (lc_gf (by decide) fun v7 => (lc_ite (lc_fX67_takeDirectory_J82 x1 x3 v6) (lc_ite (lc_fX67_takeDirectory_J82 x1 x3 v6) (lc_ite (lc_fX67_takeDirectory_J82 x1 x3 v6) (lc_cl (lc_fX67_torn 5 v5) fun _ => (lc_fX67_takeDirectory_J82 x1 x3 v6))))))))
theorem lc_fX67_takeDirectory (x1 : Int) : zLoc zSt_ (fX67_takeDirectory x1) :=
  (lc_gf (by decide) fun v1 => (lc_cl (lc_fX67_take 0 31) fun v2 => (lc_al (by decide) fun v3 => (lc_gf (by decide) fun v4 => (lc_ite (lc_fX67_takeDirectory_J43 x1 v2 v3) (lc_cl (lc_fX67_dominates v2 v3) fun v9 => (lc_ite (lc_fX67_takeDirectory_J43 x1 v2 v3) (lc_cl (lc_fX67_torn 5 v1) fun _ => (lc_fX67_takeDirectory_J43 x1 v2 v3)))))))))
theorem lc_fX67_lengthAhead : zLoc zSt_ (fX67_lengthAhead) :=
  (lc_gf (by decide) fun v1 => (lc_al (by decide) fun v2 => (lc_gf (by decide) fun v3 => (lc_al (by decide) fun v4 => (lc_ret _)))))
theorem lc_fX67_makeRead_J115 (x1 : Int) (x4 : Int) (x5 : Int) (s0 : Int) : zLoc zSt_ (fX67_makeRead_J115 x1 x4 x5 s0) :=
  (lc_al (by decide) fun v8 => (lc_al (by decide) fun v9 => (lc_cl (lc_fX67_make v8 x4 v9 x5 s0) fun v10 => (lc_as (by decide) (lc_al (by decide) fun v11 => (lc_ret _))))))
theorem lc_fX67_makeRead_J71 (x1 : Int) (x4 : Int) (s0 : Int) : zLoc zSt_ (fX67_makeRead_J71 x1 x4 s0) :=
  (lc_al (by decide) fun v6 => (lc_ite (lc_al (by decide) fun v7 => (lc_ite (lc_fX67_makeRead_J115 x1 x4 s0 0) (lc_cl lc_fX67_lengthAhead fun v12 => (lc_fX67_makeRead_J115 x1 x4 s0 v12)))) (lc_gf (by decide) fun v13 => (lc_al (by decide) fun v14 => (lc_fX67_makeRead_J115 x1 x4 s0 v14)))))
theorem lc_fX67_makeRead_J24 (x1 : Int) (x2 : Int) (s0 : Int) : zLoc zSt_ (fX67_makeRead_J24 x1 x2 s0) :=
  (lc_al (by decide) fun v3 => (lc_pf (by decide) (lc_al (by decide) fun v4 => (lc_ite (lc_al (by decide) fun v5 => (lc_fX67_makeRead_J71 x1 s0 v5)) (lc_gf (by decide) fun v15 => (lc_al (by decide) fun v16 => (lc_fX67_makeRead_J71 x1 s0 v16)))))))
theorem lc_fX67_makeRead (x1 : Int) (x2 : Int) : zLoc zSt_ (fX67_makeRead x1 x2) :=
  (lc_al (by decide) fun v1 => (lc_ite (lc_al (by decide) fun v2 => (lc_fX67_makeRead_J24 x1 x2 v2)) (lc_gf (by decide) fun v17 => (lc_fX67_makeRead_J24 x1 x2 v17))))
theorem lc_fX67_takeNode_J186 (x1 : Int) (x2 : Int) (x8 : Int) : zLoc zSt_ (fX67_takeNode_J186 x1 x2 x8) :=
  (lc_gf (by decide) fun v11 => (lc_ite (lc_ret _) (lc_al (by decide) fun v12 => (lc_cl (lc_fX67_costOf v12 x8) fun v13 => (lc_cl (lc_fX67_charge x1 v13) fun _ => (lc_ret _))))))
theorem lc_fX67_takeNode_J75 (x1 : Int) (x2 : Int) (x7 : Int) : zLoc zSt_ (fX67_takeNode_J75 x1 x2 x7) :=
  (lc_cl (lc_fX67_takeItems 6 x7 (zi (18 * x7))) fun _ => (lc_al (by decide) fun v8 => (lc_ite (lc_al (by decide) fun v9 => (lc_ite (lc_cl (lc_fX67_takeLetters x2 x7) fun _ => (lc_fX67_takeNode_J186 x1 x2 0)) (lc_cl (lc_fX67_takeSegment x7) fun v15 => (lc_fX67_takeNode_J186 x1 x2 v15)))) (lc_cl (lc_fX67_takeDirectory x2) fun _ => (lc_cl (lc_fX67_takeItems 3 x7 (zi ((zi (18 * x7)) + 9))) fun _ => (lc_cl (lc_fX67_takeItems 3 x7 (zi (18 * x7))) fun _ => (lc_cl (lc_fX67_take 0 255) fun v19 => (lc_as (by decide) (lc_al (by decide) fun v20 => (lc_fX67_takeNode_J186 x1 x2 v20))))))))))
theorem lc_fX67_takeNode (x1 : Int) : zLoc zSt_ (fX67_takeNode x1) :=
  (lc_cl (lc_fX67_takeHead x1) fun v1 => (lc_cl (lc_fX67_take 0 7) fun v2 => (lc_cl (lc_fX67_take v2 7) fun v3 => (lc_cl (lc_fX67_take v3 7) fun v4 => (lc_gf (by decide) fun v5 => (lc_gf (by decide) fun v6 => (lc_ite (lc_fX67_takeNode_J75 x1 v1 (-1)) (lc_cl (lc_fX67_makeRead v1 v5) fun v21 => (lc_cl (lc_fX67_setBrackets v21 v2 v3 v4) fun _ => (lc_pf (by decide) (lc_fX67_takeNode_J75 x1 v1 v21)))))))))))
theorem lc_fX67_takeAll_J244 : zLoc zSt_ (fX67_takeAll_J244) :=
  (lc_gf (by decide) fun v10 => (lc_ite (lc_ret _) (lc_gf (by decide) fun v11 => (lc_gf (by decide) fun v12 => (lc_ite (lc_ret _) (lc_gf (by decide) fun v13 => (lc_cl (lc_fX67_torn 8 v13) fun _ => (lc_ret _))))))))
theorem lc_fX67_takeAll_J183 : zLoc zSt_ (fX67_takeAll_J183) :=
  (lc_gf (by decide) fun v3 => (lc_gf (by decide) fun v4 => (lc_cl (lc_fX67_take 0 255) fun v5 => (lc_lt fun v6 => (lc_cl (lc_fX67_take 0 255) fun v7 => (lc_lt fun v8 => (lc_gf (by decide) fun v9 => (lc_ite lc_fX67_takeAll_J244 (lc_ite lc_fX67_takeAll_J244 (lc_cl (lc_fX67_torn 7 v4) fun _ => lc_fX67_takeAll_J244))))))))))
theorem lc_fX67_takeAll_J165 {r110 : Int × Int → zX} (hr110 : ∀ s, zLoc zSt_ (r110 s)) (x2 : Int) (s0 : Int) : zLoc zSt_ (fX67_takeAll_J165 r110 x2 s0) :=
  (lc_ite (hr110 (x2, s0)) (lc_al (by decide) fun v20 => (lc_as (by decide) (hr110 (x2, s0)))))
theorem lc_fX67_takeAll_J164 {r110 : Int × Int → zX} (hr110 : ∀ s, zLoc zSt_ (r110 s)) (x2 : Int) : zLoc zSt_ (fX67_takeAll_J164 r110 x2) :=
  (lc_fX67_takeAll_J165 hr110 x2 0)
theorem lc_fX67_takeAll_J149 {r110 : Int × Int → zX} (hr110 : ∀ s, zLoc zSt_ (r110 s)) (x2 : Int) : zLoc zSt_ (fX67_takeAll_J149 r110 x2) :=
  (lc_gf (by decide) fun v19 => (lc_ite (lc_fX67_takeAll_J164 hr110 x2) (lc_ite (lc_fX67_takeAll_J164 hr110 x2) (lc_fX67_takeAll_J165 hr110 x2 1))))
theorem lc_fX67_takeAll_B126 {r110 : Int × Int → zX} (hr110 : ∀ s, zLoc zSt_ (r110 s)) : ∀ r126 : Int → zX, (∀ s, zLoc zSt_ (r126 s)) → ∀ s, zLoc zSt_ (fX67_takeAll_B126 r110 r126 s) := by
  intro r126 hr126 x2
  unfold fX67_takeAll_B126
  exact (lc_ite (lc_fX67_takeAll_J149 hr110 x2) (lc_al (by decide) fun v21 => (lc_ite (lc_fX67_takeAll_J149 hr110 x2) (lc_al (by decide) fun v22 => (hr126 v22)))))
theorem lc_fX67_takeAll_B110 : ∀ r110 : Int × Int → zX, (∀ s, zLoc zSt_ (r110 s)) → ∀ s, zLoc zSt_ (fX67_takeAll_B110 r110 s) := by
  intro r110 hr110 s
  obtain ⟨x2, x3⟩ := s
  unfold fX67_takeAll_B110
  exact (lc_ite lc_fX67_takeAll_J183 (lc_cl (lc_fX67_takeNode x2) fun _ => (lc_gf (by decide) fun v17 => (lc_lt fun v18 => (lc_lp (lc_fX67_takeAll_B126 hr110) zBIG v18)))))
theorem lc_fX67_takeAll_J109 (x2 : Int) (s0 : Int) : zLoc zSt_ (fX67_takeAll_J109 x2 s0) :=
  (lc_lp lc_fX67_takeAll_B110 zBIG (x2, s0))
theorem lc_fX67_takeAll_J95 : zLoc zSt_ (fX67_takeAll_J95) :=
  (lc_gf (by decide) fun v2 => (lc_ite (lc_fX67_takeAll_J109 (-1) 0) (lc_fX67_takeAll_J109 (-1) 1)))
theorem lc_fX67_takeAll_J89 {r27 : Int → zX} (hr27 : ∀ s, zLoc zSt_ (r27 s)) (x2 : Int) : zLoc zSt_ (fX67_takeAll_J89 r27 x2) :=
  (lc_lt fun v26 => (hr27 v26))
theorem lc_fX67_takeAll_J59 {r27 : Int → zX} (hr27 : ∀ s, zLoc zSt_ (r27 s)) (x2 : Int) (s0 : Int) : zLoc zSt_ (fX67_takeAll_J59 r27 x2 s0) :=
  (lc_cl (lc_fX67_take 0 255) fun v24 => (lc_gf (by decide) fun v25 => (lc_ite (lc_fX67_takeAll_J89 hr27 x2) (lc_ite (lc_fX67_takeAll_J89 hr27 x2) (lc_cl (lc_fX67_torn 2 x2) fun _ => (lc_fX67_takeAll_J89 hr27 x2))))))
theorem lc_fX67_takeAll_B27 : ∀ r27 : Int → zX, (∀ s, zLoc zSt_ (r27 s)) → ∀ s, zLoc zSt_ (fX67_takeAll_B27 r27 s) := by
  intro r27 hr27 x2
  unfold fX67_takeAll_B27
  exact (lc_ite lc_fX67_takeAll_J95 (lc_gf (by decide) fun v23 => (lc_ite lc_fX67_takeAll_J95 (lc_ite (lc_ite (lc_fX67_takeAll_J59 hr27 x2 1) (lc_fX67_takeAll_J59 hr27 x2 72)) (lc_fX67_takeAll_J59 hr27 x2 82)))))
theorem lc_fX67_takeAll (x1 : Int) : zLoc zSt_ (fX67_takeAll x1) :=
  (lc_pb (by decide) (lc_pf (by decide) (lc_pf (by decide) (lc_pf (by decide) (lc_pf (by decide) (lc_lp lc_fX67_takeAll_B27 zBIG 0))))))
theorem lc_fX67_hasRoomFor_J85 {r38 : Int × Int → zX} (hr38 : ∀ s, zLoc zSt_ (r38 s)) (x4 : Int) (s0 : Int) : zLoc zSt_ (fX67_hasRoomFor_J85 r38 x4 s0) :=
  (lc_lt fun v6 => (hr38 (s0, v6)))
theorem lc_fX67_hasRoomFor_J84 {r38 : Int × Int → zX} (hr38 : ∀ s, zLoc zSt_ (r38 s)) (x4 : Int) : zLoc zSt_ (fX67_hasRoomFor_J84 r38 x4) :=
  (lc_fX67_hasRoomFor_J85 hr38 x4 0)
theorem lc_fX67_hasRoomFor_J80 {r38 : Int × Int → zX} (hr38 : ∀ s, zLoc zSt_ (r38 s)) (x4 : Int) : zLoc zSt_ (fX67_hasRoomFor_J80 r38 x4) :=
  (lc_fX67_hasRoomFor_J85 hr38 x4 1)
theorem lc_fX67_hasRoomFor_B38 : ∀ r38 : Int × Int → zX, (∀ s, zLoc zSt_ (r38 s)) → ∀ s, zLoc zSt_ (fX67_hasRoomFor_B38 r38 s) := by
  intro r38 hr38 s
  obtain ⟨x3, x4⟩ := s
  unfold fX67_hasRoomFor_B38
  exact (lc_gf (by decide) fun v5 => (lc_ite (lc_rb _) (lc_ite (lc_fX67_hasRoomFor_J84 hr38 x4) (lc_al (by decide) fun v7 => (lc_ite (lc_fX67_hasRoomFor_J80 hr38 x4) (lc_al (by decide) fun v8 => (lc_al (by decide) fun v9 => (lc_ite (lc_fX67_hasRoomFor_J84 hr38 x4) (lc_fX67_hasRoomFor_J80 hr38 x4)))))))))
theorem lc_fX67_hasRoomFor_J34 (s0 : Int) : zLoc zSt_ (fX67_hasRoomFor_J34 s0) :=
  (lc_lp lc_fX67_hasRoomFor_B38 zBIG (s0, 0))
theorem lc_fX67_hasRoomFor (x1 : Int) : zLoc zSt_ (fX67_hasRoomFor x1) :=
  (lc_cl (lc_fX67_account x1) fun v1 => (lc_al (by decide) fun v2 => (lc_gf (by decide) fun v3 => (lc_al (by decide) fun v4 => (lc_ite (lc_fX67_hasRoomFor_J34 0) (lc_fX67_hasRoomFor_J34 1))))))
theorem lc_fX67_reload_J99 (x2 : Int) (s1 : Int) : zLoc zSt_ (fX67_reload_J99 x2 s1) :=
  (lc_pf (by decide) (lc_gf (by decide) fun v7 => (lc_ite (lc_cl (lc_fX67_takeAll 1) fun _ => (lc_al (by decide) fun v9 => (lc_as (by decide) (lc_al (by decide) fun v10 => (lc_ret _))))) (lc_gf (by decide) fun v11 => (lc_ret _)))))
theorem lc_fX67_reload_J83 (x2 : Int) : zLoc zSt_ (fX67_reload_J83 x2) :=
  (lc_gf (by decide) fun v6 => (lc_ite (lc_fX67_reload_J99 x2 (-1)) (lc_gf (by decide) fun v12 => (lc_fX67_reload_J99 x2 v12))))
theorem lc_fX67_reload_J66 (x2 : Int) (s0 : Int) : zLoc zSt_ (fX67_reload_J66 x2 s0) :=
  (lc_ite (lc_fX67_reload_J83 x2) (lc_gf (by decide) fun v13 => (lc_cl (lc_fX67_torn 6 v13) fun _ => (lc_fX67_reload_J83 x2))))
theorem lc_fX67_reload_J61 (x2 : Int) : zLoc zSt_ (fX67_reload_J61 x2) :=
  (lc_fX67_reload_J66 x2 1)
theorem lc_fX67_reload (x1 : Int) (x2 : Int) : zLoc zSt_ (fX67_reload x1 x2) :=
  (lc_cl (lc_fX67_isOf x1 1) fun v1 => (lc_ite (lc_ret _) (lc_cl (lc_fX67_isName x2) fun v2 => (lc_ite (lc_cl (lc_fX67_entryNamed x1 x2) fun v3 => (lc_ite (lc_pf (by decide) (lc_pf (by decide) (lc_cl (lc_fX67_takeAll 0) fun _ => (lc_gf (by decide) fun v5 => (lc_ite (lc_fX67_reload_J61 x2) (lc_cl (lc_fX67_hasRoomFor x1) fun v15 => (lc_ite (lc_fX67_reload_J66 x2 0) (lc_fX67_reload_J61 x2)))))))) (lc_ret _))) (lc_ret _)))))
theorem lc_fX67_count_J65 {r42 : Int × Int → zX} (hr42 : ∀ s, zLoc zSt_ (r42 s)) (x3 : Int) (s0 : Int) : zLoc zSt_ (fX67_count_J65 r42 x3 s0) :=
  (lc_lt fun v3 => (hr42 (s0, v3)))
theorem lc_fX67_count_B42 : ∀ r42 : Int × Int → zX, (∀ s, zLoc zSt_ (r42 s)) → ∀ s, zLoc zSt_ (fX67_count_B42 r42 s) := by
  intro r42 hr42 s
  obtain ⟨x2, x3⟩ := s
  unfold fX67_count_B42
  exact (lc_ite (lc_ret _) (lc_al (by decide) fun v2 => (lc_ite (lc_fX67_count_J65 hr42 x3 x2) (lc_fX67_count_J65 hr42 x3 (zi (x2 + 1))))))
theorem lc_fX67_count_J98 {r76 : Int × Int → zX} (hr76 : ∀ s, zLoc zSt_ (r76 s)) (x3 : Int) (s0 : Int) : zLoc zSt_ (fX67_count_J98 r76 x3 s0) :=
  (lc_lt fun v6 => (hr76 (s0, v6)))
theorem lc_fX67_count_B76 : ∀ r76 : Int × Int → zX, (∀ s, zLoc zSt_ (r76 s)) → ∀ s, zLoc zSt_ (fX67_count_B76 r76 s) := by
  intro r76 hr76 s
  obtain ⟨x2, x3⟩ := s
  unfold fX67_count_B76
  exact (lc_ite (lc_ret _) (lc_al (by decide) fun v5 => (lc_ite (lc_fX67_count_J98 hr76 x3 x2) (lc_fX67_count_J98 hr76 x3 (zi (x2 + 1))))))
theorem lc_fX67_count (x1 : Int) : zLoc zSt_ (fX67_count x1) :=
  (lc_ite (lc_lp lc_fX67_count_B42 zBIG (0, 0)) (lc_ite (lc_lp lc_fX67_count_B76 zBIG (0, 0)) (lc_ite (lc_gf (by decide) fun v8 => (lc_ret _)) (lc_ite (lc_gf (by decide) fun v10 => (lc_ret _)) (lc_ite (lc_gf (by decide) fun v12 => (lc_ret _)) (lc_ite (lc_gf (by decide) fun v14 => (lc_ret _)) (lc_ret _)))))))
