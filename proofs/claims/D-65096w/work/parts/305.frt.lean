set_option linter.unusedVariables false
abbrev W_fX67_in : List Nat := []
theorem fr_fX67_in (x0 : Int) (x2 : Int) (x4 : Int) : zFr W_fX67_in (fX67_in x0 x2 x4) :=
  (fr_ite (fr_ret _) (fr_ite (fr_ret _) (fr_ret _)))
abbrev W_fX67_isNode : List Nat := []
theorem fr_fX67_isNode (x1 : Int) : zFr W_fX67_isNode (fX67_isNode x1) :=
  (fr_cl (fr_mono (by decide) (fr_fX67_in x1 0 255)) fun v1 => (fr_ite (fr_ret _) (fr_al fun v2 => (fr_ite (fr_ret _) (fr_ret _)))))
abbrev W_fX67_isOf : List Nat := []
theorem fr_fX67_isOf (x1 : Int) (x2 : Int) : zFr W_fX67_isOf (fX67_isOf x1 x2) :=
  (fr_cl (fr_mono (by decide) (fr_fX67_isNode x1)) fun v1 => (fr_ite (fr_ret _) (fr_al fun v2 => (fr_ite (fr_ret _) (fr_ret _)))))
abbrev W_fX67_isWord : List Nat := []
theorem fr_fX67_isWord (x0 : Int) : zFr W_fX67_isWord (fX67_isWord x0) :=
  (fr_cl (fr_mono (by decide) (fr_fX67_in x0 0 68719476735)) fun v1 => (fr_rb _))
abbrev W_fX67_isName : List Nat := []
theorem fr_fX67_isName_J91 (x0 : Int) (x3 : Int) : zFr W_fX67_isName (fX67_isName_J91 x0 x3) :=
  (fr_ite (fr_ret _) (fr_ite (fr_ret _) (fr_ret _)))
theorem fr_fX67_isName_J84 {r23 : Int × Int × Int → zX} (hr23 : ∀ s, zFr W_fX67_isName (r23 s)) (x0 : Int) (x3 : Int) (x4 : Int) (s0 : Int) : zFr W_fX67_isName (fX67_isName_J84 r23 x0 x3 x4 s0) :=
  (fr_lt fun v3 => (hr23 (s0, x3, v3)))
theorem fr_fX67_isName_J79 {r23 : Int × Int × Int → zX} (hr23 : ∀ s, zFr W_fX67_isName (r23 s)) (x0 : Int) (x3 : Int) (x4 : Int) : zFr W_fX67_isName (fX67_isName_J79 r23 x0 x3 x4) :=
  (fr_fX67_isName_J84 hr23 x0 x3 x4 1)
theorem fr_fX67_isName_J67 {r23 : Int × Int × Int → zX} (hr23 : ∀ s, zFr W_fX67_isName (r23 s)) (x0 : Int) (x2 : Int) (x4 : Int) (x5 : Int) (s0 : Int) : zFr W_fX67_isName (fX67_isName_J67 r23 x0 x2 x4 x5 s0) :=
  (fr_ite (fr_fX67_isName_J79 hr23 x0 s0 x4) (fr_ite (fr_fX67_isName_J84 hr23 x0 s0 x4 0) (fr_fX67_isName_J79 hr23 x0 s0 x4)))
theorem fr_fX67_isName_J66 {r23 : Int × Int × Int → zX} (hr23 : ∀ s, zFr W_fX67_isName (r23 s)) (x0 : Int) (x2 : Int) (x4 : Int) (x5 : Int) : zFr W_fX67_isName (fX67_isName_J66 r23 x0 x2 x4 x5) :=
  (fr_fX67_isName_J67 hr23 x0 x2 x4 x5 0)
theorem fr_fX67_isName_J62 {r23 : Int × Int × Int → zX} (hr23 : ∀ s, zFr W_fX67_isName (r23 s)) (x0 : Int) (x2 : Int) (x4 : Int) (x5 : Int) : zFr W_fX67_isName (fX67_isName_J62 r23 x0 x2 x4 x5) :=
  (fr_fX67_isName_J67 hr23 x0 x2 x4 x5 1)
theorem fr_fX67_isName_B23 (x0 : Int) : ∀ r23 : Int × Int × Int → zX, (∀ s, zFr W_fX67_isName (r23 s)) → ∀ s, zFr W_fX67_isName (fX67_isName_B23 x0 r23 s) := by
  intro r23 hr23 s
  obtain ⟨x2, x3, x4⟩ := s
  unfold fX67_isName_B23
  exact (fr_ite (fr_fX67_isName_J91 x0 x3) (fr_lt fun v2 => (fr_ite (fr_fX67_isName_J66 hr23 x0 x2 x4 v2) (fr_ite (fr_fX67_isName_J66 hr23 x0 x2 x4 v2) (fr_ite (fr_fX67_isName_J62 hr23 x0 x2 x4 v2) (fr_ite (fr_fX67_isName_J66 hr23 x0 x2 x4 v2) (fr_fX67_isName_J62 hr23 x0 x2 x4 v2)))))))
theorem fr_fX67_isName (x0 : Int) : zFr W_fX67_isName (fX67_isName x0) :=
  (fr_cl (fr_mono (by decide) (fr_fX67_isWord x0)) fun v1 => (fr_ite (fr_ret _) (fr_ite (fr_lp (fr_fX67_isName_B23 x0) zBIG (0, 1, 30)) (fr_ret _))))
abbrev W_fX67_dominates : List Nat := []
theorem fr_fX67_dominates (x0 : Int) (x1 : Int) : zFr W_fX67_dominates (fX67_dominates x0 x1) :=
  (fr_ite (fr_ret _) (fr_ite (fr_ret _) (fr_ret _)))
abbrev W_fX67_entryNamed : List Nat := []
theorem fr_fX67_entryNamed_J54 {r6 : Int × Int → zX} (hr6 : ∀ s, zFr W_fX67_entryNamed (r6 s)) (x1 : Int) (x2 : Int) (x5 : Int) (s0 : Int) : zFr W_fX67_entryNamed (fX67_entryNamed_J54 r6 x1 x2 x5 s0) :=
  (fr_lt fun v2 => (hr6 (s0, v2)))
theorem fr_fX67_entryNamed_J52 {r6 : Int × Int → zX} (hr6 : ∀ s, zFr W_fX67_entryNamed (r6 s)) (x1 : Int) (x2 : Int) (x4 : Int) (x5 : Int) : zFr W_fX67_entryNamed (fX67_entryNamed_J52 r6 x1 x2 x4 x5) :=
  (fr_fX67_entryNamed_J54 hr6 x1 x2 x5 x4)
theorem fr_fX67_entryNamed_B6 (x1 : Int) (x2 : Int) : ∀ r6 : Int × Int → zX, (∀ s, zFr W_fX67_entryNamed (r6 s)) → ∀ s, zFr W_fX67_entryNamed (fX67_entryNamed_B6 x1 x2 r6 s) := by
  intro r6 hr6 s
  obtain ⟨x4, x5⟩ := s
  unfold fX67_entryNamed_B6
  exact (fr_ite (fr_ret _) (fr_al fun v1 => (fr_ite (fr_fX67_entryNamed_J52 hr6 x1 x2 x4 x5) (fr_al fun v3 => (fr_ite (fr_fX67_entryNamed_J52 hr6 x1 x2 x4 x5) (fr_al fun v4 => (fr_ite (fr_fX67_entryNamed_J52 hr6 x1 x2 x4 x5) (fr_fX67_entryNamed_J54 hr6 x1 x2 x5 x5))))))))
theorem fr_fX67_entryNamed (x1 : Int) (x2 : Int) : zFr W_fX67_entryNamed (fX67_entryNamed x1 x2) :=
  (fr_lp (fr_fX67_entryNamed_B6 x1 x2) zBIG ((-1), 1))
abbrev W_fX67_costOf : List Nat := []
theorem fr_fX67_costOf (x0 : Int) (x1 : Int) : zFr W_fX67_costOf (fX67_costOf x0 x1) :=
  (fr_ite (fr_ite (fr_ret _) (fr_ret _)) (fr_ret _))
abbrev W_fX67_account : List Nat := []
theorem fr_fX67_account_B2 : ∀ r2 : Int → zX, (∀ s, zFr W_fX67_account (r2 s)) → ∀ s, zFr W_fX67_account (fX67_account_B2 r2 s) := by
  intro r2 hr2 x2
  unfold fX67_account_B2
  exact (fr_al fun v1 => (fr_ite (fr_ret _) (fr_al fun v2 => (hr2 v2))))
theorem fr_fX67_account (x1 : Int) : zFr W_fX67_account (fX67_account x1) :=
  (fr_lp fr_fX67_account_B2 zBIG x1)
abbrev W_fX67_hasRoom : List Nat := []
theorem fr_fX67_hasRoom (x1 : Int) (x2 : Int) : zFr W_fX67_hasRoom (fX67_hasRoom x1 x2) :=
  (fr_cl (fr_mono (by decide) (fr_fX67_account x1)) fun v1 => (fr_al fun v2 => (fr_al fun v3 => (fr_ite (fr_ret _) (fr_ret _)))))
abbrev W_fX67_free : List Nat := []
theorem fr_fX67_free_B2 : ∀ r2 : Int → zX, (∀ s, zFr W_fX67_free (r2 s)) → ∀ s, zFr W_fX67_free (fX67_free_B2 r2 s) := by
  intro r2 hr2 x1
  unfold fX67_free_B2
  exact (fr_ite (fr_ret _) (fr_al fun v1 => (fr_ite (fr_ret _) (fr_lt fun v2 => (hr2 v2)))))
theorem fr_fX67_free : zFr W_fX67_free (fX67_free) :=
  (fr_lp fr_fX67_free_B2 zBIG 0)
abbrev W_fX67_setBrackets : List Nat := [6804]
theorem fr_fX67_setBrackets (x1 : Int) (x2 : Int) (x3 : Int) (x4 : Int) : zFr W_fX67_setBrackets (fX67_setBrackets x1 x2 x3 x4) :=
  (fr_as (by decide) (fr_as (by decide) (fr_as (by decide) (fr_ret _))))
abbrev W_fX67_make : List Nat := [6800, 6801, 6802, 6803, 6804, 6805, 6806, 6807, 6808, 6809, 6810, 6811, 6812, 6814, 6816, 6817]
theorem fr_fX67_make_J190 (x1 : Int) (x2 : Int) (x6 : Int) (x7 : Int) : zFr W_fX67_make (fX67_make_J190 x1 x2 x6 x7) :=
  (fr_cl (fr_mono (by decide) (fr_fX67_setBrackets x7 4 4 4)) fun _ => (fr_cl (fr_mono (by decide) (fr_fX67_account x2)) fun v5 => (fr_al fun v6 => (fr_cl (fr_mono (by decide) (fr_fX67_costOf x1 x6)) fun v7 => (fr_as (by decide) (fr_ret _))))))
theorem fr_fX67_make_B161 (x1 : Int) (x2 : Int) (x6 : Int) (x7 : Int) : ∀ r161 : Int → zX, (∀ s, zFr W_fX67_make (r161 s)) → ∀ s, zFr W_fX67_make (fX67_make_B161 x1 x2 x6 x7 r161 s) := by
  intro r161 hr161 x8
  unfold fX67_make_B161
  exact (fr_ite (fr_fX67_make_J190 x1 x2 x6 x7) (fr_as (by decide) (fr_lt fun v8 => (hr161 v8))))
theorem fr_fX67_make_J82 (x1 : Int) (x2 : Int) (x6 : Int) (x7 : Int) (s1 : Int) (s2 : Int) : zFr W_fX67_make (fX67_make_J82 x1 x2 x6 x7 s1 s2) :=
  (fr_as (by decide) (fr_as (by decide) (fr_as (by decide) (fr_as (by decide) (fr_as (by decide) (fr_as (by decide) (fr_as (by decide) (fr_gf fun v2 => (fr_pf (by decide) (fr_gf fun v3 => (fr_as (by decide) (fr_lp (fr_fX67_make_B161 x1 x2 x6 x7) zBIG 0))))))))))))
theorem fr_fX67_make_J64 (x1 : Int) (x2 : Int) (x6 : Int) (x7 : Int) (s1 : Int) (s2 : Int) : zFr W_fX67_make (fX67_make_J64 x1 x2 x6 x7 s1 s2) :=
  (fr_as (by decide) (fr_ite (fr_fX67_make_J82 x1 x2 x6 x7 x7 0) (fr_fX67_make_J82 x1 x2 x6 x7 x7 x6)))
theorem fr_fX67_make (x1 : Int) (x2 : Int) (x3 : Int) (x5 : Int) (x6 : Int) : zFr W_fX67_make (fX67_make x1 x2 x3 x5 x6) :=
  (fr_cl (fr_mono (by decide) fr_fX67_free) fun v1 => (fr_as (by decide) (fr_as (by decide) (fr_as (by decide) (fr_as (by decide) (fr_as (by decide) (fr_ite (fr_fX67_make_J64 x1 x2 x6 v1 v1 0) (fr_fX67_make_J64 x1 x2 x6 v1 v1 x6))))))))
abbrev W_fX67_addItem : List Nat := [6812, 6813]
theorem fr_fX67_addItem (x1 : Int) (x2 : Int) (x3 : Int) (x4 : Int) : zFr W_fX67_addItem (fX67_addItem x1 x2 x3 x4) :=
  (fr_al fun v1 => (fr_lt fun v2 => (fr_as (by decide) (fr_as (by decide) (fr_as (by decide) (fr_al fun v3 => (fr_as (by decide) (fr_ret _))))))))
abbrev W_fX67_giveFirsts : List Nat := [6812, 6813]
theorem fr_fX67_giveFirsts_J107 {r29 : Int → zX} (hr29 : ∀ s, zFr W_fX67_giveFirsts (r29 s)) (x1 : Int) (x2 : Int) (x3 : Int) (x4 : Int) (x5 : Int) : zFr W_fX67_giveFirsts (fX67_giveFirsts_J107 r29 x1 x2 x3 x4 x5) :=
  (fr_lt fun v11 => (hr29 v11))
theorem fr_fX67_giveFirsts_J77 {r29 : Int → zX} (hr29 : ∀ s, zFr W_fX67_giveFirsts (r29 s)) (x1 : Int) (x2 : Int) (x3 : Int) (x4 : Int) (x5 : Int) (x6 : Int) : zFr W_fX67_giveFirsts (fX67_giveFirsts_J77 r29 x1 x2 x3 x4 x5 x6) :=
  (fr_al fun v7 => (fr_al fun v8 => (fr_al fun v9 => (fr_cl (fr_mono (by decide) (fr_fX67_addItem x1 v7 v8 v9)) fun _ => (fr_fX67_giveFirsts_J107 hr29 x1 x2 x3 x4 x5)))))
theorem fr_fX67_giveFirsts_B29 (x1 : Int) (x2 : Int) (x3 : Int) (x4 : Int) : ∀ r29 : Int → zX, (∀ s, zFr W_fX67_giveFirsts (r29 s)) → ∀ s, zFr W_fX67_giveFirsts (fX67_giveFirsts_B29 x1 x2 x3 x4 r29 s) := by
  intro r29 hr29 x5
  unfold fX67_giveFirsts_B29
  exact (fr_al fun v4 => (fr_ite (fr_ret _) (fr_lt fun v5 => (fr_al fun v6 => (fr_ite (fr_fX67_giveFirsts_J77 hr29 x1 x2 x3 x4 x5 v5) (fr_al fun v12 => (fr_ite (fr_fX67_giveFirsts_J107 hr29 x1 x2 x3 x4 x5) (fr_fX67_giveFirsts_J77 hr29 x1 x2 x3 x4 x5 v5))))))))
theorem fr_fX67_giveFirsts_J23 (x1 : Int) (x2 : Int) (x3 : Int) (s0 : Int) (s1 : Int) : zFr W_fX67_giveFirsts (fX67_giveFirsts_J23 x1 x2 x3 s0 s1) :=
  (fr_lt fun v3 => (fr_lp (fr_fX67_giveFirsts_B29 x1 x2 x3 v3) zBIG 0))
theorem fr_fX67_giveFirsts (x1 : Int) (x2 : Int) (x3 : Int) : zFr W_fX67_giveFirsts (fX67_giveFirsts x1 x2 x3) :=
  (fr_al fun v1 => (fr_al fun v2 => (fr_ite (fr_fX67_giveFirsts_J23 x1 x2 x3 (zi (2 * v1)) 1) (fr_fX67_giveFirsts_J23 x1 x2 x3 (zi (2 * v1)) 0))))
abbrev W_fX67_made : List Nat := [6812, 6813]
theorem fr_fX67_made (x1 : Int) : zFr W_fX67_made (fX67_made x1) :=
  (fr_cl (fr_mono (by decide) (fr_fX67_giveFirsts x1 (-1) (-1))) fun _ => (fr_ret _))
abbrev W_fX67_directory : List Nat := [6800, 6801, 6802, 6803, 6804, 6805, 6806, 6807, 6808, 6809, 6810, 6811, 6812, 6813, 6814, 6816, 6817]
theorem fr_fX67_directory_J75 (x1 : Int) (x2 : Int) (x4 : Int) (x5 : Int) : zFr W_fX67_directory (fX67_directory_J75 x1 x2 x4 x5) :=
  (fr_cl (fr_mono (by decide) (fr_fX67_entryNamed x1 x2)) fun v8 => (fr_ite (fr_cl (fr_mono (by decide) (fr_fX67_costOf 1 x5)) fun v9 => (fr_cl (fr_mono (by decide) (fr_fX67_hasRoom x1 v9)) fun v10 => (fr_ite (fr_cl (fr_mono (by decide) (fr_fX67_make 1 x1 x2 x4 x5)) fun v11 => (fr_cl (fr_mono (by decide) (fr_fX67_made v11)) fun v12 => (fr_ret _))) (fr_ret _)))) (fr_ret _)))
theorem fr_fX67_directory (x1 : Int) (x2 : Int) (x4 : Int) (x5 : Int) : zFr W_fX67_directory (fX67_directory x1 x2 x4 x5) :=
  (fr_cl (fr_mono (by decide) (fr_fX67_isOf x1 1)) fun v1 => (fr_ite (fr_ret _) (fr_cl (fr_mono (by decide) (fr_fX67_isName x2)) fun v2 => (fr_ite (fr_ret _) (fr_cl (fr_mono (by decide) (fr_fX67_in x4 0 31)) fun v3 => (fr_ite (fr_ret _) (fr_al fun v4 => (fr_cl (fr_mono (by decide) (fr_fX67_dominates x4 v4)) fun v5 => (fr_ite (fr_ret _) (fr_cl (fr_mono (by decide) (fr_fX67_in x5 0 255)) fun v6 => (fr_ite (fr_ret _) (fr_al fun v7 => (fr_ite (fr_fX67_directory_J75 x1 x2 x4 x5) (fr_ite (fr_fX67_directory_J75 x1 x2 x4 x5) (fr_ret _)))))))))))))))
abbrev W_fX67_segment : List Nat := [6800, 6801, 6802, 6803, 6804, 6805, 6806, 6807, 6808, 6809, 6810, 6811, 6812, 6813, 6814, 6816, 6817]
theorem fr_fX67_segment (x1 : Int) (x2 : Int) (x4 : Int) : zFr W_fX67_segment (fX67_segment x1 x2 x4) :=
  (fr_cl (fr_mono (by decide) (fr_fX67_isOf x1 1)) fun v1 => (fr_ite (fr_ret _) (fr_cl (fr_mono (by decide) (fr_fX67_isName x2)) fun v2 => (fr_ite (fr_ret _) (fr_cl (fr_mono (by decide) (fr_fX67_in x4 0 1024)) fun v3 => (fr_ite (fr_cl (fr_mono (by decide) (fr_fX67_entryNamed x1 x2)) fun v4 => (fr_ite (fr_cl (fr_mono (by decide) (fr_fX67_costOf 2 x4)) fun v5 => (fr_cl (fr_mono (by decide) (fr_fX67_hasRoom x1 v5)) fun v6 => (fr_ite (fr_al fun v7 => (fr_cl (fr_mono (by decide) (fr_fX67_make 2 x1 x2 v7 x4)) fun v8 => (fr_cl (fr_mono (by decide) (fr_fX67_made v8)) fun v9 => (fr_ret _)))) (fr_ret _)))) (fr_ret _))) (fr_ret _)))))))
abbrev W_fX67_mailbox : List Nat := [6800, 6801, 6802, 6803, 6804, 6805, 6806, 6807, 6808, 6809, 6810, 6811, 6812, 6813, 6814, 6816, 6817]
theorem fr_fX67_mailbox (x1 : Int) (x2 : Int) : zFr W_fX67_mailbox (fX67_mailbox x1 x2) :=
  (fr_cl (fr_mono (by decide) (fr_fX67_isOf x1 1)) fun v1 => (fr_ite (fr_ret _) (fr_cl (fr_mono (by decide) (fr_fX67_isName x2)) fun v2 => (fr_ite (fr_cl (fr_mono (by decide) (fr_fX67_entryNamed x1 x2)) fun v3 => (fr_ite (fr_cl (fr_mono (by decide) (fr_fX67_costOf 3 0)) fun v4 => (fr_cl (fr_mono (by decide) (fr_fX67_hasRoom x1 v4)) fun v5 => (fr_ite (fr_al fun v6 => (fr_cl (fr_mono (by decide) (fr_fX67_make 3 x1 x2 v6 0)) fun v7 => (fr_cl (fr_mono (by decide) (fr_fX67_made v7)) fun v8 => (fr_ret _)))) (fr_ret _)))) (fr_ret _))) (fr_ret _)))))
abbrev W_fX67_isItem : List Nat := []
theorem fr_fX67_isItem (x0 : Int) (x1 : Int) (x2 : Int) : zFr W_fX67_isItem (fX67_isItem x0 x1 x2) :=
  (fr_cl (fr_mono (by decide) (fr_fX67_in x0 0 16)) fun v1 => (fr_ite (fr_ret _) (fr_cl (fr_mono (by decide) (fr_fX67_in x1 0 8)) fun v2 => (fr_ite (fr_ret _) (fr_cl (fr_mono (by decide) (fr_fX67_in x2 0 8)) fun v3 => (fr_ite (fr_ret _) (fr_ret _)))))))
abbrev W_fX67_setItem : List Nat := [6813, 6815]
theorem fr_fX67_setItem_J94 {c1 : Nat} (hc1 : c1 ∈ W_fX67_setItem) (x3 : Int) : zFr W_fX67_setItem (fX67_setItem_J94 c1 x3) :=
  (fr_ret _)
theorem fr_fX67_setItem_B66 {c1 : Nat} (hc1 : c1 ∈ W_fX67_setItem) (x2 : Int) (x3 : Int) : ∀ r66 : Int → zX, (∀ s, zFr W_fX67_setItem (r66 s)) → ∀ s, zFr W_fX67_setItem (fX67_setItem_B66 c1 x2 x3 r66 s) := by
  intro r66 hr66 x9
  unfold fX67_setItem_B66
  exact (fr_ite (fr_fX67_setItem_J94 hc1 x3) (fr_al fun v2 => (fr_as hc1 (fr_lt fun v3 => (hr66 v3)))))
theorem fr_fX67_setItem_J43 {c1 : Nat} (hc1 : c1 ∈ W_fX67_setItem) (x2 : Int) (x3 : Int) (x4 : Int) (x5 : Int) (x6 : Int) (x7 : Int) (x8 : Int) : zFr W_fX67_setItem (fX67_setItem_J43 c1 x2 x3 x4 x5 x6 x7 x8) :=
  (fr_ite (fr_ite (fr_as hc1 (fr_as hc1 (fr_as hc1 (fr_ite (fr_ret _) (fr_ret _))))) (fr_ret _)) (fr_ite (fr_lt fun v1 => (fr_lp (fr_fX67_setItem_B66 hc1 x2 x3) zBIG v1)) (fr_ret _)))
theorem fr_fX67_setItem_J37 {c1 : Nat} (hc1 : c1 ∈ W_fX67_setItem) {r3 : Int → zX} (hr3 : ∀ s, zFr W_fX67_setItem (r3 s)) (x2 : Int) (x3 : Int) (x4 : Int) (x5 : Int) (x6 : Int) (x7 : Int) (x8 : Int) : zFr W_fX67_setItem (fX67_setItem_J37 c1 r3 x2 x3 x4 x5 x6 x7 x8) :=
  (fr_lt fun v5 => (hr3 v5))
theorem fr_fX67_setItem_B3 {c1 : Nat} (hc1 : c1 ∈ W_fX67_setItem) (x2 : Int) (x3 : Int) (x4 : Int) (x5 : Int) (x6 : Int) (x7 : Int) : ∀ r3 : Int → zX, (∀ s, zFr W_fX67_setItem (r3 s)) → ∀ s, zFr W_fX67_setItem (fX67_setItem_B3 c1 x2 x3 x4 x5 x6 x7 r3 s) := by
  intro r3 hr3 x8
  unfold fX67_setItem_B3
  exact (fr_ite (fr_fX67_setItem_J43 hc1 x2 x3 x4 x5 x6 x7 x8) (fr_al fun v4 => (fr_ite (fr_fX67_setItem_J37 hc1 hr3 x2 x3 x4 x5 x6 x7 x8) (fr_al fun v6 => (fr_ite (fr_fX67_setItem_J43 hc1 x2 x3 x4 x5 x6 x7 x8) (fr_fX67_setItem_J37 hc1 hr3 x2 x3 x4 x5 x6 x7 x8))))))
theorem fr_fX67_setItem {c1 : Nat} (hc1 : c1 ∈ W_fX67_setItem) (x2 : Int) (x3 : Int) (x4 : Int) (x5 : Int) (x6 : Int) (x7 : Int) : zFr W_fX67_setItem (fX67_setItem c1 x2 x3 x4 x5 x6 x7) :=
  (fr_lp (fr_fX67_setItem_B3 hc1 x2 x3 x4 x5 x6 x7) zBIG 0)
abbrev W_fX67_initial : List Nat := [6813, 6814, 6815]
theorem fr_fX67_initial_J95 (x7 : Int) (s1 : Int) (s2 : Int) : zFr W_fX67_initial (fX67_initial_J95 x7 s1 s2) :=
  (fr_as (by decide) (fr_ret _))
theorem fr_fX67_initial (x1 : Int) (x2 : Int) (x3 : Int) (x4 : Int) (x5 : Int) : zFr W_fX67_initial (fX67_initial x1 x2 x3 x4 x5) :=
  (fr_cl (fr_mono (by decide) (fr_fX67_isOf x1 1)) fun v1 => (fr_ite (fr_ret _) (fr_cl (fr_mono (by decide) (fr_fX67_in x2 1 2)) fun v2 => (fr_ite (fr_ret _) (fr_cl (fr_mono (by decide) (fr_fX67_isItem x3 x4 x5)) fun v3 => (fr_ite (fr_lt fun v4 => (fr_al fun v5 => (fr_cl (fr_mono (by decide) (fr_fX67_setItem (show 6815 ∈ _ by decide) (zi (9 * v4)) v5 3 x3 x4 x5)) fun v6 => (fr_ite (fr_al fun v7 => (fr_fX67_initial_J95 v6 v4 v7)) (fr_fX67_initial_J95 v6 v4 v6))))) (fr_ret _)))))))
abbrev W_fX67_item : List Nat := [6812, 6813, 6815]
theorem fr_fX67_item_J68 (x5 : Int) (s1 : Int) (s2 : Int) : zFr W_fX67_item (fX67_item_J68 x5 s1 s2) :=
  (fr_as (by decide) (fr_ret _))
theorem fr_fX67_item (x1 : Int) (x2 : Int) (x3 : Int) (x4 : Int) : zFr W_fX67_item (fX67_item x1 x2 x3 x4) :=
  (fr_cl (fr_mono (by decide) (fr_fX67_isNode x1)) fun v1 => (fr_ite (fr_ret _) (fr_cl (fr_mono (by decide) (fr_fX67_isItem x2 x3 x4)) fun v2 => (fr_ite (fr_al fun v3 => (fr_cl (fr_mono (by decide) (fr_fX67_setItem (show 6813 ∈ _ by decide) (zi (18 * x1)) v3 6 x2 x3 x4)) fun v4 => (fr_ite (fr_al fun v5 => (fr_fX67_item_J68 v4 x1 v5)) (fr_fX67_item_J68 v4 x1 v4)))) (fr_ret _)))))
abbrev W_fX67_areBrackets : List Nat := []
theorem fr_fX67_areBrackets_J57 (s0 : Int) (s1 : Int) (s2 : Int) : zFr W_fX67_areBrackets (fX67_areBrackets_J57 s0 s1 s2) :=
  (fr_cl (fr_mono (by decide) (fr_fX67_in s0 s1 s2)) fun v5 => (fr_ite (fr_ret _) (fr_ret _)))
theorem fr_fX67_areBrackets (x1 : Int) (x2 : Int) (x3 : Int) (x4 : Int) (x5 : Int) : zFr W_fX67_areBrackets (fX67_areBrackets x1 x2 x3 x4 x5) :=
  (fr_cl (fr_mono (by decide) (fr_fX67_in x2 0 x3)) fun v1 => (fr_ite (fr_ret _) (fr_cl (fr_mono (by decide) (fr_fX67_in x3 0 x4)) fun v2 => (fr_ite (fr_ret _) (fr_cl (fr_mono (by decide) (fr_fX67_in x4 0 7)) fun v3 => (fr_ite (fr_ret _) (fr_al fun v4 => (fr_ite (fr_fX67_areBrackets_J57 x5 0 0) (fr_fX67_areBrackets_J57 x5 0 63)))))))))
abbrev W_fX67_brackets : List Nat := [6804, 6805]
theorem fr_fX67_brackets (x1 : Int) (x2 : Int) (x3 : Int) (x4 : Int) (x5 : Int) : zFr W_fX67_brackets (fX67_brackets x1 x2 x3 x4 x5) :=
  (fr_cl (fr_mono (by decide) (fr_fX67_isNode x1)) fun v1 => (fr_ite (fr_ret _) (fr_cl (fr_mono (by decide) (fr_fX67_areBrackets x1 x2 x3 x4 x5)) fun v2 => (fr_ite (fr_cl (fr_mono (by decide) (fr_fX67_setBrackets x1 x2 x3 x4)) fun _ => (fr_as (by decide) (fr_ret _))) (fr_ret _)))))
abbrev W_fX67_cost : List Nat := []
theorem fr_fX67_cost_J31 (s0 : Int) (s1 : Int) : zFr W_fX67_cost (fX67_cost_J31 s0 s1) :=
  (fr_cl (fr_mono (by decide) (fr_fX67_costOf s0 s1)) fun v4 => (fr_ret _))
theorem fr_fX67_cost (x1 : Int) : zFr W_fX67_cost (fX67_cost x1) :=
  (fr_al fun v1 => (fr_al fun v2 => (fr_ite (fr_al fun v3 => (fr_fX67_cost_J31 v1 v3)) (fr_al fun v5 => (fr_fX67_cost_J31 v1 v5)))))
abbrev W_fX67_setLength : List Nat := [6806, 6808, 6816]
theorem fr_fX67_setLength_J81 (x1 : Int) (x2 : Int) : zFr W_fX67_setLength (fX67_setLength_J81 x1 x2) :=
  (fr_as (by decide) (fr_ret _))
theorem fr_fX67_setLength_B55 (x1 : Int) (x2 : Int) : ∀ r55 : Int → zX, (∀ s, zFr W_fX67_setLength (r55 s)) → ∀ s, zFr W_fX67_setLength (fX67_setLength_B55 x1 x2 r55 s) := by
  intro r55 hr55 x4
  unfold fX67_setLength_B55
  exact (fr_ite (fr_fX67_setLength_J81 x1 x2) (fr_as (by decide) (fr_lt fun v10 => (hr55 v10))))
theorem fr_fX67_setLength (x1 : Int) (x2 : Int) : zFr W_fX67_setLength (fX67_setLength x1 x2) :=
  (fr_cl (fr_mono (by decide) (fr_fX67_costOf 2 x2)) fun v1 => (fr_cl (fr_mono (by decide) (fr_fX67_cost x1)) fun v2 => (fr_lt fun v3 => (fr_al fun v4 => (fr_cl (fr_mono (by decide) (fr_fX67_hasRoom v4 v3)) fun v5 => (fr_ite (fr_al fun v6 => (fr_cl (fr_mono (by decide) (fr_fX67_account v6)) fun v7 => (fr_al fun v8 => (fr_as (by decide) (fr_al fun v9 => (fr_lp (fr_fX67_setLength_B55 x1 x2) zBIG v9)))))) (fr_ret _)))))))
abbrev W_fX67_length : List Nat := [6806, 6808, 6816]
theorem fr_fX67_length (x1 : Int) (x2 : Int) : zFr W_fX67_length (fX67_length x1 x2) :=
  (fr_cl (fr_mono (by decide) (fr_fX67_isOf x1 2)) fun v1 => (fr_ite (fr_ret _) (fr_cl (fr_mono (by decide) (fr_fX67_in x2 0 1024)) fun v2 => (fr_ite (fr_al fun v3 => (fr_cl (fr_mono (by decide) (fr_fX67_setLength x1 x2)) fun v4 => (fr_ite (fr_ret _) (fr_ret _)))) (fr_ret _)))))
abbrev W_fX67_setLimit : List Nat := [6807, 6808]
theorem fr_fX67_setLimit (x1 : Int) (x2 : Int) : zFr W_fX67_setLimit (fX67_setLimit x1 x2) :=
  (fr_al fun v1 => (fr_ite (fr_ret _) (fr_al fun v2 => (fr_al fun v3 => (fr_cl (fr_mono (by decide) (fr_fX67_hasRoom v2 (zi (x2 - v3)))) fun v4 => (fr_ite (fr_al fun v5 => (fr_cl (fr_mono (by decide) (fr_fX67_account v5)) fun v6 => (fr_al fun v7 => (fr_al fun v8 => (fr_as (by decide) (fr_as (by decide) (fr_ret _))))))) (fr_ret _)))))))
abbrev W_fX67_limit : List Nat := [6807, 6808]
theorem fr_fX67_limit (x1 : Int) (x2 : Int) : zFr W_fX67_limit (fX67_limit x1 x2) :=
  (fr_cl (fr_mono (by decide) (fr_fX67_isOf x1 1)) fun v1 => (fr_ite (fr_ret _) (fr_ite (fr_ret _) (fr_al fun v2 => (fr_ite (fr_ret _) (fr_cl (fr_mono (by decide) (fr_fX67_in x2 1 255)) fun v3 => (fr_ite (fr_al fun v4 => (fr_cl (fr_mono (by decide) (fr_fX67_setLimit x1 x2)) fun v5 => (fr_ite (fr_ret _) (fr_ret _)))) (fr_ret _))))))))
abbrev W_fX67_rename : List Nat := [6801]
theorem fr_fX67_rename_J49 (x1 : Int) (x2 : Int) : zFr W_fX67_rename (fX67_rename_J49 x1 x2) :=
  (fr_as (by decide) (fr_ret _))
theorem fr_fX67_rename (x1 : Int) (x2 : Int) : zFr W_fX67_rename (fX67_rename x1 x2) :=
  (fr_cl (fr_mono (by decide) (fr_fX67_isNode x1)) fun v1 => (fr_ite (fr_ret _) (fr_ite (fr_ret _) (fr_cl (fr_mono (by decide) (fr_fX67_isName x2)) fun v2 => (fr_ite (fr_al fun v3 => (fr_cl (fr_mono (by decide) (fr_fX67_entryNamed v3 x2)) fun v4 => (fr_ite (fr_fX67_rename_J49 x1 x2) (fr_ite (fr_fX67_rename_J49 x1 x2) (fr_ret _))))) (fr_ret _))))))
abbrev W_fX67_forget : List Nat := [6838, 6839]
theorem fr_fX67_forget_J101 {r18 : Int → zX} (hr18 : ∀ s, zFr W_fX67_forget (r18 s)) (x1 : Int) (x2 : Int) (x3 : Int) (s1 : Int) (s2 : Int) : zFr W_fX67_forget (fX67_forget_J101 r18 x1 x2 x3 s1 s2) :=
  (fr_as (by decide) (fr_lt fun v2 => (hr18 v2)))
theorem fr_fX67_forget_J89 {r18 : Int → zX} (hr18 : ∀ s, zFr W_fX67_forget (r18 s)) (x1 : Int) (x2 : Int) (x3 : Int) (s1 : Int) : zFr W_fX67_forget (fX67_forget_J89 r18 x1 x2 x3 s1) :=
  (fr_fX67_forget_J101 hr18 x1 x2 x3 s1 (-1))
theorem fr_fX67_forget_J95 {r18 : Int → zX} (hr18 : ∀ s, zFr W_fX67_forget (r18 s)) (x1 : Int) (x2 : Int) (x3 : Int) (s1 : Int) : zFr W_fX67_forget (fX67_forget_J95 r18 x1 x2 x3 s1) :=
  (fr_al fun v4 => (fr_fX67_forget_J101 hr18 x1 x2 x3 s1 v4))
theorem fr_fX67_forget_J50 {r18 : Int → zX} (hr18 : ∀ s, zFr W_fX67_forget (r18 s)) (x1 : Int) (x2 : Int) (x3 : Int) (s0 : Int) : zFr W_fX67_forget (fX67_forget_J50 r18 x1 x2 x3 s0) :=
  (fr_ite (fr_fX67_forget_J89 hr18 x1 x2 x3 x3) (fr_al fun v3 => (fr_ite (fr_fX67_forget_J95 hr18 x1 x2 x3 x3) (fr_al fun v5 => (fr_ite (fr_fX67_forget_J95 hr18 x1 x2 x3 x3) (fr_fX67_forget_J89 hr18 x1 x2 x3 x3))))))
theorem fr_fX67_forget_B18 (x1 : Int) (x2 : Int) : ∀ r18 : Int → zX, (∀ s, zFr W_fX67_forget (r18 s)) → ∀ s, zFr W_fX67_forget (fX67_forget_B18 x1 x2 r18 s) := by
  intro r18 hr18 x3
  unfold fX67_forget_B18
  exact (fr_ite (fr_ret _) (fr_ite (fr_fX67_forget_J50 hr18 x1 x2 x3 0) (fr_fX67_forget_J50 hr18 x1 x2 x3 1)))
theorem fr_fX67_forget (x1 : Int) (x2 : Int) : zFr W_fX67_forget (fX67_forget x1 x2) :=
  (fr_as (by decide) (fr_lt fun v1 => (fr_lp (fr_fX67_forget_B18 x1 x2) zBIG v1)))
abbrev W_fX67_drop : List Nat := [6800, 6808, 6838, 6839, 6840, 6841]
theorem fr_fX67_drop_J154 {r32 : Int → zX} (hr32 : ∀ s, zFr W_fX67_drop (r32 s)) (x1 : Int) (x2 : Int) : zFr W_fX67_drop (fX67_drop_J154 r32 x1 x2) :=
  (fr_lt fun v8 => (hr32 v8))
theorem fr_fX67_drop_J147 {r32 : Int → zX} (hr32 : ∀ s, zFr W_fX67_drop (r32 s)) {r113 : Int → zX} (hr113 : ∀ s, zFr W_fX67_drop (r113 s)) (x1 : Int) (x2 : Int) (x3 : Int) (s1 : Int) (s2 : Int) : zFr W_fX67_drop (fX67_drop_J147 r32 r113 x1 x2 x3 s1 s2) :=
  (fr_as (by decide) (fr_lt fun v11 => (hr113 v11)))
theorem fr_fX67_drop_B113 {r32 : Int → zX} (hr32 : ∀ s, zFr W_fX67_drop (r32 s)) (x1 : Int) (x2 : Int) : ∀ r113 : Int → zX, (∀ s, zFr W_fX67_drop (r113 s)) → ∀ s, zFr W_fX67_drop (fX67_drop_B113 r32 x1 x2 r113 s) := by
  intro r113 hr113 x3
  unfold fX67_drop_B113
  exact (fr_ite (fr_fX67_drop_J154 hr32 x1 x2) (fr_al fun v9 => (fr_ite (fr_al fun v10 => (fr_fX67_drop_J147 hr32 hr113 x1 x2 x3 x3 v10)) (fr_fX67_drop_J147 hr32 hr113 x1 x2 x3 x3 (-1)))))
theorem fr_fX67_drop_J108 {r32 : Int → zX} (hr32 : ∀ s, zFr W_fX67_drop (r32 s)) (x1 : Int) (x2 : Int) (s1 : Int) (s2 : Int) : zFr W_fX67_drop (fX67_drop_J108 r32 x1 x2 s1 s2) :=
  (fr_as (by decide) (fr_lt fun v7 => (fr_lp (fr_fX67_drop_B113 hr32 x1 x2) zBIG v7)))
theorem fr_fX67_drop_J83 {r32 : Int → zX} (hr32 : ∀ s, zFr W_fX67_drop (r32 s)) (x1 : Int) (x2 : Int) : zFr W_fX67_drop (fX67_drop_J83 r32 x1 x2) :=
  (fr_al fun v5 => (fr_ite (fr_al fun v6 => (fr_fX67_drop_J108 hr32 x1 x2 x2 v6)) (fr_fX67_drop_J108 hr32 x1 x2 x2 0)))
theorem fr_fX67_drop_J77 {r32 : Int → zX} (hr32 : ∀ s, zFr W_fX67_drop (r32 s)) {r41 : Int → zX} (hr41 : ∀ s, zFr W_fX67_drop (r41 s)) (x1 : Int) (x2 : Int) (x3 : Int) : zFr W_fX67_drop (fX67_drop_J77 r32 r41 x1 x2 x3) :=
  (fr_lt fun v13 => (hr41 v13))
theorem fr_fX67_drop_B41 {r32 : Int → zX} (hr32 : ∀ s, zFr W_fX67_drop (r32 s)) (x1 : Int) (x2 : Int) : ∀ r41 : Int → zX, (∀ s, zFr W_fX67_drop (r41 s)) → ∀ s, zFr W_fX67_drop (fX67_drop_B41 r32 x1 x2 r41 s) := by
  intro r41 hr41 x3
  unfold fX67_drop_B41
  exact (fr_ite (fr_fX67_drop_J83 hr32 x1 x2) (fr_al fun v12 => (fr_ite (fr_fX67_drop_J77 hr32 hr41 x1 x2 x3) (fr_al fun v14 => (fr_ite (fr_fX67_drop_J77 hr32 hr41 x1 x2 x3) (fr_cl (fr_mono (by decide) (fr_fX67_forget x2 x3)) fun _ => (fr_fX67_drop_J77 hr32 hr41 x1 x2 x3)))))))
theorem fr_fX67_drop_B32 (x1 : Int) : ∀ r32 : Int → zX, (∀ s, zFr W_fX67_drop (r32 s)) → ∀ s, zFr W_fX67_drop (fX67_drop_B32 x1 r32 s) := by
  intro r32 hr32 x2
  unfold fX67_drop_B32
  exact (fr_ite (fr_ret _) (fr_lp (fr_fX67_drop_B41 hr32 x1 x2) zBIG 8))
theorem fr_fX67_drop (x1 : Int) : zFr W_fX67_drop (fX67_drop x1) :=
  (fr_al fun v1 => (fr_cl (fr_mono (by decide) (fr_fX67_account v1)) fun v2 => (fr_al fun v3 => (fr_cl (fr_mono (by decide) (fr_fX67_cost x1)) fun v4 => (fr_as (by decide) (fr_as (by decide) (fr_lp (fr_fX67_drop_B32 x1) zBIG 0)))))))
abbrev W_fX67_depth : List Nat := []
theorem fr_fX67_depth_B4 : ∀ r4 : Int × Int → zX, (∀ s, zFr W_fX67_depth (r4 s)) → ∀ s, zFr W_fX67_depth (fX67_depth_B4 r4 s) := by
  intro r4 hr4 s
  obtain ⟨x2, x3⟩ := s
  unfold fX67_depth_B4
  exact (fr_ite (fr_ret _) (fr_lt fun v1 => (fr_al fun v2 => (hr4 (v1, v2)))))
theorem fr_fX67_depth (x1 : Int) : zFr W_fX67_depth (fX67_depth x1) :=
  (fr_lp fr_fX67_depth_B4 zBIG (0, x1))
abbrev W_fX67_isWithin : List Nat := []
theorem fr_fX67_isWithin_J21 (x2 : Int) (x3 : Int) : zFr W_fX67_isWithin (fX67_isWithin_J21 x2 x3) :=
  (fr_ite (fr_ret _) (fr_ret _))
theorem fr_fX67_isWithin_B2 (x2 : Int) : ∀ r2 : Int → zX, (∀ s, zFr W_fX67_isWithin (r2 s)) → ∀ s, zFr W_fX67_isWithin (fX67_isWithin_B2 x2 r2 s) := by
  intro r2 hr2 x3
  unfold fX67_isWithin_B2
  exact (fr_ite (fr_fX67_isWithin_J21 x2 x3) (fr_ite (fr_fX67_isWithin_J21 x2 x3) (fr_al fun v1 => (hr2 v1))))
theorem fr_fX67_isWithin (x1 : Int) (x2 : Int) : zFr W_fX67_isWithin (fX67_isWithin x1 x2) :=
  (fr_lp (fr_fX67_isWithin_B2 x2) zBIG x1)
abbrev W_fX67_dropAll : List Nat := [6800, 6808, 6838, 6839, 6840, 6841]
theorem fr_fX67_dropAll_J100 {r4 : Int × Int → zX} (hr4 : ∀ s, zFr W_fX67_dropAll (r4 s)) (x1 : Int) (x2 : Int) (x4 : Int) (s0 : Int) : zFr W_fX67_dropAll (fX67_dropAll_J100 r4 x1 x2 x4 s0) :=
  (fr_cl (fr_mono (by decide) (fr_fX67_drop x4)) fun _ => (fr_lt fun v2 => (hr4 (v2, s0))))
theorem fr_fX67_dropAll_J89 {r4 : Int × Int → zX} (hr4 : ∀ s, zFr W_fX67_dropAll (r4 s)) (x1 : Int) (x2 : Int) (x4 : Int) : zFr W_fX67_dropAll (fX67_dropAll_J89 r4 x1 x2 x4) :=
  (fr_ite (fr_fX67_dropAll_J100 hr4 x1 x2 x4 0) (fr_fX67_dropAll_J100 hr4 x1 x2 x4 1))
theorem fr_fX67_dropAll_J81 {r4 : Int × Int → zX} (hr4 : ∀ s, zFr W_fX67_dropAll (r4 s)) {r14 : Int × Int → zX} (hr14 : ∀ s, zFr W_fX67_dropAll (r14 s)) (x1 : Int) (x2 : Int) (x5 : Int) (s0 : Int) : zFr W_fX67_dropAll (fX67_dropAll_J81 r4 r14 x1 x2 x5 s0) :=
  (fr_lt fun v4 => (hr14 (s0, v4)))
theorem fr_fX67_dropAll_J79 {r4 : Int × Int → zX} (hr4 : ∀ s, zFr W_fX67_dropAll (r4 s)) {r14 : Int × Int → zX} (hr14 : ∀ s, zFr W_fX67_dropAll (r14 s)) (x1 : Int) (x2 : Int) (x4 : Int) (x5 : Int) : zFr W_fX67_dropAll (fX67_dropAll_J79 r4 r14 x1 x2 x4 x5) :=
  (fr_fX67_dropAll_J81 hr4 hr14 x1 x2 x5 x4)
theorem fr_fX67_dropAll_J74 {r4 : Int × Int → zX} (hr4 : ∀ s, zFr W_fX67_dropAll (r4 s)) {r14 : Int × Int → zX} (hr14 : ∀ s, zFr W_fX67_dropAll (r14 s)) (x1 : Int) (x2 : Int) (x5 : Int) : zFr W_fX67_dropAll (fX67_dropAll_J74 r4 r14 x1 x2 x5) :=
  (fr_fX67_dropAll_J81 hr4 hr14 x1 x2 x5 x5)
theorem fr_fX67_dropAll_J47 {r4 : Int × Int → zX} (hr4 : ∀ s, zFr W_fX67_dropAll (r4 s)) {r14 : Int × Int → zX} (hr14 : ∀ s, zFr W_fX67_dropAll (r14 s)) (x1 : Int) (x2 : Int) (x4 : Int) (x5 : Int) (s0 : Int) : zFr W_fX67_dropAll (fX67_dropAll_J47 r4 r14 x1 x2 x4 x5 s0) :=
  (fr_ite (fr_fX67_dropAll_J79 hr4 hr14 x1 x2 x4 x5) (fr_ite (fr_fX67_dropAll_J74 hr4 hr14 x1 x2 x5) (fr_cl (fr_mono (by decide) (fr_fX67_depth x5)) fun v5 => (fr_cl (fr_mono (by decide) (fr_fX67_depth x4)) fun v6 => (fr_ite (fr_fX67_dropAll_J79 hr4 hr14 x1 x2 x4 x5) (fr_fX67_dropAll_J74 hr4 hr14 x1 x2 x5))))))
theorem fr_fX67_dropAll_J46 {r4 : Int × Int → zX} (hr4 : ∀ s, zFr W_fX67_dropAll (r4 s)) {r14 : Int × Int → zX} (hr14 : ∀ s, zFr W_fX67_dropAll (r14 s)) (x1 : Int) (x2 : Int) (x4 : Int) (x5 : Int) : zFr W_fX67_dropAll (fX67_dropAll_J46 r4 r14 x1 x2 x4 x5) :=
  (fr_fX67_dropAll_J47 hr4 hr14 x1 x2 x4 x5 0)
theorem fr_fX67_dropAll_B14 {r4 : Int × Int → zX} (hr4 : ∀ s, zFr W_fX67_dropAll (r4 s)) (x1 : Int) (x2 : Int) : ∀ r14 : Int × Int → zX, (∀ s, zFr W_fX67_dropAll (r14 s)) → ∀ s, zFr W_fX67_dropAll (fX67_dropAll_B14 r4 x1 x2 r14 s) := by
  intro r14 hr14 s
  obtain ⟨x4, x5⟩ := s
  unfold fX67_dropAll_B14
  exact (fr_ite (fr_fX67_dropAll_J89 hr4 x1 x2 x4) (fr_al fun v3 => (fr_ite (fr_fX67_dropAll_J46 hr4 hr14 x1 x2 x4 x5) (fr_cl (fr_mono (by decide) (fr_fX67_isWithin x5 x1)) fun v7 => (fr_ite (fr_fX67_dropAll_J46 hr4 hr14 x1 x2 x4 x5) (fr_fX67_dropAll_J47 hr4 hr14 x1 x2 x4 x5 1))))))
theorem fr_fX67_dropAll_B4 (x1 : Int) : ∀ r4 : Int × Int → zX, (∀ s, zFr W_fX67_dropAll (r4 s)) → ∀ s, zFr W_fX67_dropAll (fX67_dropAll_B4 x1 r4 s) := by
  intro r4 hr4 s
  obtain ⟨x2, x3⟩ := s
  unfold fX67_dropAll_B4
  exact (fr_ite (fr_ret _) (fr_lp (fr_fX67_dropAll_B14 hr4 x1 x2) zBIG ((-1), 1)))
theorem fr_fX67_dropAll (x1 : Int) : zFr W_fX67_dropAll (fX67_dropAll x1) :=
  (fr_lp (fr_fX67_dropAll_B4 x1) zBIG (0, 1))
abbrev W_fX67_remove : List Nat := [6800, 6808, 6838, 6839, 6840, 6841]
theorem fr_fX67_remove (x1 : Int) : zFr W_fX67_remove (fX67_remove x1) :=
  (fr_cl (fr_mono (by decide) (fr_fX67_isNode x1)) fun v1 => (fr_ite (fr_ret _) (fr_ite (fr_cl (fr_mono (by decide) (fr_fX67_dropAll x1)) fun v2 => (fr_ret _)) (fr_ret _))))
abbrev W_fX67_find : List Nat := []
theorem fr_fX67_find (x1 : Int) (x2 : Int) : zFr W_fX67_find (fX67_find x1 x2) :=
  (fr_cl (fr_mono (by decide) (fr_fX67_isOf x1 1)) fun v1 => (fr_ite (fr_cl (fr_mono (by decide) (fr_fX67_entryNamed x1 x2)) fun v2 => (fr_ret _)) (fr_ret _)))
abbrev W_fX67_countEntries : List Nat := []
theorem fr_fX67_countEntries_J37 {r4 : Int × Int → zX} (hr4 : ∀ s, zFr W_fX67_countEntries (r4 s)) (x1 : Int) (x3 : Int) (s0 : Int) : zFr W_fX67_countEntries (fX67_countEntries_J37 r4 x1 x3 s0) :=
  (fr_lt fun v2 => (hr4 (s0, v2)))
theorem fr_fX67_countEntries_J36 {r4 : Int × Int → zX} (hr4 : ∀ s, zFr W_fX67_countEntries (r4 s)) (x1 : Int) (x2 : Int) (x3 : Int) : zFr W_fX67_countEntries (fX67_countEntries_J36 r4 x1 x2 x3) :=
  (fr_fX67_countEntries_J37 hr4 x1 x3 x2)
theorem fr_fX67_countEntries_B4 (x1 : Int) : ∀ r4 : Int × Int → zX, (∀ s, zFr W_fX67_countEntries (r4 s)) → ∀ s, zFr W_fX67_countEntries (fX67_countEntries_B4 x1 r4 s) := by
  intro r4 hr4 s
  obtain ⟨x2, x3⟩ := s
  unfold fX67_countEntries_B4
  exact (fr_ite (fr_ret _) (fr_al fun v1 => (fr_ite (fr_fX67_countEntries_J36 hr4 x1 x2 x3) (fr_al fun v3 => (fr_ite (fr_fX67_countEntries_J36 hr4 x1 x2 x3) (fr_fX67_countEntries_J37 hr4 x1 x3 (zi (x2 + 1))))))))
theorem fr_fX67_countEntries (x1 : Int) : zFr W_fX67_countEntries (fX67_countEntries x1) :=
  (fr_lp (fr_fX67_countEntries_B4 x1) zBIG (0, 1))
abbrev W_fX67_about : List Nat := []
theorem fr_fX67_about (x1 : Int) (x2 : Int) : zFr W_fX67_about (fX67_about x1 x2) :=
  (fr_cl (fr_mono (by decide) (fr_fX67_isNode x1)) fun v1 => (fr_ite (fr_ite (fr_al fun v3 => (fr_ret _)) (fr_ite (fr_al fun v5 => (fr_ret _)) (fr_ite (fr_al fun v7 => (fr_ret _)) (fr_ite (fr_al fun v9 => (fr_ret _)) (fr_ite (fr_al fun v11 => (fr_ret _)) (fr_ite (fr_al fun v13 => (fr_ret _)) (fr_ite (fr_al fun v15 => (fr_ret _)) (fr_ite (fr_al fun v17 => (fr_ret _)) (fr_ite (fr_al fun v19 => (fr_ret _)) (fr_ite (fr_al fun v21 => (fr_ret _)) (fr_ite (fr_cl (fr_mono (by decide) (fr_fX67_countEntries x1)) fun v23 => (fr_ret _)) (fr_ite (fr_al fun v25 => (fr_ret _)) (fr_ite (fr_al fun v27 => (fr_ret _)) (fr_ite (fr_al fun v29 => (fr_ret _)) (fr_ite (fr_al fun v31 => (fr_ret _)) (fr_ite (fr_al fun v33 => (fr_ret _)) (fr_ite (fr_al fun v35 => (fr_ret _)) (fr_ret _)))))))))))))))))) (fr_ret _)))
abbrev W_fX67_modesFor : List Nat := []
theorem fr_fX67_modesFor_J154 {r9 : Int × Int × Int → zX} (hr9 : ∀ s, zFr W_fX67_modesFor (r9 s)) (x1 : Int) (x2 : Int) (x3 : Int) (x4 : Int) (x5 : Int) (x6 : Int) : zFr W_fX67_modesFor (fX67_modesFor_J154 r9 x1 x2 x3 x4 x5 x6) :=
  (fr_lt fun v8 => (hr9 (x4, x5, v8)))
theorem fr_fX67_modesFor_J124 {r9 : Int × Int × Int → zX} (hr9 : ∀ s, zFr W_fX67_modesFor (r9 s)) (x1 : Int) (x2 : Int) (x3 : Int) (x4 : Int) (x5 : Int) (x6 : Int) (x7 : Int) (x8 : Int) (s0 : Int) (s1 : Int) : zFr W_fX67_modesFor (fX67_modesFor_J124 r9 x1 x2 x3 x4 x5 x6 x7 x8 s0 s1) :=
  (fr_lt fun v7 => (fr_ite (fr_fX67_modesFor_J154 hr9 x1 x2 x3 x4 x5 x6) (fr_ite (fr_fX67_modesFor_J154 hr9 x1 x2 x3 x4 x5 x6) (fr_al fun v9 => (fr_fX67_modesFor_J154 hr9 x1 x2 x3 v7 v9 x6)))))
theorem fr_fX67_modesFor_J105 {r9 : Int × Int × Int → zX} (hr9 : ∀ s, zFr W_fX67_modesFor (r9 s)) (x1 : Int) (x2 : Int) (x3 : Int) (x4 : Int) (x5 : Int) (x6 : Int) (x7 : Int) (x8 : Int) (s0 : Int) : zFr W_fX67_modesFor (fX67_modesFor_J105 r9 x1 x2 x3 x4 x5 x6 x7 x8 s0) :=
  (fr_al fun v6 => (fr_ite (fr_fX67_modesFor_J124 hr9 x1 x2 x3 x4 x5 x6 x7 x8 s0 1) (fr_fX67_modesFor_J124 hr9 x1 x2 x3 x4 x5 x6 x7 x8 s0 0)))
theorem fr_fX67_modesFor_J86 {r9 : Int × Int × Int → zX} (hr9 : ∀ s, zFr W_fX67_modesFor (r9 s)) (x1 : Int) (x2 : Int) (x3 : Int) (x4 : Int) (x5 : Int) (x6 : Int) (x7 : Int) (s0 : Int) : zFr W_fX67_modesFor (fX67_modesFor_J86 r9 x1 x2 x3 x4 x5 x6 x7 s0) :=
  (fr_al fun v5 => (fr_ite (fr_fX67_modesFor_J105 hr9 x1 x2 x3 x4 x5 x6 x7 s0 2) (fr_fX67_modesFor_J105 hr9 x1 x2 x3 x4 x5 x6 x7 s0 0)))
theorem fr_fX67_modesFor_J81 {r9 : Int × Int × Int → zX} (hr9 : ∀ s, zFr W_fX67_modesFor (r9 s)) (x1 : Int) (x2 : Int) (x3 : Int) (x4 : Int) (x5 : Int) (x6 : Int) (x7 : Int) : zFr W_fX67_modesFor (fX67_modesFor_J81 r9 x1 x2 x3 x4 x5 x6 x7) :=
  (fr_fX67_modesFor_J86 hr9 x1 x2 x3 x4 x5 x6 x7 1)
theorem fr_fX67_modesFor_J85 {r9 : Int × Int × Int → zX} (hr9 : ∀ s, zFr W_fX67_modesFor (r9 s)) (x1 : Int) (x2 : Int) (x3 : Int) (x4 : Int) (x5 : Int) (x6 : Int) (x7 : Int) : zFr W_fX67_modesFor (fX67_modesFor_J85 r9 x1 x2 x3 x4 x5 x6 x7) :=
  (fr_fX67_modesFor_J86 hr9 x1 x2 x3 x4 x5 x6 x7 0)
theorem fr_fX67_modesFor_J54 {r9 : Int × Int × Int → zX} (hr9 : ∀ s, zFr W_fX67_modesFor (r9 s)) (x1 : Int) (x2 : Int) (x3 : Int) (x4 : Int) (x5 : Int) (x6 : Int) (x7 : Int) : zFr W_fX67_modesFor (fX67_modesFor_J54 r9 x1 x2 x3 x4 x5 x6 x7) :=
  (fr_al fun v4 => (fr_ite (fr_fX67_modesFor_J81 hr9 x1 x2 x3 x4 x5 x6 x7) (fr_al fun v10 => (fr_ite (fr_fX67_modesFor_J85 hr9 x1 x2 x3 x4 x5 x6 x7) (fr_fX67_modesFor_J81 hr9 x1 x2 x3 x4 x5 x6 x7)))))
theorem fr_fX67_modesFor_B9 (x1 : Int) (x2 : Int) (x3 : Int) : ∀ r9 : Int × Int × Int → zX, (∀ s, zFr W_fX67_modesFor (r9 s)) → ∀ s, zFr W_fX67_modesFor (fX67_modesFor_B9 x1 x2 x3 r9 s) := by
  intro r9 hr9 s
  obtain ⟨x4, x5, x6⟩ := s
  unfold fX67_modesFor_B9
  exact (fr_al fun v1 => (fr_ite (fr_ret _) (fr_lt fun v2 => (fr_al fun v3 => (fr_ite (fr_fX67_modesFor_J54 hr9 x1 x2 x3 x4 x5 x6 v2) (fr_al fun v11 => (fr_ite (fr_fX67_modesFor_J85 hr9 x1 x2 x3 x4 x5 x6 v2) (fr_fX67_modesFor_J54 hr9 x1 x2 x3 x4 x5 x6 v2))))))))
theorem fr_fX67_modesFor (x1 : Int) (x2 : Int) (x3 : Int) : zFr W_fX67_modesFor (fX67_modesFor x1 x2 x3) :=
  (fr_lp (fr_fX67_modesFor_B9 x1 x2 x3) zBIG ((-1), 0, 0))
abbrev W_fX67_modes : List Nat := []
theorem fr_fX67_modes (x1 : Int) (x2 : Int) (x3 : Int) : zFr W_fX67_modes (fX67_modes x1 x2 x3) :=
  (fr_cl (fr_mono (by decide) (fr_fX67_isNode x1)) fun v1 => (fr_ite (fr_ret _) (fr_cl (fr_mono (by decide) (fr_fX67_in x2 0 15)) fun v2 => (fr_ite (fr_ret _) (fr_cl (fr_mono (by decide) (fr_fX67_in x3 0 7)) fun v3 => (fr_ite (fr_cl (fr_mono (by decide) (fr_fX67_modesFor x1 x2 x3)) fun v4 => (fr_ret _)) (fr_ret _)))))))
abbrev W_fX67_isPlace : List Nat := []
theorem fr_fX67_isPlace (x1 : Int) (x2 : Int) : zFr W_fX67_isPlace (fX67_isPlace x1 x2) :=
  (fr_cl (fr_mono (by decide) (fr_fX67_isOf x1 2)) fun v1 => (fr_ite (fr_ret _) (fr_al fun v2 => (fr_cl (fr_mono (by decide) (fr_fX67_in x2 0 (zi (v2 - 1)))) fun v3 => (fr_ite (fr_ret _) (fr_ret _))))))
abbrev W_fX67_word : List Nat := []
theorem fr_fX67_word (x1 : Int) (x2 : Int) : zFr W_fX67_word (fX67_word x1 x2) :=
  (fr_cl (fr_mono (by decide) (fr_fX67_isPlace x1 x2)) fun v1 => (fr_ite (fr_ret _) (fr_al fun v2 => (fr_ret _))))
abbrev W_fX67_put : List Nat := [6816]
theorem fr_fX67_put (x1 : Int) (x2 : Int) (x3 : Int) : zFr W_fX67_put (fX67_put x1 x2 x3) :=
  (fr_cl (fr_mono (by decide) (fr_fX67_isPlace x1 x2)) fun v1 => (fr_ite (fr_cl (fr_mono (by decide) (fr_fX67_isWord x3)) fun v2 => (fr_ite (fr_al fun v3 => (fr_as (by decide) (fr_ret _))) (fr_ret _))) (fr_ret _)))
abbrev W_fX67_letter : List Nat := []
theorem fr_fX67_letter (x1 : Int) (x2 : Int) (x3 : Int) : zFr W_fX67_letter (fX67_letter x1 x2 x3) :=
  (fr_cl (fr_mono (by decide) (fr_fX67_isOf x1 3)) fun v1 => (fr_ite (fr_ret _) (fr_al fun v2 => (fr_cl (fr_mono (by decide) (fr_fX67_in x2 0 (zi (v2 - 1)))) fun v3 => (fr_ite (fr_ite (fr_ite (fr_ret _) (fr_al fun v4 => (fr_ret _))) (fr_al fun v5 => (fr_ret _))) (fr_ret _))))))
abbrev W_fX67_audit : List Nat := []
theorem fr_fX67_audit (x1 : Int) (x2 : Int) : zFr W_fX67_audit (fX67_audit x1 x2) :=
  (fr_ite (fr_ret _) (fr_gf fun v1 => (fr_ite (fr_ret _) (fr_gf fun v2 => (fr_ite (fr_cl (fr_mono (by decide) (fr_fX67_in x2 0 3)) fun v3 => (fr_ite (fr_ret _) (fr_al fun v4 => (fr_ret _)))) (fr_ret _))))))
abbrev W_fX67_login : List Nat := [6820, 6821, 6822, 6823, 6824, 6825, 6826, 6827, 6828, 6829, 6830, 6831, 6832, 6833, 6834, 6835, 6836, 6837, 6838, 6839, 6840, 6841, 6842, 6846, 6848, 6860, 6862]
theorem fr_fX67_login_J339 (x4 : Int) (x5 : Int) (x6 : Int) (x7 : Int) : zFr W_fX67_login (fX67_login_J339 x4 x5 x6 x7) :=
  (fr_as (by decide) (fr_as (by decide) (fr_as (by decide) (fr_as (by decide) (fr_as (by decide) (fr_as (by decide) (fr_as (by decide) (fr_as (by decide) (fr_as (by decide) (fr_as (by decide) (fr_as (by decide) (fr_as (by decide) (fr_as (by decide) (fr_ret _))))))))))))))
theorem fr_fX67_login_B312 (x4 : Int) (x5 : Int) (x6 : Int) (x7 : Int) : ∀ r312 : Int → zX, (∀ s, zFr W_fX67_login (r312 s)) → ∀ s, zFr W_fX67_login (fX67_login_B312 x4 x5 x6 x7 r312 s) := by
  intro r312 hr312 x8
  unfold fX67_login_B312
  exact (fr_ite (fr_fX67_login_J339 x4 x5 x6 x7) (fr_as (by decide) (fr_lt fun v10 => (hr312 v10))))
theorem fr_fX67_login_J305 (x4 : Int) (x5 : Int) (x6 : Int) (x7 : Int) : zFr W_fX67_login (fX67_login_J305 x4 x5 x6 x7) :=
  (fr_lt fun v9 => (fr_lp (fr_fX67_login_B312 x4 x5 x6 x7) zBIG v9))
theorem fr_fX67_login_B266 (x4 : Int) (x5 : Int) (x6 : Int) (x7 : Int) : ∀ r266 : Int → zX, (∀ s, zFr W_fX67_login (r266 s)) → ∀ s, zFr W_fX67_login (fX67_login_B266 x4 x5 x6 x7 r266 s) := by
  intro r266 hr266 x8
  unfold fX67_login_B266
  exact (fr_ite (fr_fX67_login_J305 x4 x5 x6 x7) (fr_as (by decide) (fr_as (by decide) (fr_lt fun v11 => (hr266 v11)))))
theorem fr_fX67_login_J258 (x4 : Int) (x5 : Int) (x6 : Int) (x7 : Int) : zFr W_fX67_login (fX67_login_J258 x4 x5 x6 x7) :=
  (fr_lt fun v8 => (fr_lp (fr_fX67_login_B266 x4 x5 x6 x7) zBIG v8))
theorem fr_fX67_login_B215 (x4 : Int) (x5 : Int) (x6 : Int) (x7 : Int) : ∀ r215 : Int → zX, (∀ s, zFr W_fX67_login (r215 s)) → ∀ s, zFr W_fX67_login (fX67_login_B215 x4 x5 x6 x7 r215 s) := by
  intro r215 hr215 x8
  unfold fX67_login_B215
  exact (fr_ite (fr_fX67_login_J258 x4 x5 x6 x7) (fr_as (by decide) (fr_as (by decide) (fr_as (by decide) (fr_lt fun v12 => (hr215 v12))))))
theorem fr_fX67_login_J208 (x4 : Int) (x5 : Int) (x6 : Int) (x7 : Int) : zFr W_fX67_login (fX67_login_J208 x4 x5 x6 x7) :=
  (fr_lt fun v7 => (fr_lp (fr_fX67_login_B215 x4 x5 x6 x7) zBIG v7))
theorem fr_fX67_login_B170 (x4 : Int) (x5 : Int) (x6 : Int) (x7 : Int) : ∀ r170 : Int → zX, (∀ s, zFr W_fX67_login (r170 s)) → ∀ s, zFr W_fX67_login (fX67_login_B170 x4 x5 x6 x7 r170 s) := by
  intro r170 hr170 x8
  unfold fX67_login_B170
  exact (fr_ite (fr_fX67_login_J208 x4 x5 x6 x7) (fr_as (by decide) (fr_as (by decide) (fr_lt fun v13 => (hr170 v13)))))
theorem fr_fX67_login_J101 (x1 : Int) (x2 : Int) (x3 : Int) (x4 : Int) (x5 : Int) (x6 : Int) (x7 : Int) : zFr W_fX67_login (fX67_login_J101 x1 x2 x3 x4 x5 x6 x7) :=
  (fr_ite (fr_as (by decide) (fr_as (by decide) (fr_as (by decide) (fr_as (by decide) (fr_as (by decide) (fr_as (by decide) (fr_as (by decide) (fr_lp (fr_fX67_login_B170 x4 x5 x6 x7) zBIG 0)))))))) (fr_ret _))
theorem fr_fX67_login_B78 (x1 : Int) (x2 : Int) (x3 : Int) (x4 : Int) (x5 : Int) (x6 : Int) : ∀ r78 : Int → zX, (∀ s, zFr W_fX67_login (r78 s)) → ∀ s, zFr W_fX67_login (fX67_login_B78 x1 x2 x3 x4 x5 x6 r78 s) := by
  intro r78 hr78 x7
  unfold fX67_login_B78
  exact (fr_ite (fr_fX67_login_J101 x1 x2 x3 x4 x5 x6 x7) (fr_al fun v14 => (fr_ite (fr_fX67_login_J101 x1 x2 x3 x4 x5 x6 x7) (fr_lt fun v15 => (hr78 v15)))))
theorem fr_fX67_login (x1 : Int) (x2 : Int) (x3 : Int) (x4 : Int) (x5 : Int) (x6 : Int) : zFr W_fX67_login (fX67_login x1 x2 x3 x4 x5 x6) :=
  (fr_cl (fr_mono (by decide) (fr_fX67_in x1 0 15)) fun v1 => (fr_ite (fr_ret _) (fr_cl (fr_mono (by decide) (fr_fX67_in x2 0 7)) fun v2 => (fr_ite (fr_ret _) (fr_cl (fr_mono (by decide) (fr_fX67_in x3 0 31)) fun v3 => (fr_ite (fr_ret _) (fr_cl (fr_mono (by decide) (fr_fX67_isOf x4 2)) fun v4 => (fr_ite (fr_ret _) (fr_cl (fr_mono (by decide) (fr_fX67_in x5 0 262143)) fun v5 => (fr_ite (fr_ret _) (fr_cl (fr_mono (by decide) (fr_fX67_in x6 0 7)) fun v6 => (fr_ite (fr_lp (fr_fX67_login_B78 x1 x2 x3 x4 x5 x6) zBIG 0) (fr_ret _)))))))))))))
abbrev W_fX67_isThere : List Nat := []
theorem fr_fX67_isThere (x1 : Int) : zFr W_fX67_isThere (fX67_isThere x1) :=
  (fr_cl (fr_mono (by decide) (fr_fX67_in x1 0 7)) fun v1 => (fr_ite (fr_ret _) (fr_al fun v2 => (fr_ite (fr_ret _) (fr_ret _)))))
abbrev W_fX67_logout : List Nat := [6820]
theorem fr_fX67_logout (x1 : Int) : zFr W_fX67_logout (fX67_logout x1) :=
  (fr_cl (fr_mono (by decide) (fr_fX67_isThere x1)) fun v1 => (fr_ite (fr_as (by decide) (fr_ret _)) (fr_ret _)))
abbrev W_fX67_send : List Nat := [6846, 6847]
theorem fr_fX67_send (x1 : Int) (x2 : Int) : zFr W_fX67_send (fX67_send x1 x2) :=
  (fr_cl (fr_mono (by decide) (fr_fX67_isThere x1)) fun v1 => (fr_ite (fr_ret _) (fr_cl (fr_mono (by decide) (fr_fX67_isWord x2)) fun v2 => (fr_ite (fr_al fun v3 => (fr_ite (fr_al fun v4 => (fr_as (by decide) (fr_al fun v5 => (fr_as (by decide) (fr_al fun v6 => (fr_ret _)))))) (fr_ret _))) (fr_ret _)))))
abbrev W_fX67_missing : List Nat := []
theorem fr_fX67_missing_J50 (s0 : Int) (s1 : Int) : zFr W_fX67_missing (fX67_missing_J50 s0 s1) :=
  (fr_ite (fr_ret _) (fr_ret _))
theorem fr_fX67_missing_J22 (x1 : Int) (x2 : Int) (x3 : Int) : zFr W_fX67_missing (fX67_missing_J22 x1 x2 x3) :=
  (fr_ite (fr_fX67_missing_J50 x3 64) (fr_al fun v1 => (fr_al fun v2 => (fr_fX67_missing_J50 x3 v2))))
theorem fr_fX67_missing (x1 : Int) (x2 : Int) (x3 : Int) : zFr W_fX67_missing (fX67_missing x1 x2 x3) :=
  (fr_ite (fr_fX67_missing_J22 x1 x2 x3) (fr_al fun v3 => (fr_ite (fr_fX67_missing_J22 x1 x2 x3) (fr_ret _))))
abbrev W_fX67_fail : List Nat := [6874, 6875, 6876, 6877]
theorem fr_fX67_fail (x1 : Int) (x2 : Int) (x3 : Int) (x4 : Int) : zFr W_fX67_fail (fX67_fail x1 x2 x3 x4) :=
  (fr_gf fun v1 => (fr_ite (fr_ret _) (fr_pf (by decide) (fr_pf (by decide) (fr_pf (by decide) (fr_pf (by decide) (fr_ret _)))))))
abbrev W_fX67_barred : List Nat := []
theorem fr_fX67_barred_J157 (s0 : Int) : zFr W_fX67_barred (fX67_barred_J157 s0) :=
  (fr_ite (fr_ret _) (fr_ret _))
theorem fr_fX67_barred_J156 : zFr W_fX67_barred (fX67_barred_J156) :=
  (fr_fX67_barred_J157 0)
theorem fr_fX67_barred_J91 (x3 : Int) (x4 : Int) (x5 : Int) (x6 : Int) (s0 : Int) : zFr W_fX67_barred (fX67_barred_J91 x3 x4 x5 x6 s0) :=
  (fr_ite (fr_ite (fr_ite (fr_ite fr_fX67_barred_J156 (fr_ite fr_fX67_barred_J156 (fr_fX67_barred_J157 1))) (fr_ite (fr_fX67_barred_J157 0) (fr_fX67_barred_J157 1))) (fr_ite (fr_fX67_barred_J157 0) (fr_fX67_barred_J157 1))) (fr_ret _))
theorem fr_fX67_barred (x1 : Int) (x2 : Int) (x3 : Int) (x4 : Int) : zFr W_fX67_barred (fX67_barred x1 x2 x3 x4) :=
  (fr_al fun v1 => (fr_al fun v2 => (fr_al fun v3 => (fr_al fun v4 => (fr_cl (fr_mono (by decide) (fr_fX67_modesFor x2 v3 v4)) fun v5 => (fr_ite (fr_ite (fr_al fun v6 => (fr_al fun v7 => (fr_cl (fr_mono (by decide) (fr_fX67_dominates v6 v7)) fun v8 => (fr_fX67_barred_J91 x3 x4 v1 v2 v8)))) (fr_al fun v9 => (fr_al fun v10 => (fr_ite (fr_fX67_barred_J91 x3 x4 v1 v2 0) (fr_fX67_barred_J91 x3 x4 v1 v2 1))))) (fr_ret _)))))))
abbrev W_fX67_access : List Nat := [6874, 6875, 6876, 6877]
theorem fr_fX67_access_J88 (x6 : Int) : zFr W_fX67_access (fX67_access_J88 x6) :=
  (fr_ite (fr_ret _) (fr_ret _))
theorem fr_fX67_access_J73 (x2 : Int) (x3 : Int) (x4 : Int) (x6 : Int) : zFr W_fX67_access (fX67_access_J73 x2 x3 x4 x6) :=
  (fr_ite (fr_fX67_access_J88 x6) (fr_cl (fr_mono (by decide) (fr_fX67_fail x6 x2 x3 x4)) fun _ => (fr_fX67_access_J88 x6)))
theorem fr_fX67_access_J46 (x1 : Int) (x2 : Int) (x3 : Int) (x4 : Int) (x5 : Int) (x6 : Int) : zFr W_fX67_access (fX67_access_J46 x1 x2 x3 x4 x5 x6) :=
  (fr_ite (fr_fX67_access_J73 x2 x3 x4 x6) (fr_al fun v3 => (fr_cl (fr_mono (by decide) (fr_fX67_barred x1 v3 x4 x5)) fun v4 => (fr_fX67_access_J73 x2 x3 x4 v4))))
theorem fr_fX67_access_J41 (x2 : Int) (x3 : Int) (x4 : Int) (s0 : Int) : zFr W_fX67_access (fX67_access_J41 x2 x3 x4 s0) :=
  (fr_fX67_access_J73 x2 x3 x4 s0)
theorem fr_fX67_access (x1 : Int) (x2 : Int) (x3 : Int) (x4 : Int) (x5 : Int) : zFr W_fX67_access (fX67_access x1 x2 x3 x4 x5) :=
  (fr_cl (fr_mono (by decide) (fr_fX67_missing x1 x2 x3)) fun v1 => (fr_ite (fr_fX67_access_J46 x1 x2 x3 x4 x5 v1) (fr_ite (fr_fX67_access_J46 x1 x2 x3 x4 x5 v1) (fr_ite (fr_ite (fr_fX67_access_J41 x2 x3 x4 0) (fr_fX67_access_J41 x2 x3 x4 5)) (fr_fX67_access_J41 x2 x3 x4 3)))))
abbrev W_fX67_wordAt : List Nat := []
theorem fr_fX67_wordAt (x1 : Int) (x2 : Int) (x3 : Int) : zFr W_fX67_wordAt (fX67_wordAt x1 x2 x3) :=
  (fr_ite (fr_al fun v1 => (fr_al fun v2 => (fr_ret _))) (fr_al fun v3 => (fr_ret _)))
abbrev W_fX67_isLegal : List Nat := []
theorem fr_fX67_isLegal_J168 (x1 : Int) (x3 : Int) : zFr W_fX67_isLegal (fX67_isLegal_J168 x1 x3) :=
  (fr_gf fun v10 => (fr_ite (fr_ret _) (fr_ite (fr_ret _) (fr_ite (fr_ret _) (fr_ret _)))))
theorem fr_fX67_isLegal_J151 (x1 : Int) (x3 : Int) : zFr W_fX67_isLegal (fX67_isLegal_J151 x1 x3) :=
  (fr_gf fun v9 => (fr_ite (fr_fX67_isLegal_J168 x1 x3) (fr_gf fun v11 => (fr_ite (fr_ret _) (fr_fX67_isLegal_J168 x1 x3)))))
theorem fr_fX67_isLegal_J129 (x1 : Int) (x2 : Int) (s0 : Int) : zFr W_fX67_isLegal (fX67_isLegal_J129 x1 x2 s0) :=
  (fr_gf fun v7 => (fr_ite (fr_ret _) (fr_gf fun v8 => (fr_ite (fr_fX67_isLegal_J151 x1 s0) (fr_ite (fr_ret _) (fr_fX67_isLegal_J151 x1 s0))))))
theorem fr_fX67_isLegal_J124 (x1 : Int) (x2 : Int) : zFr W_fX67_isLegal (fX67_isLegal_J124 x1 x2) :=
  (fr_fX67_isLegal_J129 x1 x2 1)
theorem fr_fX67_isLegal_J78 (x1 : Int) (s0 : Int) : zFr W_fX67_isLegal (fX67_isLegal_J78 x1 s0) :=
  (fr_gf fun v6 => (fr_ite (fr_fX67_isLegal_J124 x1 s0) (fr_gf fun v12 => (fr_ite (fr_fX67_isLegal_J124 x1 s0) (fr_gf fun v13 => (fr_ite (fr_fX67_isLegal_J124 x1 s0) (fr_gf fun v14 => (fr_ite (fr_fX67_isLegal_J124 x1 s0) (fr_gf fun v15 => (fr_ite (fr_fX67_isLegal_J129 x1 s0 0) (fr_fX67_isLegal_J124 x1 s0)))))))))))
theorem fr_fX67_isLegal_J73 (x1 : Int) : zFr W_fX67_isLegal (fX67_isLegal_J73 x1) :=
  (fr_fX67_isLegal_J78 x1 1)
theorem fr_fX67_isLegal (x1 : Int) : zFr W_fX67_isLegal (fX67_isLegal x1) :=
  (fr_gf fun v1 => (fr_ite (fr_gf fun v2 => (fr_ite (fr_ret _) (fr_gf fun v3 => (fr_ite (fr_gf fun v4 => (fr_cl (fr_mono (by decide) (fr_fX67_in v4 2 13)) fun v5 => (fr_ite (fr_fX67_isLegal_J73 x1) (fr_gf fun v16 => (fr_cl (fr_mono (by decide) (fr_fX67_in v16 20 24)) fun v17 => (fr_ite (fr_fX67_isLegal_J73 x1) (fr_gf fun v18 => (fr_ite (fr_fX67_isLegal_J78 x1 0) (fr_fX67_isLegal_J73 x1))))))))) (fr_ret _))))) (fr_ret _)))
abbrev W_fX67_may : List Nat := [6874, 6875, 6876, 6877]
theorem fr_fX67_may (x1 : Int) (x2 : Int) : zFr W_fX67_may (fX67_may x1 x2) :=
  (fr_gf fun v1 => (fr_gf fun v2 => (fr_gf fun v3 => (fr_cl (fr_mono (by decide) (fr_fX67_access x1 v1 v2 v3 x2)) fun v4 => (fr_rb _)))))
abbrev W_fX67_setWord : List Nat := [6816, 6837]
theorem fr_fX67_setWord (x1 : Int) (x2 : Int) (x3 : Int) (x4 : Int) : zFr W_fX67_setWord (fX67_setWord x1 x2 x3 x4) :=
  (fr_ite (fr_al fun v1 => (fr_as (by decide) (fr_ret _))) (fr_as (by decide) (fr_ret _)))
abbrev W_fX67_pointerWord : List Nat := []
theorem fr_fX67_pointerWord (x0 : Int) (x1 : Int) (x2 : Int) : zFr W_fX67_pointerWord (fX67_pointerWord x0 x1 x2) :=
  (fr_ret _)
abbrev W_fX67_flag : List Nat := [6834, 6835]
theorem fr_fX67_flag_J35 (s1 : Int) (s2 : Int) : zFr W_fX67_flag (fX67_flag_J35 s1 s2) :=
  (fr_as (by decide) (fr_ret _))
theorem fr_fX67_flag_J16 (x1 : Int) (x2 : Int) (s1 : Int) (s2 : Int) : zFr W_fX67_flag (fX67_flag_J16 x1 x2 s1 s2) :=
  (fr_as (by decide) (fr_ite (fr_fX67_flag_J35 x1 0) (fr_fX67_flag_J35 x1 1)))
theorem fr_fX67_flag (x1 : Int) (x2 : Int) : zFr W_fX67_flag (fX67_flag x1 x2) :=
  (fr_ite (fr_fX67_flag_J16 x1 x2 x1 0) (fr_fX67_flag_J16 x1 x2 x1 1))
abbrev W_fX67_write : List Nat := [6816, 6825, 6834, 6835, 6837, 6874, 6875, 6876, 6877]
theorem fr_fX67_write_J18 (x1 : Int) (x2 : Int) : zFr W_fX67_write (fX67_write_J18 x1 x2) :=
  (fr_cl (fr_mono (by decide) (fr_fX67_may x1 4)) fun v2 => (fr_ite (fr_gf fun v3 => (fr_gf fun v4 => (fr_cl (fr_mono (by decide) (fr_fX67_wordAt x1 v3 v4)) fun v5 => (fr_lt fun v6 => (fr_gf fun v7 => (fr_ite (fr_gf fun v9 => (fr_gf fun v10 => (fr_al fun v11 => (fr_cl (fr_mono (by decide) (fr_fX67_setWord x1 v9 v10 v11)) fun _ => (fr_ret _))))) (fr_ite (fr_gf fun v14 => (fr_gf fun v15 => (fr_al fun v16 => (fr_cl (fr_mono (by decide) (fr_fX67_setWord x1 v14 v15 v16)) fun _ => (fr_ret _))))) (fr_ite (fr_gf fun v19 => (fr_gf fun v20 => (fr_al fun v21 => (fr_cl (fr_mono (by decide) (fr_fX67_setWord x1 v19 v20 v21)) fun _ => (fr_ret _))))) (fr_ite (fr_gf fun v24 => (fr_gf fun v25 => (fr_al fun v26 => (fr_al fun v27 => (fr_al fun v28 => (fr_cl (fr_mono (by decide) (fr_fX67_pointerWord v26 v27 v28)) fun v29 => (fr_cl (fr_mono (by decide) (fr_fX67_setWord x1 v24 v25 v29)) fun _ => (fr_ret _)))))))) (fr_ite (fr_gf fun v32 => (fr_gf fun v33 => (fr_cl (fr_mono (by decide) (fr_fX67_setWord x1 v32 v33 ((zl (v5 + 1)) % 68719476736))) fun _ => (fr_cl (fr_mono (by decide) (fr_fX67_flag x1 ((zl (v5 + 1)) % 68719476736))) fun _ => (fr_ret _))))) (fr_gf fun v36 => (fr_gf fun v37 => (fr_al fun v38 => (fr_cl (fr_mono (by decide) (fr_fX67_setWord x1 v36 v37 v38)) fun _ => (fr_as (by decide) (fr_cl (fr_mono (by decide) (fr_fX67_flag x1 v5)) fun _ => (fr_ret _))))))))))))))))) (fr_ret _)))
theorem fr_fX67_write (x1 : Int) (x2 : Int) : zFr W_fX67_write (fX67_write x1 x2) :=
  (fr_gf fun v1 => (fr_ite (fr_fX67_write_J18 x1 x2) (fr_cl (fr_mono (by decide) (fr_fX67_may x1 1)) fun v41 => (fr_ite (fr_ret _) (fr_fX67_write_J18 x1 x2)))))
abbrev W_fX67_value : List Nat := [6874, 6875, 6876, 6877]
theorem fr_fX67_value_J32 (s0 : Int) : zFr W_fX67_value (fX67_value_J32 s0) :=
  (fr_ret _)
theorem fr_fX67_value (x1 : Int) : zFr W_fX67_value (fX67_value x1) :=
  (fr_gf fun v1 => (fr_ite (fr_cl (fr_mono (by decide) (fr_fX67_may x1 1)) fun v2 => (fr_ite (fr_ret _) (fr_gf fun v3 => (fr_gf fun v4 => (fr_cl (fr_mono (by decide) (fr_fX67_wordAt x1 v3 v4)) fun v5 => (fr_ret _)))))) (fr_gf fun v6 => (fr_ite (fr_gf fun v7 => (fr_fX67_value_J32 (zi (v7 - 262144)))) (fr_gf fun v8 => (fr_fX67_value_J32 v8))))))
abbrev W_fX67_signed : List Nat := []
theorem fr_fX67_signed (x0 : Int) : zFr W_fX67_signed (fX67_signed x0) :=
  (fr_ite (fr_ret _) (fr_ret _))
abbrev W_fX67_flagHalf : List Nat := [6834, 6835]
theorem fr_fX67_flagHalf_J32 (s1 : Int) (s2 : Int) : zFr W_fX67_flagHalf (fX67_flagHalf_J32 s1 s2) :=
  (fr_as (by decide) (fr_ret _))
theorem fr_fX67_flagHalf_J14 (x1 : Int) (x2 : Int) (s1 : Int) (s2 : Int) : zFr W_fX67_flagHalf (fX67_flagHalf_J14 x1 x2 s1 s2) :=
  (fr_as (by decide) (fr_ite (fr_fX67_flagHalf_J32 x1 0) (fr_fX67_flagHalf_J32 x1 1)))
theorem fr_fX67_flagHalf (x1 : Int) (x2 : Int) : zFr W_fX67_flagHalf (fX67_flagHalf x1 x2) :=
  (fr_ite (fr_fX67_flagHalf_J14 x1 x2 x1 0) (fr_fX67_flagHalf_J14 x1 x2 x1 1))
abbrev W_fX67_reckon : List Nat := [6825, 6826, 6827, 6834, 6835, 6874, 6875, 6876, 6877]
theorem fr_fX67_reckon_J383 (x1 : Int) : zFr W_fX67_reckon (fX67_reckon_J383 x1) :=
  (fr_al fun v7 => (fr_cl (fr_mono (by decide) (fr_fX67_flag x1 v7)) fun _ => (fr_ret _)))
theorem fr_fX67_reckon_J326 (s1 : Int) (s2 : Int) : zFr W_fX67_reckon (fX67_reckon_J326 s1 s2) :=
  (fr_as (by decide) (fr_ret _))
theorem fr_fX67_reckon_J302 (x1 : Int) (x3 : Int) (x5 : Int) (s1 : Int) (s2 : Int) : zFr W_fX67_reckon (fX67_reckon_J302 x1 x3 x5 s1 s2) :=
  (fr_as (by decide) (fr_cl (fr_mono (by decide) (fr_fX67_signed x5)) fun v25 => (fr_cl (fr_mono (by decide) (fr_fX67_signed x3)) fun v26 => (fr_ite (fr_fX67_reckon_J326 x1 0) (fr_fX67_reckon_J326 x1 1)))))
theorem fr_fX67_reckon_J364 (x1 : Int) (x7 : Int) (s1 : Int) (s2 : Int) : zFr W_fX67_reckon (fX67_reckon_J364 x1 x7 s1 s2) :=
  (fr_as (by decide) (fr_al fun v30 => (fr_cl (fr_mono (by decide) (fr_fX67_flagHalf x1 v30)) fun _ => (fr_ret _))))
theorem fr_fX67_reckon_J52 (x1 : Int) (x2 : Int) (x3 : Int) : zFr W_fX67_reckon (fX67_reckon_J52 x1 x2 x3) :=
  (fr_gf fun v3 => (fr_ite (fr_al fun v4 => (fr_gf fun v5 => (fr_ite (fr_as (by decide) (fr_fX67_reckon_J383 x1)) (fr_ite (fr_as (by decide) (fr_cl (fr_mono (by decide) (fr_fX67_flag x1 x3)) fun _ => (fr_ret _))) (fr_ite (fr_as (by decide) (fr_fX67_reckon_J383 x1)) (fr_ite (fr_as (by decide) (fr_fX67_reckon_J383 x1)) (fr_ite (fr_as (by decide) (fr_fX67_reckon_J383 x1)) (fr_ite (fr_cl (fr_mono (by decide) (fr_fX67_signed v4)) fun v15 => (fr_cl (fr_mono (by decide) (fr_fX67_signed x3)) fun v16 => (fr_ne (fr_as (by decide) (fr_cl (fr_mono (by decide) (fr_fX67_signed v4)) fun v18 => (fr_cl (fr_mono (by decide) (fr_fX67_signed x3)) fun v19 => (fr_ne (fr_as (by decide) (fr_fX67_reckon_J383 x1))))))))) (fr_ite (fr_as (by decide) (fr_fX67_reckon_J383 x1)) (fr_ite (fr_as (by decide) (fr_fX67_reckon_J383 x1)) (fr_ite (fr_as (by decide) (fr_fX67_reckon_J383 x1)) (fr_ite (fr_ite (fr_fX67_reckon_J302 x1 x3 v4 x1 0) (fr_fX67_reckon_J302 x1 x3 v4 x1 1)) (fr_lt fun v27 => (fr_gf fun v28 => (fr_ite (fr_al fun v29 => (fr_fX67_reckon_J364 x1 v27 v27 (zl (v29 + x3)))) (fr_fX67_reckon_J364 x1 v27 v27 x3)))))))))))))))) (fr_ret _)))
theorem fr_fX67_reckon (x1 : Int) (x2 : Int) : zFr W_fX67_reckon (fX67_reckon x1 x2) :=
  (fr_cl (fr_mono (by decide) (fr_fX67_value x1)) fun v1 => (fr_gf fun v2 => (fr_ite (fr_fX67_reckon_J52 x1 x2 v1) (fr_ite (fr_fX67_reckon_J52 x1 x2 v1) (fr_gf fun v32 => (fr_ite (fr_fX67_reckon_J52 x1 x2 v1) (fr_al fun v33 => (fr_al fun v34 => (fr_al fun v35 => (fr_cl (fr_mono (by decide) (fr_fX67_fail 12 v33 v34 v35)) fun _ => (fr_fX67_reckon_J52 x1 x2 v1)))))))))))
abbrev W_fX67_shifted : List Nat := []
theorem fr_fX67_shifted_J60 (s0 : Int) (s1 : Int) : zFr W_fX67_shifted (fX67_shifted_J60 s0 s1) :=
  (fr_ret _)
theorem fr_fX67_shifted (x0 : Int) (x2 : Int) (x3 : Int) : zFr W_fX67_shifted (fX67_shifted x0 x2 x3) :=
  (fr_ite (fr_ite (fr_cl (fr_mono (by decide) (fr_fX67_signed x0)) fun v1 => (fr_ite (fr_fX67_shifted_J60 v1 x3) (fr_fX67_shifted_J60 v1 40))) (fr_ite (fr_ret _) (fr_ret _))) (fr_ite (fr_ret _) (fr_ret _)))
abbrev W_fX67_place : List Nat := [6825, 6827, 6828, 6829, 6830, 6834, 6835]
theorem fr_fX67_place (x1 : Int) (x2 : Int) : zFr W_fX67_place (fX67_place x1 x2) :=
  (fr_gf fun v1 => (fr_ite (fr_gf fun v3 => (fr_as (by decide) (fr_gf fun v4 => (fr_cl (fr_mono (by decide) (fr_fX67_flagHalf x1 v4)) fun _ => (fr_ret _))))) (fr_ite (fr_gf fun v7 => (fr_as (by decide) (fr_al fun v8 => (fr_cl (fr_mono (by decide) (fr_fX67_flag x1 v8)) fun _ => (fr_ret _))))) (fr_ite (fr_gf fun v11 => (fr_as (by decide) (fr_gf fun v12 => (fr_as (by decide) (fr_gf fun v13 => (fr_as (by decide) (fr_ret _))))))) (fr_ite (fr_gf fun v15 => (fr_gf fun v16 => (fr_gf fun v17 => (fr_cl (fr_mono (by decide) (fr_fX67_pointerWord v15 v16 v17)) fun v18 => (fr_as (by decide) (fr_ret _)))))) (fr_al fun v19 => (fr_gf fun v20 => (fr_gf fun v21 => (fr_cl (fr_mono (by decide) (fr_fX67_shifted v19 v20 v21)) fun v22 => (fr_as (by decide) (fr_al fun v23 => (fr_cl (fr_mono (by decide) (fr_fX67_flag x1 v23)) fun _ => (fr_ret _)))))))))))))
abbrev W_fX67_go : List Nat := [6831, 6832]
theorem fr_fX67_go (x1 : Int) : zFr W_fX67_go (fX67_go x1) :=
  (fr_gf fun v1 => (fr_as (by decide) (fr_gf fun v2 => (fr_as (by decide) (fr_ret _)))))
abbrev W_fX67_jump : List Nat := [6827, 6831, 6832, 6834, 6835]
theorem fr_fX67_jump_J147 (x1 : Int) (s0 : Int) : zFr W_fX67_jump (fX67_jump_J147 x1 s0) :=
  (fr_ite (fr_ret _) (fr_cl (fr_mono (by decide) (fr_fX67_go x1)) fun _ => (fr_ret _)))
theorem fr_fX67_jump_J142 (x1 : Int) : zFr W_fX67_jump (fX67_jump_J142 x1) :=
  (fr_fX67_jump_J147 x1 1)
theorem fr_fX67_jump_J146 (x1 : Int) : zFr W_fX67_jump (fX67_jump_J146 x1) :=
  (fr_fX67_jump_J147 x1 0)
theorem fr_fX67_jump_J124 (x1 : Int) : zFr W_fX67_jump (fX67_jump_J124 x1) :=
  (fr_gf fun v7 => (fr_ite (fr_fX67_jump_J146 x1) (fr_al fun v8 => (fr_ite (fr_fX67_jump_J146 x1) (fr_fX67_jump_J142 x1)))))
theorem fr_fX67_jump_J106 (x1 : Int) : zFr W_fX67_jump (fX67_jump_J106 x1) :=
  (fr_gf fun v6 => (fr_ite (fr_fX67_jump_J124 x1) (fr_al fun v9 => (fr_ite (fr_fX67_jump_J142 x1) (fr_fX67_jump_J124 x1)))))
theorem fr_fX67_jump_J88 (x1 : Int) : zFr W_fX67_jump (fX67_jump_J88 x1) :=
  (fr_gf fun v5 => (fr_ite (fr_fX67_jump_J106 x1) (fr_al fun v10 => (fr_ite (fr_fX67_jump_J142 x1) (fr_fX67_jump_J106 x1)))))
theorem fr_fX67_jump (x1 : Int) (x2 : Int) : zFr W_fX67_jump (fX67_jump x1 x2) :=
  (fr_gf fun v1 => (fr_ite (fr_gf fun v2 => (fr_ite (fr_fX67_jump_J142 x1) (fr_gf fun v4 => (fr_ite (fr_fX67_jump_J88 x1) (fr_al fun v11 => (fr_ite (fr_fX67_jump_J142 x1) (fr_fX67_jump_J88 x1))))))) (fr_lt fun v12 => (fr_al fun v13 => (fr_as (by decide) (fr_al fun v14 => (fr_cl (fr_mono (by decide) (fr_fX67_flagHalf x1 v14)) fun _ => (fr_al fun v16 => (fr_ite (fr_ret _) (fr_cl (fr_mono (by decide) (fr_fX67_go x1)) fun _ => (fr_ret _)))))))))))
abbrev W_fX67_tell : List Nat := [6860, 6861, 6862]
theorem fr_fX67_tell_J103 (x1 : Int) : zFr W_fX67_tell (fX67_tell_J103 x1) :=
  (fr_al fun v3 => (fr_as (by decide) (fr_ret _)))
theorem fr_fX67_tell_B64 (x1 : Int) (x9 : Int) : ∀ r64 : Int → zX, (∀ s, zFr W_fX67_tell (r64 s)) → ∀ s, zFr W_fX67_tell (fX67_tell_B64 x1 x9 r64 s) := by
  intro r64 hr64 x10
  unfold fX67_tell_B64
  exact (fr_ite (fr_fX67_tell_J103 x1) (fr_al fun v4 => (fr_al fun v5 => (fr_as (by decide) (fr_lt fun v6 => (hr64 v6))))))
theorem fr_fX67_tell (x1 : Int) (x2 : Int) (x3 : Int) (x5 : Int) (x7 : Int) : zFr W_fX67_tell (fX67_tell x1 x2 x3 x5 x7) :=
  (fr_al fun v1 => (fr_lt fun v2 => (fr_as (by decide) (fr_as (by decide) (fr_as (by decide) (fr_as (by decide) (fr_lp (fr_fX67_tell_B64 x1 v2) zBIG v2)))))))
abbrev W_fX67_act : List Nat := [6816, 6821, 6825, 6826, 6827, 6828, 6829, 6830, 6831, 6832, 6834, 6835, 6837, 6860, 6861, 6862, 6874, 6875, 6876, 6877]
theorem fr_fX67_act_J215 (s1 : Int) (s2 : Int) : zFr W_fX67_act (fX67_act_J215 s1 s2) :=
  (fr_as (by decide) (fr_ret _))
theorem fr_fX67_act_J193 (x1 : Int) (x3 : Int) : zFr W_fX67_act (fX67_act_J193 x1 x3) :=
  (fr_gf fun v9 => (fr_ite (fr_fX67_act_J215 x1 (Int.tmod (zi (x3 + 1)) 262144)) (fr_fX67_act_J215 x1 x3)))
theorem fr_fX67_act (x1 : Int) (x2 : Int) (x3 : Int) : zFr W_fX67_act (fX67_act x1 x2 x3) :=
  (fr_gf fun v1 => (fr_ite (fr_gf fun v2 => (fr_ite (fr_gf fun v3 => (fr_ite (fr_gf fun v4 => (fr_ite (fr_gf fun v5 => (fr_ite (fr_gf fun v6 => (fr_ite (fr_ret _) (fr_as (by decide) (fr_gf fun v7 => (fr_ite (fr_cl (fr_mono (by decide) (fr_fX67_write x1 x2)) fun _ => (fr_fX67_act_J193 x1 x3)) (fr_cl (fr_mono (by decide) (fr_fX67_reckon x1 x2)) fun _ => (fr_fX67_act_J193 x1 x3))))))) (fr_cl (fr_mono (by decide) (fr_fX67_place x1 x2)) fun _ => (fr_ret _)))) (fr_cl (fr_mono (by decide) (fr_fX67_jump x1 x2)) fun _ => (fr_ret _)))) (fr_al fun v13 => (fr_as (by decide) (fr_al fun v14 => (fr_cl (fr_mono (by decide) (fr_fX67_flag x1 v14)) fun _ => (fr_ret _))))))) (fr_al fun v16 => (fr_al fun v17 => (fr_as (by decide) (fr_as (by decide) (fr_al fun v18 => (fr_cl (fr_mono (by decide) (fr_fX67_flag x1 v18)) fun _ => (fr_ret _))))))))) (fr_as (by decide) (fr_cl (fr_mono (by decide) (fr_fX67_tell x1 6 0 0 0)) fun _ => (fr_ret _)))))
abbrev W_fX67_isOfEntry : List Nat := []
theorem fr_fX67_isOfEntry (x0 : Int) : zFr W_fX67_isOfEntry (fX67_isOfEntry x0) :=
  (fr_ite (fr_ret _) (fr_ite (fr_ret _) (fr_ite (fr_ret _) (fr_cl (fr_mono (by decide) (fr_fX67_in x0 10 13)) fun v1 => (fr_ite (fr_ret _) (fr_ite (fr_ret _) (fr_cl (fr_mono (by decide) (fr_fX67_in x0 25 27)) fun v2 => (fr_ite (fr_ret _) (fr_ret _)))))))))
abbrev W_fX67_askDirectory : List Nat := []
theorem fr_fX67_askDirectory_J92 (s0 : Int) (s2 : Int) (s3 : Int) : zFr W_fX67_askDirectory (fX67_askDirectory_J92 s0 s2 s3) :=
  (fr_al fun v7 => (fr_ite (fr_ret _) (fr_ret _)))
theorem fr_fX67_askDirectory_J69 (x1 : Int) (x2 : Int) (x3 : Int) : zFr W_fX67_askDirectory (fX67_askDirectory_J69 x1 x2 x3) :=
  (fr_al fun v6 => (fr_ite (fr_fX67_askDirectory_J92 v6 (zi (3 * x2)) 0) (fr_fX67_askDirectory_J92 v6 (zi (3 * x2)) 1)))
theorem fr_fX67_askDirectory (x1 : Int) (x2 : Int) (x3 : Int) : zFr W_fX67_askDirectory (fX67_askDirectory x1 x2 x3) :=
  (fr_al fun v1 => (fr_al fun v2 => (fr_cl (fr_mono (by decide) (fr_fX67_modesFor x2 v1 v2)) fun v3 => (fr_ite (fr_ite (fr_al fun v4 => (fr_al fun v5 => (fr_ite (fr_fX67_askDirectory_J69 x1 x2 x3) (fr_ret _)))) (fr_al fun v8 => (fr_al fun v9 => (fr_cl (fr_mono (by decide) (fr_fX67_dominates v8 v9)) fun v10 => (fr_ite (fr_fX67_askDirectory_J69 x1 x2 x3) (fr_ret _)))))) (fr_ret _)))))
abbrev W_fX67_add : List Nat := [6800, 6801, 6802, 6803, 6804, 6805, 6806, 6807, 6808, 6809, 6810, 6811, 6812, 6813, 6814, 6816, 6817, 6886]
theorem fr_fX67_add_J292 (x1 : Int) (x8 : Int) (s1 : Int) (s2 : Int) (s3 : Int) (s4 : Int) : zFr W_fX67_add (fX67_add_J292 x1 x8 s1 s2 s3 s4) :=
  (fr_cl (fr_mono (by decide) (fr_fX67_make s1 s2 s3 s4 x8)) fun v12 => (fr_al fun v13 => (fr_al fun v14 => (fr_al fun v15 => (fr_cl (fr_mono (by decide) (fr_fX67_setBrackets v12 v13 v14 v15)) fun _ => (fr_al fun v17 => (fr_al fun v18 => (fr_cl (fr_mono (by decide) (fr_fX67_addItem v12 v17 v18 7)) fun _ => (fr_al fun v20 => (fr_al fun v21 => (fr_cl (fr_mono (by decide) (fr_fX67_giveFirsts v12 v20 v21)) fun _ => (fr_ret _))))))))))))
theorem fr_fX67_add_J223 (x1 : Int) (x2 : Int) (x3 : Int) (x5 : Int) (s0 : Int) : zFr W_fX67_add (fX67_add_J223 x1 x2 x3 x5 s0) :=
  (fr_al fun v6 => (fr_cl (fr_mono (by decide) (fr_fX67_entryNamed x3 v6)) fun v7 => (fr_ite (fr_cl (fr_mono (by decide) (fr_fX67_costOf x5 s0)) fun v8 => (fr_cl (fr_mono (by decide) (fr_fX67_hasRoom x3 v8)) fun v9 => (fr_ite (fr_al fun v10 => (fr_ite (fr_al fun v11 => (fr_fX67_add_J292 x1 s0 x5 x3 v10 v11)) (fr_al fun v23 => (fr_fX67_add_J292 x1 s0 x5 x3 v10 (zi v23))))) (fr_ret _)))) (fr_ret _))))
theorem fr_fX67_add_J187 (x1 : Int) (x2 : Int) (x3 : Int) (x5 : Int) (x6 : Int) (x7 : Int) : zFr W_fX67_add (fX67_add_J187 x1 x2 x3 x5 x6 x7) :=
  (fr_ite (fr_ite (fr_ite (fr_fX67_add_J223 x1 x2 x3 x5 0) (fr_fX67_add_J223 x1 x2 x3 x5 x6)) (fr_al fun v24 => (fr_fX67_add_J223 x1 x2 x3 x5 (zi v24)))) (fr_ret _))
theorem fr_fX67_add_J185 (x1 : Int) (x2 : Int) (x3 : Int) (x5 : Int) (x6 : Int) (s0 : Int) : zFr W_fX67_add (fX67_add_J185 x1 x2 x3 x5 x6 s0) :=
  (fr_fX67_add_J187 x1 x2 x3 x5 x6 s0)
theorem fr_fX67_add_J184 (x1 : Int) (x2 : Int) (x3 : Int) (x5 : Int) (x6 : Int) : zFr W_fX67_add (fX67_add_J184 x1 x2 x3 x5 x6) :=
  (fr_fX67_add_J185 x1 x2 x3 x5 x6 0)
theorem fr_fX67_add_J180 (x1 : Int) (x2 : Int) (x3 : Int) (x5 : Int) (x6 : Int) : zFr W_fX67_add (fX67_add_J180 x1 x2 x3 x5 x6) :=
  (fr_fX67_add_J185 x1 x2 x3 x5 x6 1)
theorem fr_fX67_add_J102 (x1 : Int) (x2 : Int) (x3 : Int) (x5 : Int) (x6 : Int) (s0 : Int) : zFr W_fX67_add (fX67_add_J102 x1 x2 x3 x5 x6 s0) :=
  (fr_fX67_add_J187 x1 x2 x3 x5 x6 s0)
theorem fr_fX67_add_J101 (x1 : Int) (x2 : Int) (x3 : Int) (x5 : Int) (x6 : Int) : zFr W_fX67_add (fX67_add_J101 x1 x2 x3 x5 x6) :=
  (fr_fX67_add_J102 x1 x2 x3 x5 x6 0)
theorem fr_fX67_add_J50 (x1 : Int) (x2 : Int) (x3 : Int) (s0 : Int) : zFr W_fX67_add (fX67_add_J50 x1 x2 x3 s0) :=
  (fr_al fun v3 => (fr_al fun v4 => (fr_cl (fr_mono (by decide) (fr_fX67_isName v4)) fun v5 => (fr_ite (fr_ite (fr_fX67_add_J187 x1 x2 x3 s0 v3 v5) (fr_ite (fr_fX67_add_J184 x1 x2 x3 s0 v3) (fr_al fun v25 => (fr_ite (fr_fX67_add_J184 x1 x2 x3 s0 v3) (fr_al fun v26 => (fr_al fun v27 => (fr_cl (fr_mono (by decide) (fr_fX67_dominates (zi v26) v27)) fun v28 => (fr_ite (fr_fX67_add_J184 x1 x2 x3 s0 v3) (fr_ite (fr_fX67_add_J184 x1 x2 x3 s0 v3) (fr_al fun v29 => (fr_al fun v30 => (fr_ite (fr_fX67_add_J180 x1 x2 x3 s0 v3) (fr_ite (fr_fX67_add_J184 x1 x2 x3 s0 v3) (fr_fX67_add_J180 x1 x2 x3 s0 v3)))))))))))))) (fr_ite (fr_fX67_add_J101 x1 x2 x3 s0 v3) (fr_al fun v31 => (fr_ite (fr_fX67_add_J101 x1 x2 x3 s0 v3) (fr_fX67_add_J102 x1 x2 x3 s0 v3 1))))))))
theorem fr_fX67_add (x1 : Int) (x2 : Int) : zFr W_fX67_add (fX67_add x1 x2) :=
  (fr_al fun v1 => (fr_pf (by decide) (fr_cl (fr_mono (by decide) (fr_fX67_askDirectory x1 v1 4)) fun v2 => (fr_ite (fr_ite (fr_ite (fr_fX67_add_J50 x1 x2 v1 3) (fr_fX67_add_J50 x1 x2 v1 1)) (fr_fX67_add_J50 x1 x2 v1 2)) (fr_ret _)))))
abbrev W_fX67_note : List Nat := [6865, 6866]
theorem fr_fX67_note (x1 : Int) (x2 : Int) (x3 : Int) (x4 : Int) : zFr W_fX67_note (fX67_note x1 x2 x3 x4) :=
  (fr_gf fun v1 => (fr_lt fun v2 => (fr_as (by decide) (fr_as (by decide) (fr_as (by decide) (fr_as (by decide) (fr_gf fun v3 => (fr_pf (by decide) (fr_ret _)))))))))
abbrev W_fX67_entryBehind : List Nat := []
theorem fr_fX67_entryBehind_J94 {r5 : Int × Int → zX} (hr5 : ∀ s, zFr W_fX67_entryBehind (r5 s)) (x1 : Int) (x2 : Int) (x4 : Int) (s0 : Int) : zFr W_fX67_entryBehind (fX67_entryBehind_J94 r5 x1 x2 x4 s0) :=
  (fr_lt fun v2 => (hr5 (s0, v2)))
theorem fr_fX67_entryBehind_J93 {r5 : Int × Int → zX} (hr5 : ∀ s, zFr W_fX67_entryBehind (r5 s)) (x1 : Int) (x2 : Int) (x3 : Int) (x4 : Int) : zFr W_fX67_entryBehind (fX67_entryBehind_J93 r5 x1 x2 x3 x4) :=
  (fr_fX67_entryBehind_J94 hr5 x1 x2 x4 x3)
theorem fr_fX67_entryBehind_J88 {r5 : Int × Int → zX} (hr5 : ∀ s, zFr W_fX67_entryBehind (r5 s)) (x1 : Int) (x2 : Int) (x4 : Int) : zFr W_fX67_entryBehind (fX67_entryBehind_J88 r5 x1 x2 x4) :=
  (fr_fX67_entryBehind_J94 hr5 x1 x2 x4 x4)
theorem fr_fX67_entryBehind_J60 {r5 : Int × Int → zX} (hr5 : ∀ s, zFr W_fX67_entryBehind (r5 s)) (x1 : Int) (x2 : Int) (x3 : Int) (x4 : Int) (s0 : Int) : zFr W_fX67_entryBehind (fX67_entryBehind_J60 r5 x1 x2 x3 x4 s0) :=
  (fr_ite (fr_fX67_entryBehind_J93 hr5 x1 x2 x3 x4) (fr_ite (fr_fX67_entryBehind_J88 hr5 x1 x2 x4) (fr_al fun v3 => (fr_al fun v4 => (fr_ite (fr_fX67_entryBehind_J93 hr5 x1 x2 x3 x4) (fr_fX67_entryBehind_J88 hr5 x1 x2 x4))))))
theorem fr_fX67_entryBehind_J59 {r5 : Int × Int → zX} (hr5 : ∀ s, zFr W_fX67_entryBehind (r5 s)) (x1 : Int) (x2 : Int) (x3 : Int) (x4 : Int) : zFr W_fX67_entryBehind (fX67_entryBehind_J59 r5 x1 x2 x3 x4) :=
  (fr_fX67_entryBehind_J60 hr5 x1 x2 x3 x4 0)
theorem fr_fX67_entryBehind_J55 {r5 : Int × Int → zX} (hr5 : ∀ s, zFr W_fX67_entryBehind (r5 s)) (x1 : Int) (x2 : Int) (x3 : Int) (x4 : Int) : zFr W_fX67_entryBehind (fX67_entryBehind_J55 r5 x1 x2 x3 x4) :=
  (fr_fX67_entryBehind_J60 hr5 x1 x2 x3 x4 1)
theorem fr_fX67_entryBehind_B5 (x1 : Int) (x2 : Int) : ∀ r5 : Int × Int → zX, (∀ s, zFr W_fX67_entryBehind (r5 s)) → ∀ s, zFr W_fX67_entryBehind (fX67_entryBehind_B5 x1 x2 r5 s) := by
  intro r5 hr5 s
  obtain ⟨x3, x4⟩ := s
  unfold fX67_entryBehind_B5
  exact (fr_ite (fr_ret _) (fr_al fun v1 => (fr_ite (fr_fX67_entryBehind_J59 hr5 x1 x2 x3 x4) (fr_al fun v5 => (fr_ite (fr_fX67_entryBehind_J59 hr5 x1 x2 x3 x4) (fr_ite (fr_fX67_entryBehind_J55 hr5 x1 x2 x3 x4) (fr_al fun v6 => (fr_al fun v7 => (fr_ite (fr_fX67_entryBehind_J59 hr5 x1 x2 x3 x4) (fr_fX67_entryBehind_J55 hr5 x1 x2 x3 x4))))))))))
theorem fr_fX67_entryBehind (x1 : Int) (x2 : Int) : zFr W_fX67_entryBehind (fX67_entryBehind x1 x2) :=
  (fr_lp (fr_fX67_entryBehind_B5 x1 x2) zBIG ((-1), 1))
abbrev W_fX67_entryAt : List Nat := []
theorem fr_fX67_entryAt_B19 (x1 : Int) (x2 : Int) : ∀ r19 : Int × Int → zX, (∀ s, zFr W_fX67_entryAt (r19 s)) → ∀ s, zFr W_fX67_entryAt (fX67_entryAt_B19 x1 x2 r19 s) := by
  intro r19 hr19 s
  obtain ⟨x4, x5⟩ := s
  unfold fX67_entryAt_B19
  exact (fr_ite (fr_ret _) (fr_ite (fr_ret _) (fr_cl (fr_mono (by decide) (fr_fX67_entryBehind x1 x4)) fun v2 => (fr_lt fun v3 => (hr19 (v2, v3))))))
theorem fr_fX67_entryAt (x1 : Int) (x2 : Int) : zFr W_fX67_entryAt (fX67_entryAt x1 x2) :=
  (fr_ite (fr_cl (fr_mono (by decide) (fr_fX67_entryBehind x1 0)) fun v1 => (fr_lp (fr_fX67_entryAt_B19 x1 x2) zBIG (v1, 0))) (fr_ret _))
abbrev W_fX67_nameOf : List Nat := [6826, 6886]
theorem fr_fX67_nameOf_J62 (x1 : Int) (s0 : Int) : zFr W_fX67_nameOf (fX67_nameOf_J62 x1 s0) :=
  (fr_ite (fr_al fun v8 => (fr_as (by decide) (fr_ret _))) (fr_ret _))
theorem fr_fX67_nameOf (x1 : Int) : zFr W_fX67_nameOf (fX67_nameOf x1) :=
  (fr_al fun v1 => (fr_pf (by decide) (fr_al fun v2 => (fr_cl (fr_mono (by decide) (fr_fX67_askDirectory x1 v2 1)) fun v3 => (fr_ite (fr_al fun v4 => (fr_ite (fr_al fun v5 => (fr_al fun v6 => (fr_cl (fr_mono (by decide) (fr_fX67_entryAt v5 v6)) fun v7 => (fr_fX67_nameOf_J62 x1 v7)))) (fr_fX67_nameOf_J62 x1 (-1)))) (fr_ret _))))))
abbrev W_fX67_newLength : List Nat := [6806, 6808, 6816, 6886]
theorem fr_fX67_newLength_J39 (x1 : Int) (s0 : Int) : zFr W_fX67_newLength (fX67_newLength_J39 x1 s0) :=
  (fr_ite (fr_pf (by decide) (fr_al fun v3 => (fr_cl (fr_mono (by decide) (fr_fX67_barred x1 s0 v3 4)) fun v4 => (fr_ite (fr_al fun v5 => (fr_ite (fr_al fun v6 => (fr_cl (fr_mono (by decide) (fr_fX67_setLength s0 (zi v6))) fun v7 => (fr_ite (fr_ret _) (fr_ret _)))) (fr_ret _))) (fr_ret _))))) (fr_ret _))
theorem fr_fX67_newLength (x1 : Int) : zFr W_fX67_newLength (fX67_newLength x1) :=
  (fr_al fun v1 => (fr_cl (fr_mono (by decide) (fr_fX67_in v1 8 31)) fun v2 => (fr_ite (fr_fX67_newLength_J39 x1 (-1)) (fr_al fun v8 => (fr_al fun v9 => (fr_fX67_newLength_J39 x1 v9))))))
abbrev W_fX67_newFirst : List Nat := [6813, 6814, 6815, 6886]
theorem fr_fX67_newFirst (x1 : Int) : zFr W_fX67_newFirst (fX67_newFirst x1) :=
  (fr_al fun v1 => (fr_pf (by decide) (fr_al fun v2 => (fr_cl (fr_mono (by decide) (fr_fX67_askDirectory x1 v2 2)) fun v3 => (fr_ite (fr_lt fun v4 => (fr_al fun v5 => (fr_cl (fr_mono (by decide) (fr_fX67_in v5 1 2)) fun v6 => (fr_ite (fr_ret _) (fr_al fun v7 => (fr_al fun v8 => (fr_al fun v9 => (fr_cl (fr_mono (by decide) (fr_fX67_isItem v7 v8 v9)) fun v10 => (fr_ite (fr_al fun v11 => (fr_al fun v12 => (fr_al fun v13 => (fr_al fun v14 => (fr_al fun v15 => (fr_cl (fr_mono (by decide) (fr_fX67_initial v11 (zi v12) v13 v14 v15)) fun v16 => (fr_ite (fr_ret _) (fr_ret _)))))))) (fr_ret _)))))))))) (fr_ret _))))))
abbrev W_fX67_doable : List Nat := [6826]
theorem fr_fX67_doable_J141 (s1 : Int) (s2 : Int) (s3 : Int) : zFr W_fX67_doable (fX67_doable_J141 s1 s2 s3) :=
  (fr_as (by decide) (fr_ret _))
theorem fr_fX67_doable_J119 (x1 : Int) (x3 : Int) (s1 : Int) (s2 : Int) (s3 : Int) : zFr W_fX67_doable (fX67_doable_J119 x1 x3 s1 s2 s3) :=
  (fr_al fun v9 => (fr_cl (fr_mono (by decide) (fr_fX67_barred x1 x3 v9 4)) fun v10 => (fr_ite (fr_fX67_doable_J141 s1 (zi (s2 + s3)) 0) (fr_fX67_doable_J141 s1 (zi (s2 + s3)) 4))))
theorem fr_fX67_doable_J98 (x1 : Int) (x3 : Int) (s1 : Int) (s2 : Int) : zFr W_fX67_doable (fX67_doable_J98 x1 x3 s1 s2) :=
  (fr_al fun v7 => (fr_cl (fr_mono (by decide) (fr_fX67_barred x1 x3 v7 2)) fun v8 => (fr_ite (fr_fX67_doable_J119 x1 x3 s1 s2 0) (fr_fX67_doable_J119 x1 x3 s1 s2 2))))
theorem fr_fX67_doable_J51 (s1 : Int) (s2 : Int) : zFr W_fX67_doable (fX67_doable_J51 s1 s2) :=
  (fr_as (by decide) (fr_ret _))
theorem fr_fX67_doable (x1 : Int) : zFr W_fX67_doable (fX67_doable x1) :=
  (fr_al fun v1 => (fr_ite (fr_al fun v2 => (fr_lt fun v3 => (fr_ite (fr_al fun v4 => (fr_ite (fr_al fun v5 => (fr_cl (fr_mono (by decide) (fr_fX67_barred x1 v4 v5 1)) fun v6 => (fr_ite (fr_fX67_doable_J98 x1 v4 x1 0) (fr_fX67_doable_J98 x1 v4 x1 1)))) (fr_ret _))) (fr_al fun v11 => (fr_ite (fr_fX67_doable_J51 x1 0) (fr_fX67_doable_J51 x1 5)))))) (fr_ret _)))
abbrev W_fX67_among : List Nat := [6826, 6846, 6847]
theorem fr_fX67_among_B130 (x1 : Int) : ∀ r130 : Int → zX, (∀ s, zFr W_fX67_among (r130 s)) → ∀ s, zFr W_fX67_among (fX67_among_B130 x1 r130 s) := by
  intro r130 hr130 x3
  unfold fX67_among_B130
  exact (fr_al fun v10 => (fr_ite (fr_ret _) (fr_al fun v11 => (fr_as (by decide) (fr_lt fun v12 => (hr130 v12))))))
theorem fr_fX67_among (x1 : Int) (x2 : Int) : zFr W_fX67_among (fX67_among x1 x2) :=
  (fr_ite (fr_ite (fr_ite (fr_ite (fr_cl (fr_mono (by decide) (fr_fX67_doable x1)) fun v1 => (fr_ret _)) (fr_al fun v2 => (fr_al fun v3 => (fr_al fun v4 => (fr_al fun v5 => (fr_as (by decide) (fr_ret _))))))) (fr_al fun v6 => (fr_as (by decide) (fr_ret _)))) (fr_al fun v7 => (fr_as (by decide) (fr_al fun v8 => (fr_as (by decide) (fr_lt fun v9 => (fr_lp (fr_fX67_among_B130 x1) zBIG v9))))))) (fr_al fun v13 => (fr_ite (fr_ret _) (fr_al fun v14 => (fr_ite (fr_ret _) (fr_al fun v15 => (fr_al fun v16 => (fr_cl (fr_mono (by decide) (fr_fX67_dominates v15 v16)) fun v17 => (fr_ite (fr_ret _) (fr_al fun v18 => (fr_ite (fr_ret _) (fr_al fun v19 => (fr_al fun v20 => (fr_as (by decide) (fr_al fun v21 => (fr_as (by decide) (fr_ret _)))))))))))))))))
abbrev W_fX67_plain : List Nat := [6806, 6808, 6813, 6814, 6815, 6816, 6826, 6838, 6839, 6840, 6841, 6842, 6843, 6844, 6845, 6846, 6847, 6860, 6861, 6862, 6886]
theorem fr_fX67_plain_J289 (s1 : Int) (s2 : Int) : zFr W_fX67_plain (fX67_plain_J289 s1 s2) :=
  (fr_as (by decide) (fr_ret _))
theorem fr_fX67_plain_J313 (x1 : Int) (s1 : Int) (s2 : Int) : zFr W_fX67_plain (fX67_plain_J313 x1 s1 s2) :=
  (fr_as (by decide) (fr_al fun v27 => (fr_as (by decide) (fr_al fun v28 => (fr_as (by decide) (fr_al fun v29 => (fr_as (by decide) (fr_ret _))))))))
theorem fr_fX67_plain (x1 : Int) (x2 : Int) : zFr W_fX67_plain (fX67_plain x1 x2) :=
  (fr_ite (fr_al fun v2 => (fr_cl (fr_mono (by decide) (fr_fX67_tell x1 1 v2 0 0)) fun _ => (fr_ret _))) (fr_ite (fr_al fun v5 => (fr_ite (fr_al fun v6 => (fr_al fun v7 => (fr_as (by decide) (fr_ret _)))) (fr_ret _))) (fr_ite (fr_as (by decide) (fr_ret _)) (fr_ite (fr_al fun v10 => (fr_cl (fr_mono (by decide) (fr_fX67_in v10 8 31)) fun v11 => (fr_ite (fr_ret _) (fr_al fun v12 => (fr_al fun v13 => (fr_ite (fr_al fun v14 => (fr_cl (fr_mono (by decide) (fr_fX67_forget x1 (zi v14))) fun _ => (fr_ret _))) (fr_ret _))))))) (fr_ite (fr_cl (fr_mono (by decide) (fr_fX67_nameOf x1)) fun v17 => (fr_ret _)) (fr_ite (fr_cl (fr_mono (by decide) (fr_fX67_newLength x1)) fun v19 => (fr_ret _)) (fr_ite (fr_al fun v21 => (fr_ite (fr_al fun v22 => (fr_al fun v23 => (fr_ite (fr_al fun v24 => (fr_fX67_plain_J289 (zi ((zi (4 * x1)) + v22)) v24)) (fr_fX67_plain_J289 (zi ((zi (4 * x1)) + v22)) (-1))))) (fr_ret _))) (fr_ite (fr_al fun v26 => (fr_ite (fr_fX67_plain_J313 x1 x1 0) (fr_fX67_plain_J313 x1 x1 1))) (fr_ite (fr_cl (fr_mono (by decide) (fr_fX67_newFirst x1)) fun v31 => (fr_ret _)) (fr_cl (fr_mono (by decide) (fr_fX67_among x1 x2)) fun v32 => (fr_ret _)))))))))))
abbrev W_fX67_numberFor : List Nat := []
theorem fr_fX67_numberFor_B35 (x1 : Int) : ∀ r35 : Int → zX, (∀ s, zFr W_fX67_numberFor (r35 s)) → ∀ s, zFr W_fX67_numberFor (fX67_numberFor_B35 x1 r35 s) := by
  intro r35 hr35 x3
  unfold fX67_numberFor_B35
  exact (fr_ite (fr_ret _) (fr_al fun v1 => (fr_ite (fr_lt fun v2 => (hr35 v2)) (fr_ret _))))
theorem fr_fX67_numberFor_J32 (x1 : Int) : zFr W_fX67_numberFor (fX67_numberFor_J32 x1) :=
  (fr_lp (fr_fX67_numberFor_B35 x1) zBIG 8)
theorem fr_fX67_numberFor_B3 (x1 : Int) (x2 : Int) : ∀ r3 : Int → zX, (∀ s, zFr W_fX67_numberFor (r3 s)) → ∀ s, zFr W_fX67_numberFor (fX67_numberFor_B3 x1 x2 r3 s) := by
  intro r3 hr3 x3
  unfold fX67_numberFor_B3
  exact (fr_ite (fr_fX67_numberFor_J32 x1) (fr_al fun v3 => (fr_ite (fr_lt fun v4 => (hr3 v4)) (fr_ret _))))
theorem fr_fX67_numberFor (x1 : Int) (x2 : Int) : zFr W_fX67_numberFor (fX67_numberFor x1 x2) :=
  (fr_lp (fr_fX67_numberFor_B3 x1 x2) zBIG 8)
abbrev W_fX67_look : List Nat := [6826, 6838, 6840]
theorem fr_fX67_look_J107 (x1 : Int) (x2 : Int) (x3 : Int) (s0 : Int) (s1 : Int) : zFr W_fX67_look (fX67_look_J107 x1 x2 x3 s0 s1) :=
  (fr_ite (fr_ite (fr_al fun v2 => (fr_al fun v3 => (fr_cl (fr_mono (by decide) (fr_fX67_modesFor x3 v2 v3)) fun v4 => (fr_ite (fr_cl (fr_mono (by decide) (fr_fX67_numberFor x1 x3)) fun v5 => (fr_ite (fr_as (by decide) (fr_as (by decide) (fr_ret _))) (fr_ret _))) (fr_ret _))))) (fr_al fun v6 => (fr_al fun v7 => (fr_cl (fr_mono (by decide) (fr_fX67_dominates v6 v7)) fun v8 => (fr_ite (fr_as (by decide) (fr_ret _)) (fr_ret _)))))) (fr_ret _))
theorem fr_fX67_look (x1 : Int) (x2 : Int) (x3 : Int) : zFr W_fX67_look (fX67_look x1 x2 x3) :=
  (fr_ite (fr_al fun v1 => (fr_ite (fr_fX67_look_J107 x1 x2 x3 v1 2) (fr_fX67_look_J107 x1 x2 x3 v1 1))) (fr_al fun v9 => (fr_al fun v10 => (fr_al fun v11 => (fr_al fun v12 => (fr_al fun v13 => (fr_al fun v14 => (fr_as (by decide) (fr_ret _)))))))))
abbrev W_fX67_isUpgraded : List Nat := []
theorem fr_fX67_isUpgraded (x1 : Int) : zFr W_fX67_isUpgraded (fX67_isUpgraded x1) :=
  (fr_ite (fr_ret _) (fr_al fun v1 => (fr_ite (fr_ret _) (fr_al fun v2 => (fr_al fun v3 => (fr_al fun v4 => (fr_ite (fr_ret _) (fr_ret _))))))))
abbrev W_fX67_isOutOfRing : List Nat := []
theorem fr_fX67_isOutOfRing (x1 : Int) (x2 : Int) : zFr W_fX67_isOutOfRing (fX67_isOutOfRing x1 x2) :=
  (fr_al fun v1 => (fr_al fun v2 => (fr_ite (fr_ret _) (fr_ret _))))
abbrev W_fX67_newBrackets : List Nat := [6804, 6805]
theorem fr_fX67_newBrackets (x1 : Int) (x2 : Int) : zFr W_fX67_newBrackets (fX67_newBrackets x1 x2) :=
  (fr_al fun v1 => (fr_ite (fr_al fun v2 => (fr_lt fun v3 => (fr_lt fun v4 => (fr_cl (fr_mono (by decide) (fr_fX67_areBrackets x2 v4 (Int.tmod (zi (Int.tdiv v3 8)) 8) (Int.tmod (zi (Int.tdiv v3 64)) 8) (zi (Int.tdiv v3 512)))) fun v5 => (fr_ite (fr_cl (fr_mono (by decide) (fr_fX67_isOutOfRing x1 x2)) fun v6 => (fr_ite (fr_ret _) (fr_al fun v7 => (fr_ite (fr_cl (fr_mono (by decide) (fr_fX67_brackets x2 v4 (Int.tmod (zi (Int.tdiv v3 8)) 8) (Int.tmod (zi (Int.tdiv v3 64)) 8) (zi (Int.tdiv v3 512)))) fun v8 => (fr_ret _)) (fr_ret _))))) (fr_ret _)))))) (fr_ret _)))
abbrev W_fX67_newLimit : List Nat := [6807, 6808]
theorem fr_fX67_newLimit (x1 : Int) (x2 : Int) : zFr W_fX67_newLimit (fX67_newLimit x1 x2) :=
  (fr_al fun v1 => (fr_ite (fr_ret _) (fr_al fun v2 => (fr_ite (fr_cl (fr_mono (by decide) (fr_fX67_isUpgraded x2)) fun v3 => (fr_ite (fr_cl (fr_mono (by decide) (fr_fX67_isOutOfRing x1 x2)) fun v4 => (fr_ite (fr_al fun v5 => (fr_cl (fr_mono (by decide) (fr_fX67_in v5 1 255)) fun v6 => (fr_ite (fr_al fun v7 => (fr_cl (fr_mono (by decide) (fr_fX67_setLimit x2 (zi v7))) fun v8 => (fr_ite (fr_ret _) (fr_ret _)))) (fr_ret _)))) (fr_ret _))) (fr_ret _))) (fr_ret _)))))
abbrev W_fX67_modify : List Nat := [6800, 6801, 6804, 6805, 6807, 6808, 6812, 6813, 6815, 6838, 6839, 6840, 6841]
theorem fr_fX67_modify (x1 : Int) (x2 : Int) (x3 : Int) : zFr W_fX67_modify (fX67_modify x1 x2 x3) :=
  (fr_lt fun v1 => (fr_ite (fr_cl (fr_mono (by decide) (fr_fX67_isUpgraded x3)) fun v3 => (fr_ite (fr_cl (fr_mono (by decide) (fr_fX67_isOutOfRing x1 x3)) fun v4 => (fr_ite (fr_cl (fr_mono (by decide) (fr_fX67_countEntries x3)) fun v5 => (fr_ite (fr_cl (fr_mono (by decide) (fr_fX67_drop x3)) fun _ => (fr_ret _)) (fr_ret _))) (fr_ret _))) (fr_ret _))) (fr_ite (fr_al fun v8 => (fr_cl (fr_mono (by decide) (fr_fX67_isName v8)) fun v9 => (fr_ite (fr_cl (fr_mono (by decide) (fr_fX67_isOutOfRing x1 x3)) fun v10 => (fr_ite (fr_al fun v11 => (fr_cl (fr_mono (by decide) (fr_fX67_rename x3 v11)) fun v12 => (fr_ret _))) (fr_ret _))) (fr_ret _)))) (fr_ite (fr_al fun v14 => (fr_al fun v15 => (fr_al fun v16 => (fr_cl (fr_mono (by decide) (fr_fX67_isItem v14 v15 v16)) fun v17 => (fr_ite (fr_cl (fr_mono (by decide) (fr_fX67_isOutOfRing x1 x3)) fun v18 => (fr_ite (fr_al fun v19 => (fr_al fun v20 => (fr_al fun v21 => (fr_cl (fr_mono (by decide) (fr_fX67_item x3 v19 v20 v21)) fun v22 => (fr_ite (fr_ret _) (fr_ret _)))))) (fr_ret _))) (fr_ret _)))))) (fr_ite (fr_cl (fr_mono (by decide) (fr_fX67_newBrackets x1 x3)) fun v24 => (fr_ret _)) (fr_cl (fr_mono (by decide) (fr_fX67_newLimit x1 x3)) fun v25 => (fr_ret _)))))))
abbrev W_fX67_askMailbox : List Nat := []
theorem fr_fX67_askMailbox (x1 : Int) (x2 : Int) (x3 : Int) : zFr W_fX67_askMailbox (fX67_askMailbox x1 x2 x3) :=
  (fr_al fun v1 => (fr_al fun v2 => (fr_cl (fr_mono (by decide) (fr_fX67_modesFor x2 v1 v2)) fun v3 => (fr_ite (fr_al fun v4 => (fr_al fun v5 => (fr_cl (fr_mono (by decide) (fr_fX67_dominates v4 v5)) fun v6 => (fr_ite (fr_al fun v7 => (fr_al fun v8 => (fr_ite (fr_ret _) (fr_ret _)))) (fr_ret _))))) (fr_ret _)))))
abbrev W_fX67_onMailbox : List Nat := [6817, 6818, 6819, 6826, 6827]
theorem fr_fX67_onMailbox_B346 (x3 : Int) (x5 : Int) : ∀ r346 : Int → zX, (∀ s, zFr W_fX67_onMailbox (r346 s)) → ∀ s, zFr W_fX67_onMailbox (fX67_onMailbox_B346 x3 x5 r346 s) := by
  intro r346 hr346 x9
  unfold fX67_onMailbox_B346
  exact (fr_al fun v7 => (fr_ite (fr_ret _) (fr_al fun v8 => (fr_as (by decide) (fr_al fun v9 => (fr_as (by decide) (fr_lt fun v10 => (hr346 v10))))))))
theorem fr_fX67_onMailbox_J214 (x1 : Int) (x2 : Int) (x3 : Int) (x5 : Int) (x6 : Int) (x7 : Int) : zFr W_fX67_onMailbox (fX67_onMailbox_J214 x1 x2 x3 x5 x6 x7) :=
  (fr_ite (fr_ite (fr_al fun v5 => (fr_as (by decide) (fr_ite (fr_al fun v6 => (fr_as (by decide) (fr_lp (fr_fX67_onMailbox_B346 x3 x5) zBIG x7))) (fr_al fun v11 => (fr_as (by decide) (fr_ret _)))))) (fr_ret _)) (fr_ite (fr_al fun v12 => (fr_al fun v13 => (fr_as (by decide) (fr_al fun v14 => (fr_al fun v15 => (fr_as (by decide) (fr_al fun v16 => (fr_as (by decide) (fr_ret _))))))))) (fr_ret _)))
theorem fr_fX67_onMailbox_J206 {r69 : Int × Int × Int × Int → zX} (hr69 : ∀ s, zFr W_fX67_onMailbox (r69 s)) (x1 : Int) (x2 : Int) (x3 : Int) (x5 : Int) (x6 : Int) (x7 : Int) (x9 : Int) (s0 : Int) : zFr W_fX67_onMailbox (fX67_onMailbox_J206 r69 x1 x2 x3 x5 x6 x7 x9 s0) :=
  (fr_lt fun v22 => (hr69 (x6, x7, s0, v22)))
theorem fr_fX67_onMailbox_J190 {r69 : Int × Int × Int × Int → zX} (hr69 : ∀ s, zFr W_fX67_onMailbox (r69 s)) (x1 : Int) (x2 : Int) (x3 : Int) (x5 : Int) (x6 : Int) (x8 : Int) (x9 : Int) (x11 : Int) (s0 : Int) : zFr W_fX67_onMailbox (fX67_onMailbox_J190 r69 x1 x2 x3 x5 x6 x8 x9 x11 s0) :=
  (fr_ite (fr_fX67_onMailbox_J206 hr69 x1 x2 x3 x5 x6 s0 x9 x8) (fr_fX67_onMailbox_J206 hr69 x1 x2 x3 x5 x6 s0 x9 (zi (x8 + 1))))
theorem fr_fX67_onMailbox_J188 {r69 : Int × Int × Int × Int → zX} (hr69 : ∀ s, zFr W_fX67_onMailbox (r69 s)) (x1 : Int) (x2 : Int) (x3 : Int) (x5 : Int) (x6 : Int) (x7 : Int) (x8 : Int) (x9 : Int) (x11 : Int) : zFr W_fX67_onMailbox (fX67_onMailbox_J188 r69 x1 x2 x3 x5 x6 x7 x8 x9 x11) :=
  (fr_fX67_onMailbox_J190 hr69 x1 x2 x3 x5 x6 x8 x9 x11 x7)
theorem fr_fX67_onMailbox_J183 {r69 : Int × Int × Int × Int → zX} (hr69 : ∀ s, zFr W_fX67_onMailbox (r69 s)) (x1 : Int) (x2 : Int) (x3 : Int) (x5 : Int) (x6 : Int) (x8 : Int) (x9 : Int) (x11 : Int) : zFr W_fX67_onMailbox (fX67_onMailbox_J183 r69 x1 x2 x3 x5 x6 x8 x9 x11) :=
  (fr_fX67_onMailbox_J190 hr69 x1 x2 x3 x5 x6 x8 x9 x11 x9)
theorem fr_fX67_onMailbox_J152 {r69 : Int × Int × Int × Int → zX} (hr69 : ∀ s, zFr W_fX67_onMailbox (r69 s)) (x1 : Int) (x2 : Int) (x3 : Int) (x5 : Int) (x6 : Int) (x7 : Int) (x8 : Int) (x9 : Int) (s0 : Int) : zFr W_fX67_onMailbox (fX67_onMailbox_J152 r69 x1 x2 x3 x5 x6 x7 x8 x9 s0) :=
  (fr_ite (fr_fX67_onMailbox_J188 hr69 x1 x2 x3 x5 x6 x7 x8 x9 s0) (fr_ite (fr_fX67_onMailbox_J188 hr69 x1 x2 x3 x5 x6 x7 x8 x9 s0) (fr_ite (fr_fX67_onMailbox_J183 hr69 x1 x2 x3 x5 x6 x8 x9 s0) (fr_al fun v23 => (fr_ite (fr_fX67_onMailbox_J188 hr69 x1 x2 x3 x5 x6 x7 x8 x9 s0) (fr_fX67_onMailbox_J183 hr69 x1 x2 x3 x5 x6 x8 x9 s0))))))
theorem fr_fX67_onMailbox_J120 {r69 : Int × Int × Int × Int → zX} (hr69 : ∀ s, zFr W_fX67_onMailbox (r69 s)) (x1 : Int) (x2 : Int) (x3 : Int) (x5 : Int) (x7 : Int) (x8 : Int) (x9 : Int) (x10 : Int) (s0 : Int) : zFr W_fX67_onMailbox (fX67_onMailbox_J120 r69 x1 x2 x3 x5 x7 x8 x9 x10 s0) :=
  (fr_ite (fr_al fun v19 => (fr_al fun v20 => (fr_cl (fr_mono (by decide) (fr_fX67_dominates v19 v20)) fun v21 => (fr_fX67_onMailbox_J152 hr69 x1 x2 x3 x5 s0 x7 x8 x9 v21)))) (fr_fX67_onMailbox_J152 hr69 x1 x2 x3 x5 s0 x7 x8 x9 x10))
theorem fr_fX67_onMailbox_J104 {r69 : Int × Int × Int × Int → zX} (hr69 : ∀ s, zFr W_fX67_onMailbox (r69 s)) (x1 : Int) (x2 : Int) (x3 : Int) (x5 : Int) (x6 : Int) (x7 : Int) (x8 : Int) (x9 : Int) (s0 : Int) : zFr W_fX67_onMailbox (fX67_onMailbox_J104 r69 x1 x2 x3 x5 x6 x7 x8 x9 s0) :=
  (fr_ite (fr_fX67_onMailbox_J120 hr69 x1 x2 x3 x5 x7 x8 x9 s0 x6) (fr_fX67_onMailbox_J120 hr69 x1 x2 x3 x5 x7 x8 x9 s0 (zi (x6 + 1))))
theorem fr_fX67_onMailbox_B69 (x1 : Int) (x2 : Int) (x3 : Int) (x5 : Int) : ∀ r69 : Int × Int × Int × Int → zX, (∀ s, zFr W_fX67_onMailbox (r69 s)) → ∀ s, zFr W_fX67_onMailbox (fX67_onMailbox_B69 x1 x2 x3 x5 r69 s) := by
  intro r69 hr69 s
  obtain ⟨x6, x7, x8, x9⟩ := s
  unfold fX67_onMailbox_B69
  exact (fr_al fun v4 => (fr_ite (fr_fX67_onMailbox_J214 x1 x2 x3 x5 x6 x7) (fr_al fun v17 => (fr_al fun v18 => (fr_ite (fr_fX67_onMailbox_J104 hr69 x1 x2 x3 x5 x6 x7 x8 x9 0) (fr_fX67_onMailbox_J104 hr69 x1 x2 x3 x5 x6 x7 x8 x9 1))))))
theorem fr_fX67_onMailbox_J37 (x1 : Int) (x2 : Int) (x3 : Int) (s1 : Int) (s2 : Int) (s3 : Int) : zFr W_fX67_onMailbox (fX67_onMailbox_J37 x1 x2 x3 s1 s2 s3) :=
  (fr_cl (fr_mono (by decide) (fr_fX67_askMailbox s1 s2 s3)) fun v2 => (fr_ite (fr_lt fun v3 => (fr_lp (fr_fX67_onMailbox_B69 x1 x2 x3 v3) zBIG (0, (-1), 0, 0))) (fr_ret _)))
theorem fr_fX67_onMailbox (x1 : Int) (x2 : Int) (x3 : Int) : zFr W_fX67_onMailbox (fX67_onMailbox x1 x2 x3) :=
  (fr_al fun v1 => (fr_ite (fr_ite (fr_ite (fr_fX67_onMailbox_J37 x1 x2 x3 x1 x3 4) (fr_fX67_onMailbox_J37 x1 x2 x3 x1 x3 2)) (fr_fX67_onMailbox_J37 x1 x2 x3 x1 x3 1)) (fr_ret _)))
abbrev W_fX67_onEntry : List Nat := [6800, 6801, 6804, 6805, 6807, 6808, 6812, 6813, 6815, 6817, 6818, 6819, 6826, 6827, 6838, 6839, 6840, 6841, 6886]
theorem fr_fX67_onEntry_J39 (x1 : Int) (x2 : Int) (x3 : Int) (s1 : Int) (s2 : Int) (s3 : Int) : zFr W_fX67_onEntry (fX67_onEntry_J39 x1 x2 x3 s1 s2 s3) :=
  (fr_cl (fr_mono (by decide) (fr_fX67_askDirectory s1 s2 s3)) fun v4 => (fr_ite (fr_al fun v5 => (fr_cl (fr_mono (by decide) (fr_fX67_isName v5)) fun v6 => (fr_ite (fr_al fun v7 => (fr_al fun v8 => (fr_cl (fr_mono (by decide) (fr_fX67_entryNamed v7 v8)) fun v9 => (fr_ite (fr_pf (by decide) (fr_ite (fr_ite (fr_cl (fr_mono (by decide) (fr_fX67_look x1 x2 v9)) fun v10 => (fr_ret _)) (fr_cl (fr_mono (by decide) (fr_fX67_modify x1 x2 v9)) fun v11 => (fr_ret _))) (fr_cl (fr_mono (by decide) (fr_fX67_onMailbox x1 x2 v9)) fun v12 => (fr_ret _)))) (fr_ret _))))) (fr_ret _)))) (fr_ret _)))
theorem fr_fX67_onEntry (x1 : Int) (x2 : Int) : zFr W_fX67_onEntry (fX67_onEntry x1 x2) :=
  (fr_cl (fr_mono (by decide) (fr_fX67_in x2 10 15)) fun v1 => (fr_al fun v2 => (fr_pf (by decide) (fr_al fun v3 => (fr_ite (fr_fX67_onEntry_J39 x1 x2 v1 x1 v3 1) (fr_fX67_onEntry_J39 x1 x2 v1 x1 v3 2))))))
abbrev W_fX67_comeBack : List Nat := [6825, 6826, 6827, 6828, 6829, 6830, 6831, 6832, 6833, 6834, 6835, 6848, 6865, 6866]
theorem fr_fX67_comeBack_J257 (x1 : Int) (x3 : Int) (x5 : Int) : zFr W_fX67_comeBack (fX67_comeBack_J257 x1 x3 x5) :=
  (fr_al fun v9 => (fr_as (by decide) (fr_al fun v10 => (fr_as (by decide) (fr_al fun v11 => (fr_as (by decide) (fr_al fun v12 => (fr_as (by decide) (fr_al fun v13 => (fr_as (by decide) (fr_al fun v14 => (fr_as (by decide) (fr_ret _)))))))))))))
theorem fr_fX67_comeBack_B172 (x1 : Int) (x3 : Int) (x5 : Int) : ∀ r172 : Int → zX, (∀ s, zFr W_fX67_comeBack (r172 s)) → ∀ s, zFr W_fX67_comeBack (fX67_comeBack_B172 x1 x3 x5 r172 s) := by
  intro r172 hr172 x6
  unfold fX67_comeBack_B172
  exact (fr_ite (fr_fX67_comeBack_J257 x1 x3 x5) (fr_al fun v15 => (fr_as (by decide) (fr_al fun v16 => (fr_as (by decide) (fr_al fun v17 => (fr_as (by decide) (fr_lt fun v18 => (hr172 v18)))))))))
theorem fr_fX67_comeBack_J169 (x1 : Int) (x3 : Int) (x5 : Int) : zFr W_fX67_comeBack (fX67_comeBack_J169 x1 x3 x5) :=
  (fr_lp (fr_fX67_comeBack_B172 x1 x3 x5) zBIG 0)
theorem fr_fX67_comeBack_B135 (x1 : Int) (x3 : Int) (x5 : Int) : ∀ r135 : Int → zX, (∀ s, zFr W_fX67_comeBack (r135 s)) → ∀ s, zFr W_fX67_comeBack (fX67_comeBack_B135 x1 x3 x5 r135 s) := by
  intro r135 hr135 x6
  unfold fX67_comeBack_B135
  exact (fr_ite (fr_fX67_comeBack_J169 x1 x3 x5) (fr_al fun v19 => (fr_as (by decide) (fr_lt fun v20 => (hr135 v20)))))
theorem fr_fX67_comeBack_J106 (x1 : Int) (x3 : Int) (s0 : Int) : zFr W_fX67_comeBack (fX67_comeBack_J106 x1 x3 s0) :=
  (fr_al fun v7 => (fr_as (by decide) (fr_al fun v8 => (fr_as (by decide) (fr_lp (fr_fX67_comeBack_B135 x1 x3 s0) zBIG 0)))))
theorem fr_fX67_comeBack_J69 (x1 : Int) (x2 : Int) (x4 : Int) : zFr W_fX67_comeBack (fX67_comeBack_J69 x1 x2 x4) :=
  (fr_as (by decide) (fr_as (by decide) (fr_ret _)))
theorem fr_fX67_comeBack_J47 (x1 : Int) (x2 : Int) (x3 : Int) (s0 : Int) : zFr W_fX67_comeBack (fX67_comeBack_J47 x1 x2 x3 s0) :=
  (fr_ite (fr_al fun v6 => (fr_ite (fr_fX67_comeBack_J106 x1 x3 1) (fr_fX67_comeBack_J106 x1 x3 0))) (fr_ite (fr_fX67_comeBack_J69 x1 x2 s0) (fr_cl (fr_mono (by decide) (fr_fX67_note x1 2 (-1) 5)) fun _ => (fr_fX67_comeBack_J69 x1 x2 s0))))
theorem fr_fX67_comeBack (x1 : Int) (x2 : Int) : zFr W_fX67_comeBack (fX67_comeBack x1 x2) :=
  (fr_al fun v1 => (fr_lt fun v2 => (fr_al fun v3 => (fr_ite (fr_al fun v4 => (fr_al fun v5 => (fr_ite (fr_fX67_comeBack_J47 x1 x2 v2 0) (fr_fX67_comeBack_J47 x1 x2 v2 (-4))))) (fr_fX67_comeBack_J47 x1 x2 v2 (-1))))))
abbrev W_fX67_service : List Nat := [6800, 6801, 6802, 6803, 6804, 6805, 6806, 6807, 6808, 6809, 6810, 6811, 6812, 6813, 6814, 6815, 6816, 6817, 6818, 6819, 6821, 6825, 6826, 6827, 6828, 6829, 6830, 6831, 6832, 6833, 6834, 6835, 6838, 6839, 6840, 6841, 6842, 6843, 6844, 6845, 6846, 6847, 6848, 6860, 6861, 6862, 6865, 6866, 6874, 6875, 6876, 6877, 6886]
theorem fr_fX67_service_J16 (x1 : Int) : zFr W_fX67_service (fX67_service_J16 x1) :=
  (fr_al fun v2 => (fr_al fun v3 => (fr_al fun v4 => (fr_cl (fr_mono (by decide) (fr_fX67_fail 13 v2 v3 v4)) fun _ => (fr_ret _)))))
theorem fr_fX67_service_J183 (x1 : Int) (x3 : Int) (x4 : Int) : zFr W_fX67_service (fX67_service_J183 x1 x3 x4) :=
  (fr_as (by decide) (fr_as (by decide) (fr_ret _)))
theorem fr_fX67_service_J153 (x1 : Int) (x3 : Int) (s0 : Int) : zFr W_fX67_service (fX67_service_J153 x1 x3 s0) :=
  (fr_ite (fr_fX67_service_J183 x1 x3 s0) (fr_ite (fr_fX67_service_J183 x1 x3 s0) (fr_gf fun v10 => (fr_cl (fr_mono (by decide) (fr_fX67_note x1 2 v10 (zi (1 - s0)))) fun _ => (fr_fX67_service_J183 x1 x3 s0)))))
theorem fr_fX67_service_J138 (x1 : Int) (x2 : Int) (x3 : Int) : zFr W_fX67_service (fX67_service_J138 x1 x2 x3) :=
  (fr_cl (fr_mono (by decide) (fr_fX67_add x1 x2)) fun v9 => (fr_fX67_service_J153 x1 x3 v9))
theorem fr_fX67_service_J99 (x1 : Int) (x2 : Int) (x3 : Int) : zFr W_fX67_service (fX67_service_J99 x1 x2 x3) :=
  (fr_pf (by decide) (fr_cl (fr_mono (by decide) (fr_fX67_isOfEntry x2)) fun v8 => (fr_ite (fr_ite (fr_fX67_service_J138 x1 x2 x3) (fr_ite (fr_fX67_service_J138 x1 x2 x3) (fr_ite (fr_cl (fr_mono (by decide) (fr_fX67_plain x1 x2)) fun v12 => (fr_fX67_service_J153 x1 x3 v12)) (fr_fX67_service_J138 x1 x2 x3)))) (fr_cl (fr_mono (by decide) (fr_fX67_onEntry x1 x2)) fun v13 => (fr_fX67_service_J153 x1 x3 v13)))))
theorem fr_fX67_service (x1 : Int) (x2 : Int) : zFr W_fX67_service (fX67_service x1 x2) :=
  (fr_al fun v1 => (fr_ite (fr_fX67_service_J16 x1) (fr_ite (fr_al fun v6 => (fr_lt fun v7 => (fr_ite (fr_ite (fr_fX67_service_J99 x1 x2 v7) (fr_al fun v14 => (fr_ite (fr_fX67_service_J99 x1 x2 v7) (fr_as (by decide) (fr_cl (fr_mono (by decide) (fr_fX67_tell x1 7 0 0 0)) fun _ => (fr_ret _)))))) (fr_cl (fr_mono (by decide) (fr_fX67_comeBack x1 v7)) fun _ => (fr_ret _))))) (fr_fX67_service_J16 x1))))
abbrev W_fX67_turnTo : List Nat := [6833, 6860, 6861, 6862]
theorem fr_fX67_turnTo_J42 (x1 : Int) (x2 : Int) : zFr W_fX67_turnTo (fX67_turnTo_J42 x1 x2) :=
  (fr_as (by decide) (fr_ret _))
theorem fr_fX67_turnTo_J27 (x1 : Int) (x2 : Int) (s1 : Int) (s2 : Int) : zFr W_fX67_turnTo (fX67_turnTo_J27 x1 x2 s1 s2) :=
  (fr_gf fun v3 => (fr_gf fun v4 => (fr_cl (fr_mono (by decide) (fr_fX67_tell s1 s2 x2 v3 v4)) fun _ => (fr_fX67_turnTo_J42 x1 x2))))
theorem fr_fX67_turnTo (x1 : Int) (x2 : Int) : zFr W_fX67_turnTo (fX67_turnTo x1 x2) :=
  (fr_al fun v1 => (fr_ite (fr_fX67_turnTo_J42 x1 x2) (fr_al fun v2 => (fr_ite (fr_fX67_turnTo_J27 x1 x2 x1 4) (fr_fX67_turnTo_J27 x1 x2 x1 3)))))
abbrev W_fX67_call : List Nat := [6828, 6829, 6830, 6831, 6832, 6833, 6860, 6861, 6862, 6874, 6875, 6876, 6877]
theorem fr_fX67_call_J41 (s1 : Int) : zFr W_fX67_call (fX67_call_J41 s1) :=
  (fr_gf fun v4 => (fr_gf fun v5 => (fr_gf fun v6 => (fr_cl (fr_mono (by decide) (fr_fX67_fail s1 v4 v5 v6)) fun _ => (fr_ret _)))))
theorem fr_fX67_call_J29 (x4 : Int) : zFr W_fX67_call (fX67_call_J29 x4) :=
  (fr_ite (fr_fX67_call_J41 3) (fr_fX67_call_J41 x4))
theorem fr_fX67_call_J223 (x1 : Int) (x2 : Int) (x3 : Int) (x4 : Int) (x7 : Int) : zFr W_fX67_call (fX67_call_J223 x1 x2 x3 x4 x7) :=
  (fr_ite (fr_as (by decide) (fr_as (by decide) (fr_al fun v20 => (fr_as (by decide) (fr_as (by decide) (fr_as (by decide) (fr_as (by decide) (fr_cl (fr_mono (by decide) (fr_fX67_turnTo x1 x7)) fun _ => (fr_cl (fr_mono (by decide) (fr_fX67_go x1)) fun _ => (fr_ret _)))))))))) (fr_gf fun v23 => (fr_gf fun v24 => (fr_gf fun v25 => (fr_cl (fr_mono (by decide) (fr_fX67_fail x4 v23 v24 v25)) fun _ => (fr_ret _))))))
theorem fr_fX67_call_J221 (x1 : Int) (x2 : Int) (x3 : Int) (x4 : Int) (s0 : Int) : zFr W_fX67_call (fX67_call_J221 x1 x2 x3 x4 s0) :=
  (fr_fX67_call_J223 x1 x2 x3 x4 s0)
theorem fr_fX67_call_J187 (x1 : Int) (x2 : Int) (x3 : Int) (x5 : Int) (x7 : Int) (s0 : Int) : zFr W_fX67_call (fX67_call_J187 x1 x2 x3 x5 x7 s0) :=
  (fr_al fun v19 => (fr_ite (fr_fX67_call_J221 x1 x2 x3 s0 x7) (fr_al fun v27 => (fr_fX67_call_J221 x1 x2 x3 s0 v27))))
theorem fr_fX67_call_J115 (x1 : Int) (x2 : Int) (x3 : Int) (x5 : Int) (x6 : Int) (x7 : Int) : zFr W_fX67_call (fX67_call_J115 x1 x2 x3 x5 x6 x7) :=
  (fr_ite (fr_al fun v15 => (fr_ite (fr_al fun v16 => (fr_ite (fr_gf fun v17 => (fr_al fun v18 => (fr_ite (fr_fX67_call_J187 x1 x2 x3 x5 x7 0) (fr_fX67_call_J187 x1 x2 x3 x5 x7 6)))) (fr_fX67_call_J187 x1 x2 x3 x5 x7 5))) (fr_fX67_call_J187 x1 x2 x3 x5 x7 0))) (fr_fX67_call_J187 x1 x2 x3 x5 x7 7))
theorem fr_fX67_call (x1 : Int) (x2 : Int) (x3 : Int) : zFr W_fX67_call (fX67_call x1 x2 x3) :=
  (fr_gf fun v1 => (fr_gf fun v2 => (fr_cl (fr_mono (by decide) (fr_fX67_missing x1 v1 v2)) fun v3 => (fr_ite (fr_fX67_call_J29 v3) (fr_gf fun v8 => (fr_ite (fr_gf fun v9 => (fr_al fun v10 => (fr_gf fun v11 => (fr_cl (fr_mono (by decide) (fr_fX67_barred x1 v10 v11 2)) fun v12 => (fr_al fun v13 => (fr_gf fun v14 => (fr_ite (fr_fX67_call_J115 x1 x2 x3 v10 v13 v14) (fr_ite (fr_fX67_call_J223 x1 x2 x3 v12 v14) (fr_fX67_call_J115 x1 x2 x3 v10 v13 v14))))))))) (fr_fX67_call_J29 v3)))))))
abbrev W_fX67_isObject : List Nat := []
theorem fr_fX67_isObject (x1 : Int) : zFr W_fX67_isObject (fX67_isObject x1) :=
  (fr_al fun v1 => (fr_ite (fr_ret _) (fr_al fun v2 => (fr_ite (fr_ret _) (fr_ret _)))))
abbrev W_fX67_searched : List Nat := []
theorem fr_fX67_searched_J91 {r5 : Int → zX} (hr5 : ∀ s, zFr W_fX67_searched (r5 s)) (x1 : Int) (x2 : Int) (x4 : Int) : zFr W_fX67_searched (fX67_searched_J91 r5 x1 x2 x4) :=
  (fr_lt fun v3 => (hr5 v3))
theorem fr_fX67_searched_B5 (x1 : Int) (x2 : Int) : ∀ r5 : Int → zX, (∀ s, zFr W_fX67_searched (r5 s)) → ∀ s, zFr W_fX67_searched (fX67_searched_B5 x1 x2 r5 s) := by
  intro r5 hr5 x4
  unfold fX67_searched_B5
  exact (fr_ite (fr_ret _) (fr_al fun v2 => (fr_ite (fr_fX67_searched_J91 hr5 x1 x2 x4) (fr_cl (fr_mono (by decide) (fr_fX67_askDirectory x1 v2 1)) fun v4 => (fr_ite (fr_fX67_searched_J91 hr5 x1 x2 x4) (fr_cl (fr_mono (by decide) (fr_fX67_entryNamed v2 x2)) fun v5 => (fr_ite (fr_fX67_searched_J91 hr5 x1 x2 x4) (fr_al fun v6 => (fr_ite (fr_fX67_searched_J91 hr5 x1 x2 x4) (fr_al fun v7 => (fr_al fun v8 => (fr_cl (fr_mono (by decide) (fr_fX67_modesFor v5 v7 v8)) fun v9 => (fr_ite (fr_fX67_searched_J91 hr5 x1 x2 x4) (fr_ret _))))))))))))))
theorem fr_fX67_searched (x1 : Int) (x2 : Int) : zFr W_fX67_searched (fX67_searched x1 x2) :=
  (fr_lt fun v1 => (fr_lp (fr_fX67_searched_B5 x1 x2) zBIG v1))
abbrev W_fX67_definitionPlace : List Nat := []
theorem fr_fX67_definitionPlace (x1 : Int) (x2 : Int) : zFr W_fX67_definitionPlace (fX67_definitionPlace x1 x2) :=
  (fr_al fun v1 => (fr_lt fun v2 => (fr_ite (fr_ret _) (fr_al fun v3 => (fr_ite (fr_ret _) (fr_ret _))))))
abbrev W_fX67_defined : List Nat := []
theorem fr_fX67_defined_J64 {r3 : Int → zX} (hr3 : ∀ s, zFr W_fX67_defined (r3 s)) (x1 : Int) (x2 : Int) (x4 : Int) : zFr W_fX67_defined (fX67_defined_J64 r3 x1 x2 x4) :=
  (fr_lt fun v2 => (hr3 v2))
theorem fr_fX67_defined_J43 (x1 : Int) (x5 : Int) : zFr W_fX67_defined (fX67_defined_J43 x1 x5) :=
  (fr_al fun v4 => (fr_ret _))
theorem fr_fX67_defined_B3 (x1 : Int) (x2 : Int) : ∀ r3 : Int → zX, (∀ s, zFr W_fX67_defined (r3 s)) → ∀ s, zFr W_fX67_defined (fX67_defined_B3 x1 x2 r3 s) := by
  intro r3 hr3 x4
  unfold fX67_defined_B3
  exact (fr_ite (fr_ret _) (fr_cl (fr_mono (by decide) (fr_fX67_definitionPlace x1 x4)) fun v1 => (fr_ite (fr_fX67_defined_J64 hr3 x1 x2 x4) (fr_al fun v3 => (fr_ite (fr_fX67_defined_J64 hr3 x1 x2 x4) (fr_fX67_defined_J43 x1 v1))))))
theorem fr_fX67_defined (x1 : Int) (x2 : Int) : zFr W_fX67_defined (fX67_defined x1 x2) :=
  (fr_lp (fr_fX67_defined_B3 x1 x2) zBIG 0)
abbrev W_fX67_linkPlace : List Nat := []
theorem fr_fX67_linkPlace (x1 : Int) (x2 : Int) : zFr W_fX67_linkPlace (fX67_linkPlace x1 x2) :=
  (fr_al fun v1 => (fr_lt fun v2 => (fr_ite (fr_ret _) (fr_al fun v3 => (fr_ite (fr_ret _) (fr_ret _))))))
abbrev W_fX67_bindNow : List Nat := [6838, 6839, 6860, 6861, 6862]
theorem fr_fX67_bindNow_J144 (x1 : Int) (x2 : Int) (x3 : Int) (x7 : Int) (s0 : Int) : zFr W_fX67_bindNow (fX67_bindNow_J144 x1 x2 x3 x7 s0) :=
  (fr_ite (fr_as (by decide) (fr_cl (fr_mono (by decide) (fr_fX67_tell x1 5 x2 x7 s0)) fun _ => (fr_ret _))) (fr_ret _))
theorem fr_fX67_bindNow_J86 (x1 : Int) (x2 : Int) (x3 : Int) (x4 : Int) (x5 : Int) (x6 : Int) (s0 : Int) : zFr W_fX67_bindNow (fX67_bindNow_J86 x1 x2 x3 x4 x5 x6 s0) :=
  (fr_ite (fr_as (by decide) (fr_cl (fr_mono (by decide) (fr_fX67_isObject x6)) fun v7 => (fr_ite (fr_fX67_bindNow_J144 x1 x2 x3 s0 (-1)) (fr_al fun v9 => (fr_cl (fr_mono (by decide) (fr_fX67_defined x6 v9)) fun v10 => (fr_fX67_bindNow_J144 x1 x2 x3 s0 v10)))))) (fr_ret _))
theorem fr_fX67_bindNow_J68 (x1 : Int) (x2 : Int) (x3 : Int) (x4 : Int) (x5 : Int) (s0 : Int) : zFr W_fX67_bindNow (fX67_bindNow_J68 x1 x2 x3 x4 x5 s0) :=
  (fr_ite (fr_cl (fr_mono (by decide) (fr_fX67_numberFor x1 s0)) fun v6 => (fr_fX67_bindNow_J86 x1 x2 x3 x4 x5 s0 v6)) (fr_fX67_bindNow_J86 x1 x2 x3 x4 x5 s0 (-1)))
theorem fr_fX67_bindNow_J38 (x1 : Int) (x2 : Int) (x3 : Int) (x4 : Int) (s0 : Int) : zFr W_fX67_bindNow (fX67_bindNow_J38 x1 x2 x3 x4 s0) :=
  (fr_ite (fr_al fun v4 => (fr_cl (fr_mono (by decide) (fr_fX67_searched x1 v4)) fun v5 => (fr_fX67_bindNow_J68 x1 x2 x3 x4 s0 v5))) (fr_fX67_bindNow_J68 x1 x2 x3 x4 s0 (-1)))
theorem fr_fX67_bindNow (x1 : Int) (x2 : Int) (x3 : Int) : zFr W_fX67_bindNow (fX67_bindNow x1 x2 x3) :=
  (fr_al fun v1 => (fr_al fun v2 => (fr_cl (fr_mono (by decide) (fr_fX67_isObject v2)) fun v3 => (fr_ite (fr_fX67_bindNow_J38 x1 x2 x3 v2 (-1)) (fr_cl (fr_mono (by decide) (fr_fX67_linkPlace v2 x2)) fun v11 => (fr_fX67_bindNow_J38 x1 x2 x3 v2 v11))))))
abbrev W_fX67_bind : List Nat := [6838, 6839, 6860, 6861, 6862, 6874, 6875, 6876, 6877, 6878, 6879]
theorem fr_fX67_bind_J45 (x1 : Int) : zFr W_fX67_bind (fX67_bind_J45 x1) :=
  (fr_al fun v3 => (fr_al fun v4 => (fr_al fun v5 => (fr_cl (fr_mono (by decide) (fr_fX67_fail 11 v3 v4 v5)) fun _ => (fr_ret _)))))
theorem fr_fX67_bind_J71 (x3 : Int) : zFr W_fX67_bind (fX67_bind_J71 x3) :=
  (fr_al fun v8 => (fr_pf (by decide) (fr_al fun v9 => (fr_pf (by decide) (fr_ret _)))))
theorem fr_fX67_bind (x1 : Int) (x2 : Int) : zFr W_fX67_bind (fX67_bind x1 x2) :=
  (fr_al fun v1 => (fr_lt fun v2 => (fr_ite (fr_fX67_bind_J45 x1) (fr_al fun v7 => (fr_ite (fr_fX67_bind_J71 v2) (fr_cl (fr_mono (by decide) (fr_fX67_bindNow x1 x2 v2)) fun v10 => (fr_ite (fr_fX67_bind_J71 v2) (fr_fX67_bind_J45 x1))))))))
abbrev W_fX67_follow : List Nat := [6874, 6875, 6876, 6877, 6878, 6879, 6880]
theorem fr_fX67_follow_J97 : zFr W_fX67_follow (fX67_follow_J97) :=
  (fr_gf fun v8 => (fr_gf fun v9 => (fr_gf fun v10 => (fr_cl (fr_mono (by decide) (fr_fX67_fail 9 v8 v9 v10)) fun _ => (fr_ret _)))))
theorem fr_fX67_follow_J254 {r4 : Int × Int → zX} (hr4 : ∀ s, zFr W_fX67_follow (r4 s)) (x1 : Int) (x3 : Int) (s0 : Int) : zFr W_fX67_follow (fX67_follow_J254 r4 x1 x3 s0) :=
  (fr_lt fun v21 => (hr4 (s0, v21)))
theorem fr_fX67_follow_J209 {r4 : Int × Int → zX} (hr4 : ∀ s, zFr W_fX67_follow (r4 s)) (x1 : Int) (x3 : Int) (x4 : Int) (s1 : Int) : zFr W_fX67_follow (fX67_follow_J209 r4 x1 x3 x4 s1) :=
  (fr_pf (by decide) (fr_pf (by decide) (fr_pf (by decide) (fr_ite (fr_fX67_follow_J254 hr4 x1 x3 0) (fr_fX67_follow_J254 hr4 x1 x3 1)))))
theorem fr_fX67_follow_J187 {r4 : Int × Int → zX} (hr4 : ∀ s, zFr W_fX67_follow (r4 s)) (x1 : Int) (x3 : Int) (x4 : Int) (x6 : Int) (s1 : Int) : zFr W_fX67_follow (fX67_follow_J187 r4 x1 x3 x4 x6 s1) :=
  (fr_pf (by decide) (fr_gf fun v19 => (fr_ite (fr_gf fun v20 => (fr_fX67_follow_J209 hr4 x1 x3 x4 v20)) (fr_fX67_follow_J209 hr4 x1 x3 x4 x6))))
theorem fr_fX67_follow_J154 {r4 : Int × Int → zX} (hr4 : ∀ s, zFr W_fX67_follow (r4 s)) (x1 : Int) (x3 : Int) (x4 : Int) (s0 : Int) : zFr W_fX67_follow (fX67_follow_J154 r4 x1 x3 x4 s0) :=
  (fr_lt fun v16 => (fr_gf fun v17 => (fr_ite (fr_gf fun v18 => (fr_fX67_follow_J187 hr4 x1 x3 x4 s0 v18)) (fr_fX67_follow_J187 hr4 x1 x3 x4 s0 v16))))
theorem fr_fX67_follow_J13 : zFr W_fX67_follow (fX67_follow_J13) :=
  (fr_gf fun v23 => (fr_gf fun v24 => (fr_gf fun v25 => (fr_cl (fr_mono (by decide) (fr_fX67_fail 10 v23 v24 v25)) fun _ => (fr_ret _)))))
theorem fr_fX67_follow_B4 (x1 : Int) : ∀ r4 : Int × Int → zX, (∀ s, zFr W_fX67_follow (r4 s)) → ∀ s, zFr W_fX67_follow (fX67_follow_B4 x1 r4 s) := by
  intro r4 hr4 s
  obtain ⟨x2, x3⟩ := s
  unfold fX67_follow_B4
  exact (fr_ite (fr_ret _) (fr_ite (fr_gf fun v1 => (fr_gf fun v2 => (fr_gf fun v3 => (fr_cl (fr_mono (by decide) (fr_fX67_access x1 v1 v2 v3 1)) fun v4 => (fr_ite (fr_gf fun v5 => (fr_gf fun v6 => (fr_cl (fr_mono (by decide) (fr_fX67_wordAt x1 v5 v6)) fun v7 => (fr_ite fr_fX67_follow_J97 (fr_ite (fr_gf fun v12 => (fr_ite (fr_gf fun v13 => (fr_al fun v14 => (fr_al fun v15 => (fr_fX67_follow_J154 hr4 x1 x3 v7 v15)))) (fr_gf fun v22 => (fr_fX67_follow_J154 hr4 x1 x3 v7 v22)))) fr_fX67_follow_J97))))) (fr_ret _)))))) fr_fX67_follow_J13))
theorem fr_fX67_follow (x1 : Int) : zFr W_fX67_follow (fX67_follow x1) :=
  (fr_lp (fr_fX67_follow_B4 x1) zBIG (1, 0))
abbrev W_fX67_find_2 : List Nat := [6838, 6839, 6860, 6861, 6862, 6874, 6875, 6876, 6877, 6878, 6879, 6880]
theorem fr_fX67_find_2_J201 (x1 : Int) : zFr W_fX67_find_2 (fX67_find_2_J201 x1) :=
  (fr_gf fun v9 => (fr_ite (fr_ret _) (fr_cl (fr_mono (by decide) (fr_fX67_follow x1)) fun v10 => (fr_ite (fr_ret _) (fr_ret _)))))
theorem fr_fX67_find_2_J190 (x1 : Int) (x2 : Int) : zFr W_fX67_find_2 (fX67_find_2_J190 x1 x2) :=
  (fr_cl (fr_mono (by decide) (fr_fX67_bind x1 x2)) fun v8 => (fr_ite (fr_fX67_find_2_J201 x1) (fr_ret _)))
theorem fr_fX67_find_2_J171 (x1 : Int) (s1 : Int) : zFr W_fX67_find_2 (fX67_find_2_J171 x1 s1) :=
  (fr_pf (by decide) (fr_fX67_find_2_J201 x1))
theorem fr_fX67_find_2_J59 (x1 : Int) (x2 : Int) (s0 : Int) : zFr W_fX67_find_2 (fX67_find_2_J59 x1 x2 s0) :=
  (fr_al fun v5 => (fr_pf (by decide) (fr_pf (by decide) (fr_al fun v6 => (fr_pf (by decide) (fr_gf fun v7 => (fr_ite (fr_ite (fr_ite (fr_fX67_find_2_J190 x1 x2) (fr_gf fun v11 => (fr_ite (fr_fX67_find_2_J201 x1) (fr_fX67_find_2_J190 x1 x2)))) (fr_gf fun v12 => (fr_lt fun v13 => (fr_al fun v14 => (fr_pf (by decide) (fr_al fun v15 => (fr_pf (by decide) (fr_al fun v16 => (fr_al fun v17 => (fr_ite (fr_al fun v18 => (fr_fX67_find_2_J171 x1 v18)) (fr_al fun v19 => (fr_fX67_find_2_J171 x1 v19)))))))))))) (fr_ret _))))))))
theorem fr_fX67_find_2_J37 (x1 : Int) (s0 : Int) : zFr W_fX67_find_2 (fX67_find_2_J37 x1 s0) :=
  (fr_gf fun v3 => (fr_ite (fr_gf fun v4 => (fr_fX67_find_2_J59 x1 s0 v4)) (fr_gf fun v20 => (fr_fX67_find_2_J59 x1 s0 (zi (v20 - 4))))))
theorem fr_fX67_find_2 (x1 : Int) : zFr W_fX67_find_2 (fX67_find_2 x1) :=
  (fr_gf fun v1 => (fr_ite (fr_gf fun v2 => (fr_fX67_find_2_J37 x1 v2)) (fr_gf fun v21 => (fr_gf fun v22 => (fr_al fun v23 => (fr_fX67_find_2_J37 x1 (Int.tmod (zi (v21 + v23)) 262144)))))))
abbrev W_fX67_perform : List Nat := [6800, 6801, 6802, 6803, 6804, 6805, 6806, 6807, 6808, 6809, 6810, 6811, 6812, 6813, 6814, 6815, 6816, 6817, 6818, 6819, 6821, 6825, 6826, 6827, 6828, 6829, 6830, 6831, 6832, 6833, 6834, 6835, 6837, 6838, 6839, 6840, 6841, 6842, 6843, 6844, 6845, 6846, 6847, 6848, 6860, 6861, 6862, 6865, 6866, 6874, 6875, 6876, 6877, 6878, 6879, 6880, 6881, 6882, 6883, 6884, 6885, 6886]
theorem fr_fX67_perform_J178 (x1 : Int) (x2 : Int) (x3 : Int) (x6 : Int) : zFr W_fX67_perform (fX67_perform_J178 x1 x2 x3 x6) :=
  (fr_lt fun v9 => (fr_gf fun v10 => (fr_ite (fr_gf fun v11 => (fr_ite (fr_gf fun v12 => (fr_ite (fr_as (by decide) (fr_cl (fr_mono (by decide) (fr_fX67_act x1 x6 x3)) fun _ => (fr_ret _))) (fr_gf fun v14 => (fr_cl (fr_mono (by decide) (fr_fX67_service x1 v14)) fun _ => (fr_ret _))))) (fr_gf fun v16 => (fr_cl (fr_mono (by decide) (fr_fX67_turnTo x1 v16)) fun _ => (fr_cl (fr_mono (by decide) (fr_fX67_go x1)) fun _ => (fr_ret _)))))) (fr_cl (fr_mono (by decide) (fr_fX67_call x1 x2 x3)) fun _ => (fr_ret _)))))
theorem fr_fX67_perform_J162 (x1 : Int) (x2 : Int) (x3 : Int) (x6 : Int) (s0 : Int) : zFr W_fX67_perform (fX67_perform_J162 x1 x2 x3 x6 s0) :=
  (fr_ite (fr_fX67_perform_J178 x1 x2 x3 x6) (fr_cl (fr_mono (by decide) (fr_fX67_find_2 x1)) fun v20 => (fr_ite (fr_fX67_perform_J178 x1 x2 x3 x6) (fr_ret _))))
theorem fr_fX67_perform_J157 (x1 : Int) (x2 : Int) (x3 : Int) (x6 : Int) : zFr W_fX67_perform (fX67_perform_J157 x1 x2 x3 x6) :=
  (fr_fX67_perform_J162 x1 x2 x3 x6 1)
theorem fr_fX67_perform (x1 : Int) : zFr W_fX67_perform (fX67_perform x1) :=
  (fr_al fun v1 => (fr_al fun v2 => (fr_al fun v3 => (fr_cl (fr_mono (by decide) (fr_fX67_access x1 v1 v2 v3 2)) fun v4 => (fr_ite (fr_cl (fr_mono (by decide) (fr_fX67_wordAt x1 v1 v2)) fun v5 => (fr_pf (by decide) (fr_pf (by decide) (fr_pf (by decide) (fr_lt fun v6 => (fr_pf (by decide) (fr_pf (by decide) (fr_cl (fr_mono (by decide) (fr_fX67_isLegal v6)) fun v7 => (fr_ite (fr_gf fun v8 => (fr_ite (fr_fX67_perform_J157 x1 v1 v2 v6) (fr_gf fun v21 => (fr_ite (fr_fX67_perform_J162 x1 v1 v2 v6 0) (fr_fX67_perform_J157 x1 v1 v2 v6))))) (fr_al fun v22 => (fr_cl (fr_mono (by decide) (fr_fX67_fail 8 v1 v2 v22)) fun _ => (fr_ret _)))))))))))) (fr_ret _))))))
abbrev W_fX67_suffer : List Nat := [6809, 6821, 6825, 6826, 6831, 6832, 6833, 6848, 6849, 6850, 6851, 6852, 6853, 6854, 6855, 6856, 6857, 6858, 6859, 6860, 6861, 6862, 6865, 6866]
theorem fr_fX67_suffer_J129 (x1 : Int) : zFr W_fX67_suffer (fX67_suffer_J129 x1) :=
  (fr_as (by decide) (fr_cl (fr_mono (by decide) (fr_fX67_tell x1 9 0 0 0)) fun _ => (fr_ret _)))
theorem fr_fX67_suffer_J305 (x1 : Int) (x2 : Int) : zFr W_fX67_suffer (fX67_suffer_J305 x1 x2) :=
  (fr_al fun v17 => (fr_as (by decide) (fr_al fun v18 => (fr_as (by decide) (fr_al fun v19 => (fr_as (by decide) (fr_al fun v20 => (fr_as (by decide) (fr_al fun v21 => (fr_as (by decide) (fr_gf fun v22 => (fr_as (by decide) (fr_gf fun v23 => (fr_gf fun v24 => (fr_gf fun v25 => (fr_cl (fr_mono (by decide) (fr_fX67_pointerWord v23 v24 v25)) fun v26 => (fr_as (by decide) (fr_al fun v27 => (fr_as (by decide) (fr_al fun v28 => (fr_as (by decide) (fr_al fun v29 => (fr_as (by decide) (fr_ret _))))))))))))))))))))))))
theorem fr_fX67_suffer_B227 (x1 : Int) (x2 : Int) : ∀ r227 : Int → zX, (∀ s, zFr W_fX67_suffer (r227 s)) → ∀ s, zFr W_fX67_suffer (fX67_suffer_B227 x1 x2 r227 s) := by
  intro r227 hr227 x3
  unfold fX67_suffer_B227
  exact (fr_ite (fr_fX67_suffer_J305 x1 x2) (fr_al fun v30 => (fr_as (by decide) (fr_al fun v31 => (fr_as (by decide) (fr_al fun v32 => (fr_as (by decide) (fr_lt fun v33 => (hr227 v33)))))))))
theorem fr_fX67_suffer_J225 (x1 : Int) (x2 : Int) : zFr W_fX67_suffer (fX67_suffer_J225 x1 x2) :=
  (fr_lp (fr_fX67_suffer_B227 x1 x2) zBIG 0)
theorem fr_fX67_suffer_B194 (x1 : Int) (x2 : Int) : ∀ r194 : Int → zX, (∀ s, zFr W_fX67_suffer (r194 s)) → ∀ s, zFr W_fX67_suffer (fX67_suffer_B194 x1 x2 r194 s) := by
  intro r194 hr194 x3
  unfold fX67_suffer_B194
  exact (fr_ite (fr_fX67_suffer_J225 x1 x2) (fr_al fun v34 => (fr_as (by decide) (fr_lt fun v35 => (hr194 v35)))))
theorem fr_fX67_suffer_J74 (x1 : Int) : zFr W_fX67_suffer (fX67_suffer_J74 x1) :=
  (fr_gf fun v3 => (fr_gf fun v4 => (fr_gf fun v5 => (fr_cl (fr_mono (by decide) (fr_fX67_tell x1 2 v3 v4 v5)) fun _ => (fr_al fun v7 => (fr_ite (fr_fX67_suffer_J129 x1) (fr_al fun v9 => (fr_al fun v10 => (fr_ite (fr_fX67_suffer_J129 x1) (fr_al fun v11 => (fr_ite (fr_al fun v12 => (fr_lt fun v13 => (fr_al fun v14 => (fr_as (by decide) (fr_al fun v15 => (fr_as (by decide) (fr_al fun v16 => (fr_as (by decide) (fr_lp (fr_fX67_suffer_B194 x1 v13) zBIG 0))))))))) (fr_fX67_suffer_J129 x1))))))))))))
theorem fr_fX67_suffer_J72 (x1 : Int) (s1 : Int) (s2 : Int) (s3 : Int) : zFr W_fX67_suffer (fX67_suffer_J72 x1 s1 s2 s3) :=
  (fr_as (by decide) (fr_fX67_suffer_J74 x1))
theorem fr_fX67_suffer (x1 : Int) : zFr W_fX67_suffer (fX67_suffer x1) :=
  (fr_gf fun v1 => (fr_cl (fr_mono (by decide) (fr_fX67_in v1 3 7)) fun v2 => (fr_ite (fr_fX67_suffer_J74 x1) (fr_gf fun v36 => (fr_ite (fr_fX67_suffer_J74 x1) (fr_gf fun v37 => (fr_al fun v38 => (fr_gf fun v39 => (fr_cl (fr_mono (by decide) (fr_fX67_note x1 1 v38 v39)) fun _ => (fr_al fun v41 => (fr_gf fun v42 => (fr_ite (fr_fX67_suffer_J72 x1 v38 v41 0) (fr_fX67_suffer_J72 x1 v38 v41 1)))))))))))))
abbrev W_fX67_isTicked : List Nat := [6800, 6801, 6802, 6803, 6804, 6805, 6806, 6807, 6808, 6809, 6810, 6811, 6812, 6813, 6814, 6815, 6816, 6817, 6818, 6819, 6821, 6825, 6826, 6827, 6828, 6829, 6830, 6831, 6832, 6833, 6834, 6835, 6836, 6837, 6838, 6839, 6840, 6841, 6842, 6843, 6844, 6845, 6846, 6847, 6848, 6849, 6850, 6851, 6852, 6853, 6854, 6855, 6856, 6857, 6858, 6859, 6860, 6861, 6862, 6865, 6866, 6874, 6875, 6876, 6877, 6878, 6879, 6880, 6881, 6882, 6883, 6884, 6885, 6886]
theorem fr_fX67_isTicked_J79 (x1 : Int) : zFr W_fX67_isTicked (fX67_isTicked_J79 x1) :=
  (fr_al fun v5 => (fr_as (by decide) (fr_pf (by decide) (fr_cl (fr_mono (by decide) (fr_fX67_perform x1)) fun _ => (fr_gf fun v7 => (fr_ite (fr_ret _) (fr_cl (fr_mono (by decide) (fr_fX67_suffer x1)) fun _ => (fr_ret _))))))))
theorem fr_fX67_isTicked_J44 (x1 : Int) : zFr W_fX67_isTicked (fX67_isTicked_J44 x1) :=
  (fr_al fun v4 => (fr_ite (fr_fX67_isTicked_J79 x1) (fr_as (by decide) (fr_al fun v9 => (fr_cl (fr_mono (by decide) (fr_fX67_tell x1 8 v9 0 0)) fun _ => (fr_fX67_isTicked_J79 x1))))))
theorem fr_fX67_isTicked (x1 : Int) : zFr W_fX67_isTicked (fX67_isTicked x1) :=
  (fr_ite (fr_ret _) (fr_al fun v1 => (fr_ite (fr_ret _) (fr_al fun v2 => (fr_ite (fr_ret _) (fr_al fun v3 => (fr_ite (fr_fX67_isTicked_J44 x1) (fr_al fun v11 => (fr_ite (fr_fX67_isTicked_J44 x1) (fr_ret _))))))))))
abbrev W_fX67_tick : List Nat := [6800, 6801, 6802, 6803, 6804, 6805, 6806, 6807, 6808, 6809, 6810, 6811, 6812, 6813, 6814, 6815, 6816, 6817, 6818, 6819, 6821, 6825, 6826, 6827, 6828, 6829, 6830, 6831, 6832, 6833, 6834, 6835, 6836, 6837, 6838, 6839, 6840, 6841, 6842, 6843, 6844, 6845, 6846, 6847, 6848, 6849, 6850, 6851, 6852, 6853, 6854, 6855, 6856, 6857, 6858, 6859, 6860, 6861, 6862, 6865, 6866, 6874, 6875, 6876, 6877, 6878, 6879, 6880, 6881, 6882, 6883, 6884, 6885, 6886]
theorem fr_fX67_tick_J49 {r28 : Int × Int → zX} (hr28 : ∀ s, zFr W_fX67_tick (r28 s)) (x1 : Int) (x2 : Int) (x4 : Int) (s0 : Int) : zFr W_fX67_tick (fX67_tick_J49 r28 x1 x2 x4 s0) :=
  (fr_lt fun v4 => (hr28 (s0, v4)))
theorem fr_fX67_tick_B28 (x1 : Int) (x2 : Int) : ∀ r28 : Int × Int → zX, (∀ s, zFr W_fX67_tick (r28 s)) → ∀ s, zFr W_fX67_tick (fX67_tick_B28 x1 x2 r28 s) := by
  intro r28 hr28 s
  obtain ⟨x3, x4⟩ := s
  unfold fX67_tick_B28
  exact (fr_ite (fr_ret _) (fr_cl (fr_mono (by decide) (fr_fX67_isTicked x1)) fun v3 => (fr_ite (fr_fX67_tick_J49 hr28 x1 x2 x4 x3) (fr_fX67_tick_J49 hr28 x1 x2 x4 (zi (x3 + 1))))))
theorem fr_fX67_tick (x1 : Int) (x2 : Int) : zFr W_fX67_tick (fX67_tick x1 x2) :=
  (fr_cl (fr_mono (by decide) (fr_fX67_isThere x1)) fun v1 => (fr_ite (fr_ret _) (fr_cl (fr_mono (by decide) (fr_fX67_in x2 1 1000)) fun v2 => (fr_ite (fr_lp (fr_fX67_tick_B28 x1 x2) zBIG (0, 0)) (fr_ret _)))))
abbrev W_fX67_schedule : List Nat := [6863]
theorem fr_fX67_schedule (x1 : Int) (x2 : Int) : zFr W_fX67_schedule (fX67_schedule x1 x2) :=
  (fr_cl (fr_mono (by decide) (fr_fX67_in x1 0 15)) fun v1 => (fr_ite (fr_ret _) (fr_cl (fr_mono (by decide) (fr_fX67_in x2 (-1) 7)) fun v2 => (fr_ite (fr_al fun v3 => (fr_as (by decide) (fr_ret _))) (fr_ret _)))))
abbrev W_fX67_run : List Nat := [6800, 6801, 6802, 6803, 6804, 6805, 6806, 6807, 6808, 6809, 6810, 6811, 6812, 6813, 6814, 6815, 6816, 6817, 6818, 6819, 6821, 6825, 6826, 6827, 6828, 6829, 6830, 6831, 6832, 6833, 6834, 6835, 6836, 6837, 6838, 6839, 6840, 6841, 6842, 6843, 6844, 6845, 6846, 6847, 6848, 6849, 6850, 6851, 6852, 6853, 6854, 6855, 6856, 6857, 6858, 6859, 6860, 6861, 6862, 6864, 6865, 6866, 6874, 6875, 6876, 6877, 6878, 6879, 6880, 6881, 6882, 6883, 6884, 6885, 6886]
theorem fr_fX67_run_J64 {r19 : Int × Int → zX} (hr19 : ∀ s, zFr W_fX67_run (r19 s)) (x1 : Int) (x3 : Int) (s0 : Int) : zFr W_fX67_run (fX67_run_J64 r19 x1 x3 s0) :=
  (fr_lt fun v6 => (hr19 (s0, v6)))
theorem fr_fX67_run_B19 (x1 : Int) : ∀ r19 : Int × Int → zX, (∀ s, zFr W_fX67_run (r19 s)) → ∀ s, zFr W_fX67_run (fX67_run_B19 x1 r19 s) := by
  intro r19 hr19 s
  obtain ⟨x2, x3⟩ := s
  unfold fX67_run_B19
  exact (fr_ite (fr_ret _) (fr_gf fun v2 => (fr_al fun v3 => (fr_gf fun v4 => (fr_pf (by decide) (fr_cl (fr_mono (by decide) (fr_fX67_isTicked v3)) fun v5 => (fr_ite (fr_fX67_run_J64 hr19 x1 x3 x2) (fr_fX67_run_J64 hr19 x1 x3 (zi (x2 + 1))))))))))
theorem fr_fX67_run (x1 : Int) : zFr W_fX67_run (fX67_run x1) :=
  (fr_cl (fr_mono (by decide) (fr_fX67_in x1 1 2000)) fun v1 => (fr_ite (fr_lp (fr_fX67_run_B19 x1) zBIG (0, 0)) (fr_ret _)))
abbrev W_fX67_register : List Nat := []
theorem fr_fX67_register (x1 : Int) (x2 : Int) : zFr W_fX67_register (fX67_register x1 x2) :=
  (fr_cl (fr_mono (by decide) (fr_fX67_isThere x1)) fun v1 => (fr_ite (fr_cl (fr_mono (by decide) (fr_fX67_in x2 16 23)) fun v2 => (fr_ite (fr_cl (fr_mono (by decide) (fr_fX67_in x2 2 5)) fun v3 => (fr_ite (fr_ite (fr_al fun v5 => (fr_ret _)) (fr_ite (fr_al fun v7 => (fr_ret _)) (fr_ite (fr_al fun v9 => (fr_ret _)) (fr_ite (fr_al fun v11 => (fr_ret _)) (fr_ite (fr_al fun v13 => (fr_ret _)) (fr_ite (fr_al fun v15 => (fr_ite (fr_ret _) (fr_ret _))) (fr_ite (fr_al fun v17 => (fr_ite (fr_ret _) (fr_ret _))) (fr_ret _)))))))) (fr_al fun v18 => (fr_ret _)))) (fr_lt fun v19 => (fr_al fun v20 => (fr_al fun v21 => (fr_al fun v22 => (fr_cl (fr_mono (by decide) (fr_fX67_pointerWord v20 v21 v22)) fun v23 => (fr_ret _)))))))) (fr_ret _)))
abbrev W_fX67_process : List Nat := []
theorem fr_fX67_process (x1 : Int) (x2 : Int) : zFr W_fX67_process (fX67_process x1 x2) :=
  (fr_cl (fr_mono (by decide) (fr_fX67_isThere x1)) fun v1 => (fr_ite (fr_cl (fr_mono (by decide) (fr_fX67_in x2 8 11)) fun v2 => (fr_ite (fr_ite (fr_al fun v4 => (fr_ret _)) (fr_ite (fr_al fun v6 => (fr_ret _)) (fr_ite (fr_al fun v8 => (fr_ret _)) (fr_ite (fr_al fun v10 => (fr_ret _)) (fr_ite (fr_al fun v12 => (fr_ret _)) (fr_ite (fr_al fun v14 => (fr_ret _)) (fr_ite (fr_al fun v16 => (fr_ret _)) (fr_ite (fr_al fun v18 => (fr_ret _)) (fr_ite (fr_al fun v20 => (fr_ite (fr_ret _) (fr_ret _))) (fr_ite (fr_al fun v22 => (fr_ret _)) (fr_ret _))))))))))) (fr_al fun v23 => (fr_ret _)))) (fr_ret _)))
abbrev W_fX67_stack : List Nat := []
theorem fr_fX67_stack (x1 : Int) (x2 : Int) (x3 : Int) : zFr W_fX67_stack (fX67_stack x1 x2 x3) :=
  (fr_cl (fr_mono (by decide) (fr_fX67_isThere x1)) fun v1 => (fr_ite (fr_ret _) (fr_cl (fr_mono (by decide) (fr_fX67_in x2 0 7)) fun v2 => (fr_ite (fr_ret _) (fr_cl (fr_mono (by decide) (fr_fX67_in x3 0 63)) fun v3 => (fr_ite (fr_ret _) (fr_al fun v4 => (fr_ret _))))))))
abbrev W_fX67_known : List Nat := []
theorem fr_fX67_known (x1 : Int) (x2 : Int) : zFr W_fX67_known (fX67_known x1 x2) :=
  (fr_cl (fr_mono (by decide) (fr_fX67_isThere x1)) fun v1 => (fr_ite (fr_ret _) (fr_cl (fr_mono (by decide) (fr_fX67_in x2 8 31)) fun v2 => (fr_ite (fr_ret _) (fr_al fun v3 => (fr_ret _))))))
abbrev W_fX67_link : List Nat := []
theorem fr_fX67_link (x1 : Int) (x2 : Int) (x3 : Int) : zFr W_fX67_link (fX67_link x1 x2 x3) :=
  (fr_cl (fr_mono (by decide) (fr_fX67_isThere x1)) fun v1 => (fr_ite (fr_ret _) (fr_cl (fr_mono (by decide) (fr_fX67_in x2 8 31)) fun v2 => (fr_ite (fr_ret _) (fr_cl (fr_mono (by decide) (fr_fX67_in x3 0 15)) fun v3 => (fr_ite (fr_ret _) (fr_al fun v4 => (fr_ret _))))))))
abbrev W_fX67_event : List Nat := []
theorem fr_fX67_event (x1 : Int) (x2 : Int) (x3 : Int) : zFr W_fX67_event (fX67_event x1 x2 x3) :=
  (fr_cl (fr_mono (by decide) (fr_fX67_isThere x1)) fun v1 => (fr_ite (fr_ret _) (fr_ite (fr_ret _) (fr_al fun v2 => (fr_ite (fr_ret _) (fr_al fun v3 => (fr_ite (fr_cl (fr_mono (by decide) (fr_fX67_in x3 0 3)) fun v4 => (fr_ite (fr_ret _) (fr_al fun v5 => (fr_ret _)))) (fr_ret _))))))))
abbrev W_fX67_sum : List Nat := []
theorem fr_fX67_sum (x1 : Int) : zFr W_fX67_sum (fX67_sum x1) :=
  (fr_cl (fr_mono (by decide) (fr_fX67_isThere x1)) fun v1 => (fr_ite (fr_ret _) (fr_al fun v2 => (fr_ret _))))
abbrev W_fX67_lineEnd : List Nat := []
theorem fr_fX67_lineEnd_B2 : ∀ r2 : Int → zX, (∀ s, zFr W_fX67_lineEnd (r2 s)) → ∀ s, zFr W_fX67_lineEnd (fX67_lineEnd_B2 r2 s) := by
  intro r2 hr2 x2
  unfold fX67_lineEnd_B2
  exact (fr_gf fun v1 => (fr_ite (fr_ret _) (fr_al fun v2 => (fr_ite (fr_ret _) (fr_al fun v3 => (fr_ite (fr_ret _) (fr_lt fun v4 => (hr2 v4))))))))
theorem fr_fX67_lineEnd (x1 : Int) : zFr W_fX67_lineEnd (fX67_lineEnd x1) :=
  (fr_lp fr_fX67_lineEnd_B2 zBIG x1)
abbrev W_fX67_isLetter : List Nat := []
theorem fr_fX67_isLetter (x0 : Int) : zFr W_fX67_isLetter (fX67_isLetter x0) :=
  (fr_cl (fr_mono (by decide) (fr_fX67_in x0 97 122)) fun v1 => (fr_rb _))
abbrev W_fX67_isDigit : List Nat := []
theorem fr_fX67_isDigit (x0 : Int) : zFr W_fX67_isDigit (fX67_isDigit x0) :=
  (fr_cl (fr_mono (by decide) (fr_fX67_in x0 48 57)) fun v1 => (fr_rb _))
abbrev W_fX67_isOfWord : List Nat := []
theorem fr_fX67_isOfWord (x0 : Int) : zFr W_fX67_isOfWord (fX67_isOfWord x0) :=
  (fr_cl (fr_mono (by decide) (fr_fX67_isLetter x0)) fun v1 => (fr_ite (fr_ret _) (fr_cl (fr_mono (by decide) (fr_fX67_isDigit x0)) fun v2 => (fr_ite (fr_ret _) (fr_ite (fr_ret _) (fr_ite (fr_ret _) (fr_ret _)))))))
abbrev W_fX67_next : List Nat := [6887, 6888, 6889]
theorem fr_fX67_next_J219 (s1 : Int) : zFr W_fX67_next (fX67_next_J219 s1) :=
  (fr_pf (by decide) (fr_gf fun v10 => (fr_pf (by decide) (fr_ret _))))
theorem fr_fX67_next_J208 (s0 : Int) : zFr W_fX67_next (fX67_next_J208 s0) :=
  (fr_ite (fr_fX67_next_J219 3) (fr_fX67_next_J219 2))
theorem fr_fX67_next_J203 : zFr W_fX67_next (fX67_next_J203) :=
  (fr_fX67_next_J208 1)
theorem fr_fX67_next_B109 : ∀ r109 : Int → zX, (∀ s, zFr W_fX67_next (r109 s)) → ∀ s, zFr W_fX67_next (fX67_next_B109 r109 s) := by
  intro r109 hr109 _
  unfold fX67_next_B109
  exact (fr_gf fun v11 => (fr_gf fun v12 => (fr_ite (fr_ret _) (fr_gf fun v13 => (fr_al fun v14 => (fr_cl (fr_mono (by decide) (fr_fX67_isOfWord v14)) fun v15 => (fr_ite (fr_ret _) (fr_gf fun v16 => (fr_pf (by decide) (hr109 0))))))))))
theorem fr_fX67_next_J46 : zFr W_fX67_next (fX67_next_J46) :=
  (fr_gf fun v4 => (fr_pf (by decide) (fr_gf fun v5 => (fr_gf fun v6 => (fr_ite (fr_gf fun v7 => (fr_al fun v8 => (fr_cl (fr_mono (by decide) (fr_fX67_isOfWord v8)) fun v9 => (fr_ite (fr_ite fr_fX67_next_J203 (fr_ite fr_fX67_next_J203 (fr_ite fr_fX67_next_J203 (fr_ite fr_fX67_next_J203 (fr_ite fr_fX67_next_J203 (fr_ite fr_fX67_next_J203 (fr_ite fr_fX67_next_J203 (fr_ite fr_fX67_next_J203 (fr_ite (fr_fX67_next_J208 0) fr_fX67_next_J203))))))))) (fr_pf (by decide) (fr_lp fr_fX67_next_B109 zBIG 0)))))) (fr_pf (by decide) (fr_gf fun v17 => (fr_pf (by decide) (fr_gf fun v18 => (fr_pf (by decide) (fr_ret _)))))))))))
theorem fr_fX67_next_B8 : ∀ r8 : Int → zX, (∀ s, zFr W_fX67_next (r8 s)) → ∀ s, zFr W_fX67_next (fX67_next_B8 r8 s) := by
  intro r8 hr8 _
  unfold fX67_next_B8
  exact (fr_gf fun v2 => (fr_gf fun v3 => (fr_ite fr_fX67_next_J46 (fr_gf fun v19 => (fr_al fun v20 => (fr_ite fr_fX67_next_J46 (fr_gf fun v21 => (fr_pf (by decide) (hr8 0)))))))))
theorem fr_fX67_next : zFr W_fX67_next (fX67_next) :=
  (fr_gf fun v1 => (fr_pf (by decide) (fr_lp fr_fX67_next_B8 zBIG 0)))
abbrev W_fX67_wrong : List Nat := [6891, 6892]
theorem fr_fX67_wrong (x1 : Int) (x2 : Int) : zFr W_fX67_wrong (fX67_wrong x1 x2) :=
  (fr_gf fun v1 => (fr_ite (fr_ret _) (fr_pf (by decide) (fr_pf (by decide) (fr_ret _)))))
abbrev W_fX67_isShort : List Nat := []
theorem fr_fX67_isShort : zFr W_fX67_isShort (fX67_isShort) :=
  (fr_gf fun v1 => (fr_gf fun v2 => (fr_ite (fr_ret _) (fr_ret _))))
abbrev W_fX67_takesN : List Nat := []
theorem fr_fX67_takesN (x0 : Int) : zFr W_fX67_takesN (fX67_takesN x0) :=
  (fr_ite (fr_ret _) (fr_ite (fr_ret _) (fr_ite (fr_ret _) (fr_ite (fr_ret _) (fr_ite (fr_ret _) (fr_ite (fr_ret _) (fr_ite (fr_ret _) (fr_ret _))))))))
abbrev W_fX67_mostN : List Nat := []
theorem fr_fX67_mostN (x0 : Int) : zFr W_fX67_mostN (fX67_mostN x0) :=
  (fr_ite (fr_ret _) (fr_ite (fr_ret _) (fr_ret _)))
abbrev W_fX67_signOf : List Nat := []
theorem fr_fX67_signOf (x0 : Int) : zFr W_fX67_signOf (fX67_signOf x0) :=
  (fr_cl (fr_mono (by decide) (fr_fX67_isLetter x0)) fun v1 => (fr_ite (fr_cl (fr_mono (by decide) (fr_fX67_isDigit x0)) fun v2 => (fr_ite (fr_ite (fr_ret _) (fr_ret _)) (fr_ret _))) (fr_ret _)))
abbrev W_fX67_nameOfToken : List Nat := []
theorem fr_fX67_nameOfToken_J46 {r4 : Int × Int → zX} (hr4 : ∀ s, zFr W_fX67_nameOfToken (r4 s)) (x3 : Int) (s0 : Int) (s1 : Int) : zFr W_fX67_nameOfToken (fX67_nameOfToken_J46 r4 x3 s0 s1) :=
  (fr_lt fun v3 => (fr_lt fun v4 => (hr4 (v3, v4))))
theorem fr_fX67_nameOfToken_B4 : ∀ r4 : Int × Int → zX, (∀ s, zFr W_fX67_nameOfToken (r4 s)) → ∀ s, zFr W_fX67_nameOfToken (fX67_nameOfToken_B4 r4 s) := by
  intro r4 hr4 s
  obtain ⟨x1, x3⟩ := s
  unfold fX67_nameOfToken_B4
  exact (fr_ite (fr_ret _) (fr_gf fun v1 => (fr_gf fun v2 => (fr_ite (fr_fX67_nameOfToken_J46 hr4 x3 (zl (x1 * 64)) 0) (fr_gf fun v5 => (fr_al fun v6 => (fr_cl (fr_mono (by decide) (fr_fX67_signOf v6)) fun v7 => (fr_fX67_nameOfToken_J46 hr4 x3 (zl (x1 * 64)) v7))))))))
theorem fr_fX67_nameOfToken : zFr W_fX67_nameOfToken (fX67_nameOfToken) :=
  (fr_lp fr_fX67_nameOfToken_B4 zBIG (0, 0))
abbrev W_fX67_isOperation : List Nat := [6910, 6911]
theorem fr_fX67_isOperation_J135 (s1 : Int) : zFr W_fX67_isOperation (fX67_isOperation_J135 s1) :=
  (fr_pf (by decide) (fr_ret _))
theorem fr_fX67_isOperation_J114 (x5 : Int) (x6 : Int) : zFr W_fX67_isOperation (fX67_isOperation_J114 x5 x6) :=
  (fr_pf (by decide) (fr_cl (fr_mono (by decide) (fr_fX67_takesN x6)) fun v7 => (fr_ite (fr_fX67_isOperation_J135 0) (fr_fX67_isOperation_J135 x5))))
theorem fr_fX67_isOperation_J107 {r39 : Int → zX} (hr39 : ∀ s, zFr W_fX67_isOperation (r39 s)) (x1 : Int) (x3 : Int) (x5 : Int) (x6 : Int) (s0 : Int) : zFr W_fX67_isOperation (fX67_isOperation_J107 r39 x1 x3 x5 x6 s0) :=
  (fr_ite (fr_lt fun v6 => (hr39 v6)) (fr_fX67_isOperation_J114 x5 x6))
theorem fr_fX67_isOperation_J86 {r39 : Int → zX} (hr39 : ∀ s, zFr W_fX67_isOperation (r39 s)) (x1 : Int) (x3 : Int) (x5 : Int) (x6 : Int) : zFr W_fX67_isOperation (fX67_isOperation_J86 r39 x1 x3 x5 x6) :=
  (fr_fX67_isOperation_J107 hr39 x1 x3 x5 x6 0)
theorem fr_fX67_isOperation_B39 (x1 : Int) (x3 : Int) (x5 : Int) : ∀ r39 : Int → zX, (∀ s, zFr W_fX67_isOperation (r39 s)) → ∀ s, zFr W_fX67_isOperation (fX67_isOperation_B39 x1 x3 x5 r39 s) := by
  intro r39 hr39 x6
  unfold fX67_isOperation_B39
  exact (fr_ite (fr_ret _) (fr_cl (fr_mono (by decide) (fr_fX67_takesN x6)) fun v4 => (fr_ite (fr_ct fun v5 => (fr_ite (fr_fX67_isOperation_J107 hr39 x1 x3 x5 x6 0) (fr_fX67_isOperation_J107 hr39 x1 x3 x5 x6 1))) (fr_ct fun v8 => (fr_ite (fr_fX67_isOperation_J86 hr39 x1 x3 x5 x6) (fr_cl (fr_mono (by decide) (fr_fX67_mostN x6)) fun v9 => (fr_cl (fr_mono (by decide) (fr_fX67_in x5 0 v9)) fun v10 => (fr_ite (fr_fX67_isOperation_J86 hr39 x1 x3 x5 x6) (fr_fX67_isOperation_J107 hr39 x1 x3 x5 x6 1)))))))))
theorem fr_fX67_isOperation_J15 (s0 : Int) : zFr W_fX67_isOperation (fX67_isOperation_J15 s0) :=
  (fr_lt fun v2 => (fr_lt fun v3 => (fr_lp (fr_fX67_isOperation_B39 s0 v2 v3) zBIG 0)))
theorem fr_fX67_isOperation : zFr W_fX67_isOperation (fX67_isOperation) :=
  (fr_cl (fr_mono (by decide) fr_fX67_isShort) fun v1 => (fr_ite (fr_fX67_isOperation_J15 0) (fr_cl (fr_mono (by decide) fr_fX67_nameOfToken) fun v11 => (fr_fX67_isOperation_J15 v11))))
abbrev W_fX67_labelWord : List Nat := [6887, 6888, 6889, 6891, 6892]
theorem fr_fX67_labelWord_J51 : zFr W_fX67_labelWord (fX67_labelWord_J51) :=
  (fr_gf fun v7 => (fr_ite (fr_cl (fr_mono (by decide) fr_fX67_nameOfToken) fun v8 => (fr_cl (fr_mono (by decide) fr_fX67_next) fun _ => (fr_ret _))) (fr_ret _)))
theorem fr_fX67_labelWord_J42 : zFr W_fX67_labelWord (fX67_labelWord_J42) :=
  (fr_gf fun v5 => (fr_cl (fr_mono (by decide) (fr_fX67_wrong 2 v5)) fun _ => fr_fX67_labelWord_J51))
theorem fr_fX67_labelWord : zFr W_fX67_labelWord (fX67_labelWord) :=
  (fr_gf fun v1 => (fr_ite (fr_gf fun v2 => (fr_al fun v3 => (fr_cl (fr_mono (by decide) (fr_fX67_isLetter v3)) fun v4 => (fr_ite fr_fX67_labelWord_J42 (fr_cl (fr_mono (by decide) fr_fX67_isShort) fun v10 => (fr_ite fr_fX67_labelWord_J51 fr_fX67_labelWord_J42)))))) (fr_gf fun v11 => (fr_cl (fr_mono (by decide) (fr_fX67_wrong 1 v11)) fun _ => fr_fX67_labelWord_J51))))
abbrev W_fX67_late : List Nat := [6905, 6906]
theorem fr_fX67_late (x1 : Int) (x2 : Int) : zFr W_fX67_late (fX67_late x1 x2) :=
  (fr_gf fun v1 => (fr_ite (fr_ret _) (fr_pf (by decide) (fr_pf (by decide) (fr_ret _)))))
abbrev W_fX67_labelNamed : List Nat := []
theorem fr_fX67_labelNamed_J27 (x3 : Int) : zFr W_fX67_labelNamed (fX67_labelNamed_J27 x3) :=
  (fr_gf fun v2 => (fr_ite (fr_ret _) (fr_ret _)))
theorem fr_fX67_labelNamed_B2 (x1 : Int) : ∀ r2 : Int → zX, (∀ s, zFr W_fX67_labelNamed (r2 s)) → ∀ s, zFr W_fX67_labelNamed (fX67_labelNamed_B2 x1 r2 s) := by
  intro r2 hr2 x3
  unfold fX67_labelNamed_B2
  exact (fr_gf fun v1 => (fr_ite (fr_fX67_labelNamed_J27 x3) (fr_al fun v3 => (fr_ite (fr_fX67_labelNamed_J27 x3) (fr_lt fun v4 => (hr2 v4))))))
theorem fr_fX67_labelNamed (x1 : Int) : zFr W_fX67_labelNamed (fX67_labelNamed x1) :=
  (fr_lp (fr_fX67_labelNamed_B2 x1) zBIG 0)
abbrev W_fX67_labelAt : List Nat := [6905, 6906]
theorem fr_fX67_labelAt_J36 (x4 : Int) : zFr W_fX67_labelAt (fX67_labelAt_J36 x4) :=
  (fr_ite (fr_al fun v3 => (fr_ret _)) (fr_ret _))
theorem fr_fX67_labelAt_J16 (x3 : Int) (s0 : Int) : zFr W_fX67_labelAt (fX67_labelAt_J16 x3 s0) :=
  (fr_gf fun v2 => (fr_ite (fr_fX67_labelAt_J36 s0) (fr_ite (fr_fX67_labelAt_J36 s0) (fr_cl (fr_mono (by decide) (fr_fX67_late 5 x3)) fun _ => (fr_fX67_labelAt_J36 s0)))))
theorem fr_fX67_labelAt (x1 : Int) (x3 : Int) : zFr W_fX67_labelAt (fX67_labelAt x1 x3) :=
  (fr_gf fun v1 => (fr_ite (fr_fX67_labelAt_J16 x3 (-1)) (fr_cl (fr_mono (by decide) (fr_fX67_labelNamed x1)) fun v5 => (fr_fX67_labelAt_J16 x3 v5))))
abbrev W_fX67_definitionOfText : List Nat := [6887, 6888, 6889, 6891, 6892, 6899, 6900, 6901, 6905, 6906]
theorem fr_fX67_definitionOfText : zFr W_fX67_definitionOfText (fX67_definitionOfText) :=
  (fr_gf fun v1 => (fr_cl (fr_mono (by decide) fr_fX67_labelWord) fun v2 => (fr_gf fun v3 => (fr_ite (fr_gf fun v4 => (fr_ite (fr_gf fun v5 => (fr_as (by decide) (fr_gf fun v6 => (fr_cl (fr_mono (by decide) (fr_fX67_labelAt v2 v1)) fun v7 => (fr_as (by decide) (fr_gf fun v8 => (fr_pf (by decide) (fr_ret _)))))))) (fr_cl (fr_mono (by decide) (fr_fX67_wrong 6 v1)) fun _ => (fr_ret _)))) (fr_ret _)))))
abbrev W_fX67_isNumber : List Nat := []
theorem fr_fX67_isNumber_J48 {r19 : Int × Int → zX} (hr19 : ∀ s, zFr W_fX67_isNumber (r19 s)) (x2 : Int) (s0 : Int) : zFr W_fX67_isNumber (fX67_isNumber_J48 r19 x2 s0) :=
  (fr_lt fun v4 => (hr19 (s0, v4)))
theorem fr_fX67_isNumber_J47 {r19 : Int × Int → zX} (hr19 : ∀ s, zFr W_fX67_isNumber (r19 s)) (x2 : Int) : zFr W_fX67_isNumber (fX67_isNumber_J47 r19 x2) :=
  (fr_fX67_isNumber_J48 hr19 x2 0)
theorem fr_fX67_isNumber_B19 : ∀ r19 : Int × Int → zX, (∀ s, zFr W_fX67_isNumber (r19 s)) → ∀ s, zFr W_fX67_isNumber (fX67_isNumber_B19 r19 s) := by
  intro r19 hr19 s
  obtain ⟨x1, x2⟩ := s
  unfold fX67_isNumber_B19
  exact (fr_gf fun v3 => (fr_ite (fr_rb _) (fr_ite (fr_fX67_isNumber_J47 hr19 x2) (fr_al fun v5 => (fr_cl (fr_mono (by decide) (fr_fX67_isDigit v5)) fun v6 => (fr_ite (fr_fX67_isNumber_J47 hr19 x2) (fr_fX67_isNumber_J48 hr19 x2 1)))))))
theorem fr_fX67_isNumber_J13 (s0 : Int) : zFr W_fX67_isNumber (fX67_isNumber_J13 s0) :=
  (fr_gf fun v2 => (fr_lp fr_fX67_isNumber_B19 zBIG (s0, v2)))
theorem fr_fX67_isNumber : zFr W_fX67_isNumber (fX67_isNumber) :=
  (fr_gf fun v1 => (fr_ite (fr_fX67_isNumber_J13 0) (fr_fX67_isNumber_J13 1)))
abbrev W_fX67_numeral : List Nat := [6887, 6888, 6889, 6891, 6892]
theorem fr_fX67_numeral_J64 (x1 : Int) : zFr W_fX67_numeral (fX67_numeral_J64 x1) :=
  (fr_cl (fr_mono (by decide) fr_fX67_next) fun _ => (fr_ret _))
theorem fr_fX67_numeral_B32 : ∀ r32 : Int × Int → zX, (∀ s, zFr W_fX67_numeral (r32 s)) → ∀ s, zFr W_fX67_numeral (fX67_numeral_B32 r32 s) := by
  intro r32 hr32 s
  obtain ⟨x1, x3⟩ := s
  unfold fX67_numeral_B32
  exact (fr_gf fun v4 => (fr_ite (fr_fX67_numeral_J64 x1) (fr_al fun v6 => (fr_lt fun v7 => (fr_lt fun v8 => (hr32 (v7, v8)))))))
theorem fr_fX67_numeral : zFr W_fX67_numeral (fX67_numeral) :=
  (fr_gf fun v1 => (fr_gf fun v2 => (fr_ite (fr_gf fun v3 => (fr_lp fr_fX67_numeral_B32 zBIG (0, v3))) (fr_gf fun v9 => (fr_cl (fr_mono (by decide) (fr_fX67_wrong 3 v9)) fun _ => (fr_ret _))))))
abbrev W_fX67_bounded : List Nat := [6887, 6888, 6889, 6891, 6892]
theorem fr_fX67_bounded_J20 : zFr W_fX67_bounded (fX67_bounded_J20) :=
  (fr_gf fun v3 => (fr_cl (fr_mono (by decide) (fr_fX67_wrong 1 v3)) fun _ => (fr_ret _)))
theorem fr_fX67_bounded (x1 : Int) : zFr W_fX67_bounded (fX67_bounded x1) :=
  (fr_gf fun v1 => (fr_gf fun v2 => (fr_ite fr_fX67_bounded_J20 (fr_cl (fr_mono (by decide) fr_fX67_isNumber) fun v5 => (fr_ite (fr_cl (fr_mono (by decide) fr_fX67_numeral) fun v6 => (fr_gf fun v7 => (fr_ite (fr_ret _) (fr_ite (fr_ret _) (fr_cl (fr_mono (by decide) (fr_fX67_wrong 3 v1)) fun _ => (fr_ret _)))))) fr_fX67_bounded_J20)))))
abbrev W_fX67_emit : List Nat := [6902, 6907]
theorem fr_fX67_emit_J27 : zFr W_fX67_emit (fX67_emit_J27) :=
  (fr_gf fun v2 => (fr_pf (by decide) (fr_ret _)))
theorem fr_fX67_emit (x1 : Int) : zFr W_fX67_emit (fX67_emit x1) :=
  (fr_gf fun v1 => (fr_ite fr_fX67_emit_J27 (fr_gf fun v3 => (fr_ite fr_fX67_emit_J27 (fr_gf fun v4 => (fr_as (by decide) fr_fX67_emit_J27))))))
abbrev W_fX67_isSign : List Nat := []
theorem fr_fX67_isSign (x1 : Int) : zFr W_fX67_isSign (fX67_isSign x1) :=
  (fr_gf fun v1 => (fr_ite (fr_ret _) (fr_gf fun v2 => (fr_al fun v3 => (fr_ite (fr_ret _) (fr_ret _))))))
abbrev W_fX67_passes : List Nat := [6887, 6888, 6889]
theorem fr_fX67_passes (x1 : Int) : zFr W_fX67_passes (fX67_passes x1) :=
  (fr_cl (fr_mono (by decide) (fr_fX67_isSign x1)) fun v1 => (fr_ite (fr_rb _) (fr_cl (fr_mono (by decide) fr_fX67_next) fun _ => (fr_rb _))))
abbrev W_fX67_comma : List Nat := [6887, 6888, 6889, 6891, 6892]
theorem fr_fX67_comma : zFr W_fX67_comma (fX67_comma) :=
  (fr_gf fun v1 => (fr_ite (fr_ret _) (fr_cl (fr_mono (by decide) (fr_fX67_passes 44)) fun v2 => (fr_ite (fr_ret _) (fr_gf fun v3 => (fr_cl (fr_mono (by decide) (fr_fX67_wrong 1 v3)) fun _ => (fr_ret _)))))))
abbrev W_fX67_term : List Nat := [6887, 6888, 6889, 6891, 6892, 6905, 6906]
theorem fr_fX67_term_J20 : zFr W_fX67_term (fX67_term_J20) :=
  (fr_gf fun v2 => (fr_cl (fr_mono (by decide) fr_fX67_labelWord) fun v3 => (fr_gf fun v4 => (fr_ite (fr_cl (fr_mono (by decide) (fr_fX67_labelAt v3 v2)) fun v5 => (fr_ret _)) (fr_ret _)))))
theorem fr_fX67_term : zFr W_fX67_term (fX67_term) :=
  (fr_gf fun v1 => (fr_ite fr_fX67_term_J20 (fr_cl (fr_mono (by decide) fr_fX67_isNumber) fun v6 => (fr_ite fr_fX67_term_J20 (fr_cl (fr_mono (by decide) fr_fX67_numeral) fun v7 => (fr_ret _))))))
abbrev W_fX67_expression : List Nat := [6887, 6888, 6889, 6891, 6892, 6905, 6906]
theorem fr_fX67_expression_J107 (x1 : Int) (x3 : Int) (x5 : Int) (x6 : Int) (x8 : Int) : zFr W_fX67_expression (fX67_expression_J107 x1 x3 x5 x6 x8) :=
  (fr_gf fun v6 => (fr_ite (fr_ret _) (fr_gf fun v7 => (fr_ite (fr_ret _) (fr_cl (fr_mono (by decide) (fr_fX67_in x8 x1 x3)) fun v8 => (fr_ite (fr_ret _) (fr_cl (fr_mono (by decide) (fr_fX67_late 3 x5)) fun _ => (fr_ret _))))))))
theorem fr_fX67_expression_J102 {r41 : Int → zX} (hr41 : ∀ s, zFr W_fX67_expression (r41 s)) (x1 : Int) (x3 : Int) (x5 : Int) (x6 : Int) (s0 : Int) : zFr W_fX67_expression (fX67_expression_J102 r41 x1 x3 x5 x6 s0) :=
  (hr41 s0)
theorem fr_fX67_expression_J66 {r41 : Int → zX} (hr41 : ∀ s, zFr W_fX67_expression (r41 s)) (x1 : Int) (x3 : Int) (x5 : Int) (x6 : Int) (x8 : Int) : zFr W_fX67_expression (fX67_expression_J66 r41 x1 x3 x5 x6 x8) :=
  (fr_cl (fr_mono (by decide) (fr_fX67_isSign 45)) fun v11 => (fr_cl (fr_mono (by decide) fr_fX67_next) fun _ => (fr_cl (fr_mono (by decide) fr_fX67_term) fun v13 => (fr_ite (fr_fX67_expression_J102 hr41 x1 x3 x5 x6 (zl (x8 + v13))) (fr_fX67_expression_J102 hr41 x1 x3 x5 x6 (zl (x8 - v13)))))))
theorem fr_fX67_expression_B41 (x1 : Int) (x3 : Int) (x5 : Int) (x6 : Int) : ∀ r41 : Int → zX, (∀ s, zFr W_fX67_expression (r41 s)) → ∀ s, zFr W_fX67_expression (fX67_expression_B41 x1 x3 x5 x6 r41 s) := by
  intro r41 hr41 x8
  unfold fX67_expression_B41
  exact (fr_gf fun v5 => (fr_ite (fr_fX67_expression_J107 x1 x3 x5 x6 x8) (fr_cl (fr_mono (by decide) (fr_fX67_isSign 43)) fun v10 => (fr_ite (fr_fX67_expression_J66 hr41 x1 x3 x5 x6 x8) (fr_cl (fr_mono (by decide) (fr_fX67_isSign 45)) fun v14 => (fr_ite (fr_fX67_expression_J107 x1 x3 x5 x6 x8) (fr_fX67_expression_J66 hr41 x1 x3 x5 x6 x8)))))))
theorem fr_fX67_expression_J39 (x1 : Int) (x3 : Int) (x5 : Int) (x6 : Int) (s0 : Int) : zFr W_fX67_expression (fX67_expression_J39 x1 x3 x5 x6 s0) :=
  (fr_lp (fr_fX67_expression_B41 x1 x3 x5 x6) zBIG s0)
theorem fr_fX67_expression (x1 : Int) (x3 : Int) : zFr W_fX67_expression (fX67_expression x1 x3) :=
  (fr_gf fun v1 => (fr_gf fun v2 => (fr_cl (fr_mono (by decide) (fr_fX67_passes 45)) fun v3 => (fr_cl (fr_mono (by decide) fr_fX67_term) fun v4 => (fr_ite (fr_fX67_expression_J39 x1 x3 v1 v2 v4) (fr_fX67_expression_J39 x1 x3 v1 v2 (zl (- v4))))))))
abbrev W_fX67_half : List Nat := [6887, 6888, 6889, 6891, 6892, 6905, 6906]
theorem fr_fX67_half : zFr W_fX67_half (fX67_half) :=
  (fr_cl (fr_mono (by decide) (fr_fX67_expression (-131072) 262143)) fun v1 => (fr_ret _))
abbrev W_fX67_pointerOfText : List Nat := [6887, 6888, 6889, 6891, 6892, 6902, 6905, 6906, 6907]
theorem fr_fX67_pointerOfText_J96 (x1 : Int) (x5 : Int) (s1 : Int) (s2 : Int) : zFr W_fX67_pointerOfText (fX67_pointerOfText_J96 x1 x5 s1 s2) :=
  (fr_cl (fr_mono (by decide) (fr_fX67_emit (zoR (zoR (zoR s1 s2) (zl (x1 * 16777216))) x5))) fun _ => (fr_ret _))
theorem fr_fX67_pointerOfText_J73 (x1 : Int) (x3 : Int) (x5 : Int) (s0 : Int) : zFr W_fX67_pointerOfText (fX67_pointerOfText_J73 x1 x3 x5 s0) :=
  (fr_ite (fr_fX67_pointerOfText_J96 x1 x5 (zoR 42949672960 (zl (x3 * 1073741824))) 0) (fr_fX67_pointerOfText_J96 x1 x5 (zoR 42949672960 (zl (x3 * 1073741824))) 536870912))
theorem fr_fX67_pointerOfText_J72 (x1 : Int) (x3 : Int) (x5 : Int) : zFr W_fX67_pointerOfText (fX67_pointerOfText_J72 x1 x3 x5) :=
  (fr_fX67_pointerOfText_J73 x1 x3 x5 0)
theorem fr_fX67_pointerOfText_J50 (x1 : Int) (x3 : Int) (s0 : Int) : zFr W_fX67_pointerOfText (fX67_pointerOfText_J50 x1 x3 s0) :=
  (fr_gf fun v6 => (fr_ite (fr_fX67_pointerOfText_J72 x1 x3 s0) (fr_cl (fr_mono (by decide) (fr_fX67_passes 42)) fun v8 => (fr_ite (fr_fX67_pointerOfText_J72 x1 x3 s0) (fr_fX67_pointerOfText_J73 x1 x3 s0 1)))))
theorem fr_fX67_pointerOfText_J30 (x1 : Int) (s0 : Int) : zFr W_fX67_pointerOfText (fX67_pointerOfText_J30 x1 s0) :=
  (fr_cl (fr_mono (by decide) fr_fX67_comma) fun _ => (fr_gf fun v5 => (fr_ite (fr_fX67_pointerOfText_J50 x1 s0 0) (fr_cl (fr_mono (by decide) fr_fX67_half) fun v9 => (fr_fX67_pointerOfText_J50 x1 s0 v9)))))
theorem fr_fX67_pointerOfText : zFr W_fX67_pointerOfText (fX67_pointerOfText) :=
  (fr_cl (fr_mono (by decide) (fr_fX67_bounded 31)) fun v1 => (fr_cl (fr_mono (by decide) fr_fX67_comma) fun _ => (fr_gf fun v3 => (fr_ite (fr_fX67_pointerOfText_J30 v1 0) (fr_cl (fr_mono (by decide) (fr_fX67_bounded 7)) fun v10 => (fr_fX67_pointerOfText_J30 v1 v10))))))
abbrev W_fX67_wordsOfText : List Nat := [6887, 6888, 6889, 6891, 6892, 6902, 6905, 6906, 6907]
theorem fr_fX67_wordsOfText_J115 {r2 : Int → zX} (hr2 : ∀ s, zFr W_fX67_wordsOfText (r2 s)) (s0 : Int) : zFr W_fX67_wordsOfText (fX67_wordsOfText_J115 r2 s0) :=
  (hr2 s0)
theorem fr_fX67_wordsOfText_J114 {r2 : Int → zX} (hr2 : ∀ s, zFr W_fX67_wordsOfText (r2 s)) : zFr W_fX67_wordsOfText (fX67_wordsOfText_J114 r2) :=
  (fr_fX67_wordsOfText_J115 hr2 0)
theorem fr_fX67_wordsOfText_J94 {r2 : Int → zX} (hr2 : ∀ s, zFr W_fX67_wordsOfText (r2 s)) : zFr W_fX67_wordsOfText (fX67_wordsOfText_J94 r2) :=
  (fr_gf fun v5 => (fr_ite (fr_fX67_wordsOfText_J114 hr2) (fr_cl (fr_mono (by decide) (fr_fX67_passes 44)) fun v6 => (fr_ite (fr_fX67_wordsOfText_J114 hr2) (fr_fX67_wordsOfText_J115 hr2 1)))))
theorem fr_fX67_wordsOfText_B2 : ∀ r2 : Int → zX, (∀ s, zFr W_fX67_wordsOfText (r2 s)) → ∀ s, zFr W_fX67_wordsOfText (fX67_wordsOfText_B2 r2 s) := by
  intro r2 hr2 x1
  unfold fX67_wordsOfText_B2
  exact (fr_ite (fr_ret _) (fr_gf fun v1 => (fr_ite (fr_ret _) (fr_cl (fr_mono (by decide) (fr_fX67_passes 39)) fun v2 => (fr_ite (fr_cl (fr_mono (by decide) (fr_fX67_expression (-34359738368) 68719476735)) fun v3 => (fr_cl (fr_mono (by decide) (fr_fX67_emit (v3 % 68719476736))) fun _ => (fr_fX67_wordsOfText_J94 hr2))) (fr_gf fun v7 => (fr_ite (fr_cl (fr_mono (by decide) fr_fX67_isShort) fun v8 => (fr_ite (fr_cl (fr_mono (by decide) fr_fX67_nameOfToken) fun v9 => (fr_cl (fr_mono (by decide) (fr_fX67_emit v9)) fun _ => (fr_cl (fr_mono (by decide) fr_fX67_next) fun _ => (fr_fX67_wordsOfText_J94 hr2)))) (fr_gf fun v12 => (fr_cl (fr_mono (by decide) (fr_fX67_wrong 2 v12)) fun _ => (fr_fX67_wordsOfText_J94 hr2))))) (fr_gf fun v14 => (fr_cl (fr_mono (by decide) (fr_fX67_wrong 1 v14)) fun _ => (fr_fX67_wordsOfText_J94 hr2))))))))))
theorem fr_fX67_wordsOfText : zFr W_fX67_wordsOfText (fX67_wordsOfText) :=
  (fr_lp fr_fX67_wordsOfText_B2 zBIG 1)
abbrev W_fX67_isP : List Nat := []
theorem fr_fX67_isP : zFr W_fX67_isP (fX67_isP) :=
  (fr_gf fun v1 => (fr_ite (fr_ret _) (fr_gf fun v2 => (fr_gf fun v3 => (fr_ite (fr_ret _) (fr_gf fun v4 => (fr_al fun v5 => (fr_ite (fr_ret _) (fr_gf fun v6 => (fr_al fun v7 => (fr_cl (fr_mono (by decide) (fr_fX67_in v7 48 55)) fun v8 => (fr_ite (fr_ret _) (fr_ret _)))))))))))))
abbrev W_fX67_linkOf : List Nat := [6891, 6892, 6896, 6897, 6898]
theorem fr_fX67_linkOf_J42 (x1 : Int) (x3 : Int) (x5 : Int) (x6 : Int) : zFr W_fX67_linkOf (fX67_linkOf_J42 x1 x3 x5 x6) :=
  (fr_ite (fr_gf fun v2 => (fr_ite (fr_ret _) (fr_as (by decide) (fr_as (by decide) (fr_gf fun v3 => (fr_pf (by decide) (fr_ret _))))))) (fr_cl (fr_mono (by decide) (fr_fX67_wrong 6 x5)) fun _ => (fr_ret _)))
theorem fr_fX67_linkOf_J36 {r3 : Int → zX} (hr3 : ∀ s, zFr W_fX67_linkOf (r3 s)) (x1 : Int) (x3 : Int) (x5 : Int) (x6 : Int) : zFr W_fX67_linkOf (fX67_linkOf_J36 r3 x1 x3 x5 x6) :=
  (fr_lt fun v6 => (hr3 v6))
theorem fr_fX67_linkOf_B3 (x1 : Int) (x3 : Int) (x5 : Int) : ∀ r3 : Int → zX, (∀ s, zFr W_fX67_linkOf (r3 s)) → ∀ s, zFr W_fX67_linkOf (fX67_linkOf_B3 x1 x3 x5 r3 s) := by
  intro r3 hr3 x6
  unfold fX67_linkOf_B3
  exact (fr_gf fun v1 => (fr_ite (fr_fX67_linkOf_J42 x1 x3 x5 x6) (fr_al fun v5 => (fr_ite (fr_fX67_linkOf_J36 hr3 x1 x3 x5 x6) (fr_al fun v7 => (fr_ite (fr_fX67_linkOf_J42 x1 x3 x5 x6) (fr_fX67_linkOf_J36 hr3 x1 x3 x5 x6)))))))
theorem fr_fX67_linkOf (x1 : Int) (x3 : Int) (x5 : Int) : zFr W_fX67_linkOf (fX67_linkOf x1 x3 x5) :=
  (fr_lp (fr_fX67_linkOf_B3 x1 x3 x5) zBIG 0)
abbrev W_fX67_behindWord : List Nat := []
theorem fr_fX67_behindWord_J30 (x1 : Int) : zFr W_fX67_behindWord (fX67_behindWord_J30 x1) :=
  (fr_gf fun v3 => (fr_ite (fr_ret _) (fr_al fun v4 => (fr_cl (fr_mono (by decide) (fr_fX67_isOfWord v4)) fun v5 => (fr_ite (fr_ret _) (fr_al fun v6 => (fr_ret _)))))))
theorem fr_fX67_behindWord_B5 : ∀ r5 : Int → zX, (∀ s, zFr W_fX67_behindWord (r5 s)) → ∀ s, zFr W_fX67_behindWord (fX67_behindWord_B5 r5 s) := by
  intro r5 hr5 x1
  unfold fX67_behindWord_B5
  exact (fr_gf fun v2 => (fr_ite (fr_fX67_behindWord_J30 x1) (fr_al fun v7 => (fr_ite (fr_fX67_behindWord_J30 x1) (fr_lt fun v8 => (hr5 v8))))))
theorem fr_fX67_behindWord : zFr W_fX67_behindWord (fX67_behindWord) :=
  (fr_gf fun v1 => (fr_lp fr_fX67_behindWord_B5 zBIG v1))
abbrev W_fX67_operand : List Nat := [6887, 6888, 6889, 6891, 6892, 6896, 6897, 6898, 6902, 6905, 6906, 6907]
theorem fr_fX67_operand_J347 (x1 : Int) (x3 : Int) (x5 : Int) (x8 : Int) : zFr W_fX67_operand (fX67_operand_J347 x1 x3 x5 x8) :=
  (fr_gf fun v7 => (fr_gf fun v8 => (fr_cl (fr_mono (by decide) (fr_fX67_emit (zoR (zoR (zoR (zoR (zoR (zl (v7 * 1073741824)) (zl (x1 * 134217728))) (zl (x3 * 16777216))) (zl (v8 * 2097152))) (zl (x8 * 262144))) x5))) fun _ => (fr_ret _))))
theorem fr_fX67_operand_J307 (x1 : Int) (x3 : Int) (x5 : Int) (s0 : Int) : zFr W_fX67_operand (fX67_operand_J307 x1 x3 x5 s0) :=
  (fr_ite (fr_gf fun v12 => (fr_al fun v13 => (fr_lt fun v14 => (fr_cl (fr_mono (by decide) fr_fX67_next) fun _ => (fr_fX67_operand_J347 x1 x3 x5 v14))))) (fr_gf fun v16 => (fr_cl (fr_mono (by decide) (fr_fX67_wrong 1 v16)) fun _ => (fr_ret _))))
theorem fr_fX67_operand_J306 (x1 : Int) (x3 : Int) (x5 : Int) : zFr W_fX67_operand (fX67_operand_J306 x1 x3 x5) :=
  (fr_fX67_operand_J307 x1 x3 x5 0)
theorem fr_fX67_operand_J224 (x1 : Int) (x3 : Int) (x5 : Int) : zFr W_fX67_operand (fX67_operand_J224 x1 x3 x5) :=
  (fr_gf fun v6 => (fr_ite (fr_fX67_operand_J347 x1 x3 x5 0) (fr_cl (fr_mono (by decide) (fr_fX67_passes 44)) fun v10 => (fr_ite (fr_fX67_operand_J347 x1 x3 x5 0) (fr_gf fun v11 => (fr_ite (fr_fX67_operand_J306 x1 x3 x5) (fr_gf fun v18 => (fr_gf fun v19 => (fr_ite (fr_fX67_operand_J306 x1 x3 x5) (fr_gf fun v20 => (fr_al fun v21 => (fr_ite (fr_fX67_operand_J306 x1 x3 x5) (fr_gf fun v22 => (fr_al fun v23 => (fr_cl (fr_mono (by decide) (fr_fX67_in v23 48 51)) fun v24 => (fr_ite (fr_fX67_operand_J306 x1 x3 x5) (fr_fX67_operand_J307 x1 x3 x5 1)))))))))))))))))
theorem fr_fX67_operand_J223 (x3 : Int) (x5 : Int) (s0 : Int) : zFr W_fX67_operand (fX67_operand_J223 x3 x5 s0) :=
  (fr_fX67_operand_J224 s0 x3 x5)
theorem fr_fX67_operand_J180 (x1 : Int) (x3 : Int) (x5 : Int) : zFr W_fX67_operand (fX67_operand_J180 x1 x3 x5) :=
  (fr_gf fun v5 => (fr_ite (fr_fX67_operand_J224 x1 x3 x5) (fr_ite (fr_fX67_operand_J224 x1 x3 x5) (fr_cl (fr_mono (by decide) (fr_fX67_passes 42)) fun v25 => (fr_ite (fr_fX67_operand_J224 x1 x3 x5) (fr_ite (fr_fX67_operand_J223 x3 x5 (zl (x1 + 4))) (fr_fX67_operand_J223 x3 x5 6)))))))
theorem fr_fX67_operand_J169 (x1 : Int) (x3 : Int) (s0 : Int) : zFr W_fX67_operand (fX67_operand_J169 x1 x3 s0) :=
  (fr_fX67_operand_J180 x1 x3 s0)
theorem fr_fX67_operand_J145 (x1 : Int) (x3 : Int) (x8 : Int) (x9 : Int) (s0 : Int) : zFr W_fX67_operand (fX67_operand_J145 x1 x3 x8 x9 s0) :=
  (fr_gf fun v30 => (fr_ite (fr_fX67_operand_J169 x1 x3 0) (fr_cl (fr_mono (by decide) (fr_fX67_linkOf x9 s0 x8)) fun v31 => (fr_fX67_operand_J169 x1 x3 v31))))
theorem fr_fX67_operand_J130 (x1 : Int) (x3 : Int) (x8 : Int) (x9 : Int) : zFr W_fX67_operand (fX67_operand_J130 x1 x3 x8 x9) :=
  (fr_gf fun v29 => (fr_ite (fr_fX67_operand_J145 x1 x3 x8 x9 0) (fr_cl (fr_mono (by decide) fr_fX67_labelWord) fun v32 => (fr_fX67_operand_J145 x1 x3 x8 x9 v32))))
theorem fr_fX67_operand_J96 (x1 : Int) (x3 : Int) (x7 : Int) : zFr W_fX67_operand (fX67_operand_J96 x1 x3 x7) :=
  (fr_ite (fr_cl (fr_mono (by decide) fr_fX67_half) fun v4 => (fr_fX67_operand_J180 x1 x3 v4)) (fr_gf fun v26 => (fr_cl (fr_mono (by decide) fr_fX67_labelWord) fun v27 => (fr_gf fun v28 => (fr_ite (fr_fX67_operand_J130 3 x3 v26 v27) (fr_cl (fr_mono (by decide) fr_fX67_next) fun _ => (fr_fX67_operand_J130 3 x3 v26 v27)))))))
theorem fr_fX67_operand_J23 (x1 : Int) (x3 : Int) (s0 : Int) : zFr W_fX67_operand (fX67_operand_J23 x1 x3 s0) :=
  (fr_cl (fr_mono (by decide) (fr_fX67_passes 35)) fun v2 => (fr_ite (fr_cl (fr_mono (by decide) fr_fX67_isP) fun v3 => (fr_ite (fr_fX67_operand_J96 x1 x3 s0) (fr_ite (fr_fX67_operand_J96 x1 x3 s0) (fr_gf fun v34 => (fr_al fun v35 => (fr_lt fun v36 => (fr_cl (fr_mono (by decide) fr_fX67_next) fun _ => (fr_cl (fr_mono (by decide) fr_fX67_next) fun _ => (fr_cl (fr_mono (by decide) fr_fX67_half) fun v39 => (fr_fX67_operand_J180 1 v36 v39)))))))))) (fr_cl (fr_mono (by decide) fr_fX67_half) fun v40 => (fr_fX67_operand_J180 2 x3 v40))))
theorem fr_fX67_operand : zFr W_fX67_operand (fX67_operand) :=
  (fr_gf fun v1 => (fr_ite (fr_fX67_operand_J23 0 0 0) (fr_cl (fr_mono (by decide) fr_fX67_behindWord) fun v41 => (fr_fX67_operand_J23 0 0 v41))))
abbrev W_fX67_statement : List Nat := [6887, 6888, 6889, 6891, 6892, 6896, 6897, 6898, 6899, 6900, 6901, 6902, 6905, 6906, 6907, 6910, 6911]
theorem fr_fX67_statement_B154 (x3 : Int) : ∀ r154 : Int → zX, (∀ s, zFr W_fX67_statement (r154 s)) → ∀ s, zFr W_fX67_statement (fX67_statement_B154 x3 r154 s) := by
  intro r154 hr154 x5
  unfold fX67_statement_B154
  exact (fr_ite (fr_ret _) (fr_gf fun v14 => (fr_ite (fr_ret _) (fr_cl (fr_mono (by decide) (fr_fX67_emit 0)) fun _ => (fr_lt fun v16 => (hr154 v16))))))
theorem fr_fX67_statement_J62 : zFr W_fX67_statement (fX67_statement_J62) :=
  (fr_gf fun v23 => (fr_cl (fr_mono (by decide) (fr_fX67_emit (zl (v23 * 1073741824)))) fun _ => (fr_ret _)))
theorem fr_fX67_statement_J33 (s0 : Int) : zFr W_fX67_statement (fX67_statement_J33 s0) :=
  (fr_cl (fr_mono (by decide) fr_fX67_isOperation) fun v3 => (fr_ite (fr_ct fun v4 => (fr_ite (fr_ct fun v5 => (fr_ite (fr_ct fun v6 => (fr_ite (fr_ct fun v7 => (fr_ite (fr_gf fun v8 => (fr_cl (fr_mono (by decide) (fr_fX67_wrong 2 v8)) fun _ => (fr_ret _))) (fr_cl (fr_mono (by decide) fr_fX67_next) fun _ => (fr_cl (fr_mono (by decide) fr_fX67_definitionOfText) fun _ => (fr_ret _))))) (fr_cl (fr_mono (by decide) fr_fX67_next) fun _ => (fr_cl (fr_mono (by decide) (fr_fX67_bounded 1023)) fun v13 => (fr_lp (fr_fX67_statement_B154 v13) zBIG 0))))) (fr_cl (fr_mono (by decide) fr_fX67_next) fun _ => (fr_cl (fr_mono (by decide) fr_fX67_pointerOfText) fun _ => (fr_ret _))))) (fr_cl (fr_mono (by decide) fr_fX67_next) fun _ => (fr_cl (fr_mono (by decide) fr_fX67_wordsOfText) fun _ => (fr_ret _))))) (fr_cl (fr_mono (by decide) fr_fX67_next) fun _ => (fr_gf fun v22 => (fr_ite fr_fX67_statement_J62 (fr_gf fun v25 => (fr_ite (fr_cl (fr_mono (by decide) fr_fX67_operand) fun _ => (fr_ret _)) fr_fX67_statement_J62)))))))
theorem fr_fX67_statement : zFr W_fX67_statement (fX67_statement) :=
  (fr_gf fun v1 => (fr_ite (fr_cl (fr_mono (by decide) fr_fX67_isShort) fun v2 => (fr_ite (fr_fX67_statement_J33 0) (fr_cl (fr_mono (by decide) fr_fX67_nameOfToken) fun v27 => (fr_fX67_statement_J33 v27)))) (fr_gf fun v28 => (fr_cl (fr_mono (by decide) (fr_fX67_wrong 1 v28)) fun _ => (fr_ret _)))))
abbrev W_fX67_lineOfText : List Nat := [6887, 6888, 6889, 6891, 6892, 6893, 6894, 6895, 6896, 6897, 6898, 6899, 6900, 6901, 6902, 6905, 6906, 6907, 6910, 6911]
theorem fr_fX67_lineOfText_J140 : zFr W_fX67_lineOfText (fX67_lineOfText_J140) :=
  (fr_gf fun v4 => (fr_ite (fr_ret _) (fr_gf fun v5 => (fr_ite (fr_ret _) (fr_gf fun v6 => (fr_cl (fr_mono (by decide) (fr_fX67_wrong 1 v6)) fun _ => (fr_ret _)))))))
theorem fr_fX67_lineOfText_J129 : zFr W_fX67_lineOfText (fX67_lineOfText_J129) :=
  (fr_gf fun v3 => (fr_ite fr_fX67_lineOfText_J140 (fr_cl (fr_mono (by decide) fr_fX67_statement) fun _ => fr_fX67_lineOfText_J140)))
theorem fr_fX67_lineOfText_J89 (x2 : Int) : zFr W_fX67_lineOfText (fX67_lineOfText_J89 x2) :=
  (fr_gf fun v16 => (fr_ite fr_fX67_lineOfText_J129 (fr_gf fun v17 => (fr_as (by decide) (fr_gf fun v18 => (fr_gf fun v19 => (fr_as (by decide) (fr_gf fun v20 => (fr_pf (by decide) fr_fX67_lineOfText_J129)))))))))
theorem fr_fX67_lineOfText_J65 (x1 : Int) (x2 : Int) : zFr W_fX67_lineOfText (fX67_lineOfText_J65 x1 x2) :=
  (fr_gf fun v15 => (fr_ite (fr_fX67_lineOfText_J89 x2) (fr_gf fun v21 => (fr_ite (fr_fX67_lineOfText_J89 x2) (fr_cl (fr_mono (by decide) (fr_fX67_wrong 6 x1)) fun _ => (fr_ret _))))))
theorem fr_fX67_lineOfText : zFr W_fX67_lineOfText (fX67_lineOfText) :=
  (fr_cl (fr_mono (by decide) fr_fX67_next) fun _ => (fr_gf fun v2 => (fr_ite fr_fX67_lineOfText_J129 (fr_cl (fr_mono (by decide) fr_fX67_behindWord) fun v9 => (fr_ite fr_fX67_lineOfText_J129 (fr_gf fun v10 => (fr_cl (fr_mono (by decide) fr_fX67_labelWord) fun v11 => (fr_gf fun v12 => (fr_ite (fr_cl (fr_mono (by decide) fr_fX67_next) fun _ => (fr_gf fun v14 => (fr_ite (fr_fX67_lineOfText_J65 v10 v11) (fr_cl (fr_mono (by decide) (fr_fX67_labelNamed v11)) fun v23 => (fr_ite (fr_fX67_lineOfText_J65 v10 v11) (fr_cl (fr_mono (by decide) (fr_fX67_wrong 4 v10)) fun _ => (fr_ret _))))))) (fr_ret _))))))))))
abbrev W_fX67_readText : List Nat := [6887, 6888, 6889, 6890, 6891, 6892, 6893, 6894, 6895, 6896, 6897, 6898, 6899, 6900, 6901, 6902, 6903, 6905, 6906, 6907, 6910, 6911]
theorem fr_fX67_readText_J80 {r17 : Int → zX} (hr17 : ∀ s, zFr W_fX67_readText (r17 s)) (x2 : Int) : zFr W_fX67_readText (fX67_readText_J80 r17 x2) :=
  (fr_lt fun v8 => (hr17 v8))
theorem fr_fX67_readText_B55 {r17 : Int → zX} (hr17 : ∀ s, zFr W_fX67_readText (r17 s)) : ∀ r55 : Int → zX, (∀ s, zFr W_fX67_readText (r55 s)) → ∀ s, zFr W_fX67_readText (fX67_readText_B55 r17 r55 s) := by
  intro r55 hr55 x2
  unfold fX67_readText_B55
  exact (fr_gf fun v7 => (fr_ite (fr_fX67_readText_J80 hr17 x2) (fr_al fun v9 => (fr_ite (fr_fX67_readText_J80 hr17 x2) (fr_lt fun v10 => (hr55 v10))))))
theorem fr_fX67_readText_B17 : ∀ r17 : Int → zX, (∀ s, zFr W_fX67_readText (r17 s)) → ∀ s, zFr W_fX67_readText (fX67_readText_B17 r17 s) := by
  intro r17 hr17 x2
  unfold fX67_readText_B17
  exact (fr_gf fun v2 => (fr_ite (fr_ret _) (fr_gf fun v3 => (fr_ite (fr_ret _) (fr_cl (fr_mono (by decide) (fr_fX67_lineEnd x2)) fun v4 => (fr_pf (by decide) (fr_pf (by decide) (fr_cl (fr_mono (by decide) fr_fX67_lineOfText) fun _ => (fr_gf fun v6 => (fr_lp (fr_fX67_readText_B55 hr17) zBIG v6))))))))))
theorem fr_fX67_readText (x1 : Int) : zFr W_fX67_readText (fX67_readText x1) :=
  (fr_pb (by decide) (fr_pf (by decide) (fr_pf (by decide) (fr_lp fr_fX67_readText_B17 zBIG 0))))
abbrev W_fX67_assemble : List Nat := [6816, 6867, 6869, 6887, 6888, 6889, 6890, 6891, 6892, 6893, 6894, 6895, 6896, 6897, 6898, 6899, 6900, 6901, 6902, 6903, 6905, 6906, 6907, 6910, 6911]
theorem fr_fX67_assemble_J357 {r316 : Int → zX} (hr316 : ∀ s, zFr W_fX67_assemble (r316 s)) (x1 : Int) (x4 : Int) (x5 : Int) (s1 : Int) (s2 : Int) : zFr W_fX67_assemble (fX67_assemble_J357 r316 x1 x4 x5 s1 s2) :=
  (fr_as (by decide) (fr_lt fun v18 => (hr316 v18)))
theorem fr_fX67_assemble_B316 (x1 : Int) (x4 : Int) : ∀ r316 : Int → zX, (∀ s, zFr W_fX67_assemble (r316 s)) → ∀ s, zFr W_fX67_assemble (fX67_assemble_B316 x1 x4 r316 s) := by
  intro r316 hr316 x5
  unfold fX67_assemble_B316
  exact (fr_al fun v17 => (fr_ite (fr_ret _) (fr_ite (fr_fX67_assemble_J357 hr316 x1 x4 x5 (zi ((zi (1024 * x1)) + x5)) 0) (fr_al fun v19 => (fr_fX67_assemble_J357 hr316 x1 x4 x5 (zi ((zi (1024 * x1)) + x5)) v19)))))
theorem fr_fX67_assemble_J313 (x1 : Int) (x4 : Int) : zFr W_fX67_assemble (fX67_assemble_J313 x1 x4) :=
  (fr_lp (fr_fX67_assemble_B316 x1 x4) zBIG 0)
theorem fr_fX67_assemble_B259 (x1 : Int) (x3 : Int) (x4 : Int) : ∀ r259 : Int → zX, (∀ s, zFr W_fX67_assemble (r259 s)) → ∀ s, zFr W_fX67_assemble (fX67_assemble_B259 x1 x3 x4 r259 s) := by
  intro r259 hr259 x5
  unfold fX67_assemble_B259
  exact (fr_gf fun v16 => (fr_ite (fr_fX67_assemble_J313 x1 x4) (fr_al fun v20 => (fr_as (by decide) (fr_al fun v21 => (fr_as (by decide) (fr_lt fun v22 => (hr259 v22))))))))
theorem fr_fX67_assemble_J256 (x1 : Int) (x3 : Int) (x4 : Int) : zFr W_fX67_assemble (fX67_assemble_J256 x1 x3 x4) :=
  (fr_lp (fr_fX67_assemble_B259 x1 x3 x4) zBIG 0)
theorem fr_fX67_assemble_B203 (x1 : Int) (x2 : Int) (x3 : Int) (x4 : Int) : ∀ r203 : Int → zX, (∀ s, zFr W_fX67_assemble (r203 s)) → ∀ s, zFr W_fX67_assemble (fX67_assemble_B203 x1 x2 x3 x4 r203 s) := by
  intro r203 hr203 x5
  unfold fX67_assemble_B203
  exact (fr_gf fun v15 => (fr_ite (fr_fX67_assemble_J256 x1 x3 x4) (fr_al fun v23 => (fr_as (by decide) (fr_al fun v24 => (fr_as (by decide) (fr_lt fun v25 => (hr203 v25))))))))
theorem fr_fX67_assemble_J144 (x1 : Int) (x2 : Int) (x3 : Int) (x4 : Int) (s1 : Int) : zFr W_fX67_assemble (fX67_assemble_J144 x1 x2 x3 x4 s1) :=
  (fr_pf (by decide) (fr_gf fun v12 => (fr_ite (fr_gf fun v13 => (fr_as (by decide) (fr_gf fun v14 => (fr_as (by decide) (fr_lp (fr_fX67_assemble_B203 x1 x2 x3 x4) zBIG 0))))) (fr_gf fun v26 => (fr_ret _)))))
theorem fr_fX67_assemble_J123 (x1 : Int) (x2 : Int) (x3 : Int) (x4 : Int) : zFr W_fX67_assemble (fX67_assemble_J123 x1 x2 x3 x4) :=
  (fr_pf (by decide) (fr_gf fun v11 => (fr_ite (fr_fX67_assemble_J144 x1 x2 x3 x4 (-1)) (fr_gf fun v27 => (fr_fX67_assemble_J144 x1 x2 x3 x4 v27)))))
theorem fr_fX67_assemble_J68 (x1 : Int) : zFr W_fX67_assemble (fX67_assemble_J68 x1) :=
  (fr_gf fun v4 => (fr_gf fun v5 => (fr_gf fun v6 => (fr_lt fun v7 => (fr_gf fun v8 => (fr_lt fun v9 => (fr_gf fun v10 => (fr_ite (fr_fX67_assemble_J123 x1 v4 v7 v9) (fr_al fun v28 => (fr_ite (fr_fX67_assemble_J123 x1 v4 v7 v9) (fr_gf fun v29 => (fr_cl (fr_mono (by decide) (fr_fX67_wrong 6 v29)) fun _ => (fr_fX67_assemble_J123 x1 v4 v7 v9)))))))))))))
theorem fr_fX67_assemble (x1 : Int) : zFr W_fX67_assemble (fX67_assemble x1) :=
  (fr_cl (fr_mono (by decide) (fr_fX67_isOf x1 2)) fun v1 => (fr_ite (fr_pf (by decide) (fr_pf (by decide) (fr_pf (by decide) (fr_pf (by decide) (fr_cl (fr_mono (by decide) (fr_fX67_readText 0)) fun _ => (fr_gf fun v3 => (fr_ite (fr_fX67_assemble_J68 x1) (fr_cl (fr_mono (by decide) (fr_fX67_readText 1)) fun _ => (fr_gf fun v32 => (fr_ite (fr_fX67_assemble_J68 x1) (fr_gf fun v33 => (fr_gf fun v34 => (fr_cl (fr_mono (by decide) (fr_fX67_wrong v33 v34)) fun _ => (fr_fX67_assemble_J68 x1)))))))))))))) (fr_ret _)))
abbrev W_fX67_type : List Nat := [6867, 6868]
theorem fr_fX67_type_J76 : zFr W_fX67_type (fX67_type_J76) :=
  (fr_gf fun v3 => (fr_ret _))
theorem fr_fX67_type_B33 (x1 : Int) (x3 : Int) : ∀ r33 : Int → zX, (∀ s, zFr W_fX67_type (r33 s)) → ∀ s, zFr W_fX67_type (fX67_type_B33 x1 x3 r33 s) := by
  intro r33 hr33 x4
  unfold fX67_type_B33
  exact (fr_ite fr_fX67_type_J76 (fr_gf fun v4 => (fr_as (by decide) (fr_gf fun v5 => (fr_pf (by decide) (fr_lt fun v6 => (hr33 v6)))))))
theorem fr_fX67_type (x1 : Int) (x3 : Int) : zFr W_fX67_type (fX67_type x1 x3) :=
  (fr_cl (fr_mono (by decide) (fr_fX67_in x3 1 8)) fun v1 => (fr_ite (fr_gf fun v2 => (fr_ite (fr_lp (fr_fX67_type_B33 x1 x3) zBIG 0) (fr_ret _))) (fr_ret _)))
abbrev W_fX67_place_2 : List Nat := []
theorem fr_fX67_place_2 : zFr W_fX67_place_2 (fX67_place_2) :=
  (fr_gf fun v1 => (fr_ret _))
abbrev W_fX67_isListable : List Nat := []
theorem fr_fX67_isListable_J121 (x0 : Int) (x5 : Int) : zFr W_fX67_isListable (fX67_isListable_J121 x0 x5) :=
  (fr_ite (fr_ret _) (fr_ite (fr_ret _) (fr_ret _)))
theorem fr_fX67_isListable_J87 (x0 : Int) (x3 : Int) (x4 : Int) (s0 : Int) (s1 : Int) (s2 : Int) : zFr W_fX67_isListable (fX67_isListable_J87 x0 x3 x4 s0 s1 s2) :=
  (fr_cl (fr_mono (by decide) (fr_fX67_in s0 s1 s2)) fun v4 => (fr_ite (fr_ret _) (fr_ite (fr_ret _) (fr_ite (fr_fX67_isListable_J121 x0 v4) (fr_ite (fr_ret _) (fr_fX67_isListable_J121 x0 v4))))))
theorem fr_fX67_isListable_J60 (x0 : Int) (x2 : Int) (x3 : Int) (s0 : Int) : zFr W_fX67_isListable (fX67_isListable_J60 x0 x2 x3 s0) :=
  (fr_cl (fr_mono (by decide) (fr_fX67_takesN x2)) fun v3 => (fr_ite (fr_fX67_isListable_J87 x0 x3 s0 ((x0 / 2097152) % 8) 0 0) (fr_cl (fr_mono (by decide) (fr_fX67_mostN x2)) fun v5 => (fr_fX67_isListable_J87 x0 x3 s0 ((x0 / 2097152) % 8) 0 v5))))
theorem fr_fX67_isListable_J55 (x0 : Int) (x2 : Int) (x3 : Int) : zFr W_fX67_isListable (fX67_isListable_J55 x0 x2 x3) :=
  (fr_fX67_isListable_J60 x0 x2 x3 1)
theorem fr_fX67_isListable_J45 (x0 : Int) (x2 : Int) (x3 : Int) : zFr W_fX67_isListable (fX67_isListable_J45 x0 x2 x3) :=
  (fr_ite (fr_fX67_isListable_J55 x0 x2 x3) (fr_ite (fr_fX67_isListable_J60 x0 x2 x3 0) (fr_fX67_isListable_J55 x0 x2 x3)))
theorem fr_fX67_isListable_J33 (x0 : Int) (x2 : Int) (x3 : Int) : zFr W_fX67_isListable (fX67_isListable_J33 x0 x2 x3) :=
  (fr_ite (fr_fX67_isListable_J45 x0 x2 x3) (fr_ret _))
theorem fr_fX67_isListable (x0 : Int) : zFr W_fX67_isListable (fX67_isListable x0) :=
  (fr_lt fun v1 => (fr_lt fun v2 => (fr_ite (fr_ret _) (fr_ite (fr_fX67_isListable_J33 x0 v1 v2) (fr_ite (fr_fX67_isListable_J45 x0 v1 v2) (fr_fX67_isListable_J33 x0 v1 v2))))))
abbrev W_fX67_write_2 : List Nat := [6870, 6871]
theorem fr_fX67_write_2 (x1 : Int) : zFr W_fX67_write_2 (fX67_write_2 x1) :=
  (fr_gf fun v1 => (fr_as (by decide) (fr_gf fun v2 => (fr_pf (by decide) (fr_ret _)))))
abbrev W_fX67_writeName : List Nat := [6870, 6871]
theorem fr_fX67_writeName_J70 {r3 : Int → zX} (hr3 : ∀ s, zFr W_fX67_writeName (r3 s)) (x1 : Int) (x3 : Int) : zFr W_fX67_writeName (fX67_writeName_J70 r3 x1 x3) :=
  (fr_lt fun v2 => (hr3 v2))
theorem fr_fX67_writeName_J67 {r3 : Int → zX} (hr3 : ∀ s, zFr W_fX67_writeName (r3 s)) (x1 : Int) (x3 : Int) (s1 : Int) : zFr W_fX67_writeName (fX67_writeName_J67 r3 x1 x3 s1) :=
  (fr_cl (fr_mono (by decide) (fr_fX67_write_2 s1)) fun _ => (fr_fX67_writeName_J70 hr3 x1 x3))
theorem fr_fX67_writeName_B3 (x1 : Int) : ∀ r3 : Int → zX, (∀ s, zFr W_fX67_writeName (r3 s)) → ∀ s, zFr W_fX67_writeName (fX67_writeName_B3 x1 r3 s) := by
  intro r3 hr3 x3
  unfold fX67_writeName_B3
  exact (fr_ite (fr_ret _) (fr_lt fun v1 => (fr_ite (fr_fX67_writeName_J70 hr3 x1 x3) (fr_ite (fr_ite (fr_ite (fr_fX67_writeName_J67 hr3 x1 x3 46) (fr_fX67_writeName_J67 hr3 x1 x3 95)) (fr_fX67_writeName_J67 hr3 x1 x3 (zi (v1 + 21)))) (fr_fX67_writeName_J67 hr3 x1 x3 (zi (v1 + 96)))))))
theorem fr_fX67_writeName (x1 : Int) : zFr W_fX67_writeName (fX67_writeName x1) :=
  (fr_lp (fr_fX67_writeName_B3 x1) zBIG 30)
abbrev W_fX67_writeNumber : List Nat := [6870, 6871]
theorem fr_fX67_writeNumber_B21 (x1 : Int) : ∀ r21 : Int → zX, (∀ s, zFr W_fX67_writeNumber (r21 s)) → ∀ s, zFr W_fX67_writeNumber (fX67_writeNumber_B21 x1 r21 s) := by
  intro r21 hr21 x3
  unfold fX67_writeNumber_B21
  exact (fr_ite (fr_ret _) (fr_ne (fr_cl (fr_mono (by decide) (fr_fX67_write_2 (zi (zl (48 + (Int.tmod (zl (Int.tdiv x1 x3)) 10)))))) fun _ => (fr_lt fun v3 => (hr21 v3)))))
theorem fr_fX67_writeNumber_B2 (x1 : Int) : ∀ r2 : Int → zX, (∀ s, zFr W_fX67_writeNumber (r2 s)) → ∀ s, zFr W_fX67_writeNumber (fX67_writeNumber_B2 x1 r2 s) := by
  intro r2 hr2 x3
  unfold fX67_writeNumber_B2
  exact (fr_ite (fr_lp (fr_fX67_writeNumber_B21 x1) zBIG x3) (fr_lt fun v4 => (hr2 v4)))
theorem fr_fX67_writeNumber (x1 : Int) : zFr W_fX67_writeNumber (fX67_writeNumber x1) :=
  (fr_lp (fr_fX67_writeNumber_B2 x1) zBIG 1)
abbrev W_fX67_list : List Nat := [6870, 6871]
theorem fr_fX67_list_J105 : zFr W_fX67_list (fX67_list_J105) :=
  (fr_gf fun v8 => (fr_ret _))
theorem fr_fX67_list_J227 : zFr W_fX67_list (fX67_list_J227) :=
  (fr_gf fun v14 => (fr_ret _))
theorem fr_fX67_list_J188 (x1 : Int) : zFr W_fX67_list (fX67_list_J188 x1) :=
  (fr_ite fr_fX67_list_J227 (fr_cl (fr_mono (by decide) (fr_fX67_write_2 44)) fun _ => (fr_cl (fr_mono (by decide) (fr_fX67_write_2 120)) fun _ => (fr_cl (fr_mono (by decide) (fr_fX67_writeNumber (zl (((x1 / 262144) % 8) - 1)))) fun _ => fr_fX67_list_J227))))
theorem fr_fX67_list_J167 (x1 : Int) (x4 : Int) : zFr W_fX67_list (fX67_list_J167 x1 x4) :=
  (fr_cl (fr_mono (by decide) (fr_fX67_writeNumber (x1 % 262144))) fun _ => (fr_ite (fr_fX67_list_J188 x1) (fr_cl (fr_mono (by decide) (fr_fX67_write_2 42)) fun _ => (fr_fX67_list_J188 x1))))
theorem fr_fX67_list_J143 (x1 : Int) (x4 : Int) : zFr W_fX67_list (fX67_list_J143 x1 x4) :=
  (fr_cl (fr_mono (by decide) (fr_fX67_write_2 112)) fun _ => (fr_cl (fr_mono (by decide) (fr_fX67_writeNumber ((x1 / 16777216) % 8))) fun _ => (fr_cl (fr_mono (by decide) (fr_fX67_write_2 124)) fun _ => (fr_fX67_list_J167 x1 x4))))
theorem fr_fX67_list_J94 (x1 : Int) (x3 : Int) (x4 : Int) : zFr W_fX67_list (fX67_list_J94 x1 x3 x4) :=
  (fr_ite fr_fX67_list_J105 (fr_ite (fr_cl (fr_mono (by decide) (fr_fX67_write_2 32)) fun _ => (fr_ite (fr_ite (fr_fX67_list_J143 x1 x4) (fr_ite (fr_fX67_list_J167 x1 x4) (fr_fX67_list_J143 x1 x4))) (fr_cl (fr_mono (by decide) (fr_fX67_write_2 35)) fun _ => (fr_fX67_list_J167 x1 x4)))) fr_fX67_list_J105))
theorem fr_fX67_list (x1 : Int) : zFr W_fX67_list (fX67_list x1) :=
  (fr_cl (fr_mono (by decide) (fr_fX67_isWord x1)) fun v1 => (fr_ite (fr_pf (by decide) (fr_cl (fr_mono (by decide) (fr_fX67_isListable x1)) fun v2 => (fr_ite (fr_lt fun v3 => (fr_lt fun v4 => (fr_ct fun v5 => (fr_cl (fr_mono (by decide) (fr_fX67_writeName v5)) fun _ => (fr_cl (fr_mono (by decide) (fr_fX67_takesN v3)) fun v7 => (fr_ite (fr_fX67_list_J94 x1 v3 v4) (fr_cl (fr_mono (by decide) (fr_fX67_writeNumber ((x1 / 2097152) % 8))) fun _ => (fr_fX67_list_J94 x1 v3 v4)))))))) (fr_ct fun v21 => (fr_cl (fr_mono (by decide) (fr_fX67_writeName v21)) fun _ => (fr_cl (fr_mono (by decide) (fr_fX67_write_2 32)) fun _ => (fr_cl (fr_mono (by decide) (fr_fX67_writeNumber x1)) fun _ => (fr_gf fun v25 => (fr_ret _))))))))) (fr_ret _)))
abbrev W_fX67_listed : List Nat := []
theorem fr_fX67_listed (x1 : Int) : zFr W_fX67_listed (fX67_listed x1) :=
  (fr_gf fun v1 => (fr_cl (fr_mono (by decide) (fr_fX67_in x1 0 (zi (v1 - 1)))) fun v2 => (fr_ite (fr_ret _) (fr_al fun v3 => (fr_ret _)))))
abbrev W_fX67_putByte : List Nat := [6872, 6873, 6915]
theorem fr_fX67_putByte (x1 : Int) : zFr W_fX67_putByte (fX67_putByte x1) :=
  (fr_gf fun v1 => (fr_as (by decide) (fr_gf fun v2 => (fr_pf (by decide) (fr_gf fun v3 => (fr_pf (by decide) (fr_ret _)))))))
abbrev W_fX67_putWord : List Nat := [6872, 6873, 6915]
theorem fr_fX67_putWord_B3 (x1 : Int) : ∀ r3 : Int → zX, (∀ s, zFr W_fX67_putWord (r3 s)) → ∀ s, zFr W_fX67_putWord (fX67_putWord_B3 x1 r3 s) := by
  intro r3 hr3 x3
  unfold fX67_putWord_B3
  exact (fr_ite (fr_ret _) (fr_cl (fr_mono (by decide) (fr_fX67_putByte (zi ((x1 / 2 ^ (x3 % 64).toNat) % 256)))) fun _ => (fr_lt fun v2 => (hr3 v2))))
theorem fr_fX67_putWord (x1 : Int) : zFr W_fX67_putWord (fX67_putWord x1) :=
  (fr_lp (fr_fX67_putWord_B3 x1) zBIG 32)
abbrev W_fX67_putItems : List Nat := [6813, 6815, 6872, 6873, 6915]
theorem fr_fX67_putItems_B8 {c1 : Nat} (hc1 : c1 ∈ W_fX67_putItems) (x2 : Int) (x3 : Int) : ∀ r8 : Int → zX, (∀ s, zFr W_fX67_putItems (r8 s)) → ∀ s, zFr W_fX67_putItems (fX67_putItems_B8 c1 x2 x3 r8 s) := by
  intro r8 hr8 x4
  unfold fX67_putItems_B8
  exact (fr_ite (fr_ret _) (fr_al fun v2 => (fr_cl (fr_mono (by decide) (fr_fX67_putByte v2)) fun _ => (fr_lt fun v4 => (hr8 v4)))))
theorem fr_fX67_putItems {c1 : Nat} (hc1 : c1 ∈ W_fX67_putItems) (x2 : Int) (x3 : Int) : zFr W_fX67_putItems (fX67_putItems c1 x2 x3) :=
  (fr_cl (fr_mono (by decide) (fr_fX67_putByte x3)) fun _ => (fr_lp (fr_fX67_putItems_B8 hc1 x2 x3) zBIG x2))
abbrev W_fX67_putNode : List Nat := [6813, 6815, 6872, 6873, 6915]
theorem fr_fX67_putNode_B255 (x1 : Int) : ∀ r255 : Int → zX, (∀ s, zFr W_fX67_putNode (r255 s)) → ∀ s, zFr W_fX67_putNode (fX67_putNode_B255 x1 r255 s) := by
  intro r255 hr255 x2
  unfold fX67_putNode_B255
  exact (fr_al fun v13 => (fr_ite (fr_ret _) (fr_al fun v14 => (fr_cl (fr_mono (by decide) (fr_fX67_putByte v14)) fun _ => (fr_al fun v16 => (fr_cl (fr_mono (by decide) (fr_fX67_putWord v16)) fun _ => (fr_lt fun v18 => (hr255 v18))))))))
theorem fr_fX67_putNode_B204 (x1 : Int) : ∀ r204 : Int → zX, (∀ s, zFr W_fX67_putNode (r204 s)) → ∀ s, zFr W_fX67_putNode (fX67_putNode_B204 x1 r204 s) := by
  intro r204 hr204 x2
  unfold fX67_putNode_B204
  exact (fr_al fun v25 => (fr_ite (fr_ret _) (fr_al fun v26 => (fr_cl (fr_mono (by decide) (fr_fX67_putWord v26)) fun _ => (fr_lt fun v28 => (hr204 v28))))))
theorem fr_fX67_putNode_J49 (x1 : Int) : zFr W_fX67_putNode (fX67_putNode_J49 x1) :=
  (fr_al fun v6 => (fr_cl (fr_mono (by decide) (fr_fX67_putItems (show 6813 ∈ _ by decide) (zi (18 * x1)) v6)) fun _ => (fr_al fun v8 => (fr_ite (fr_al fun v9 => (fr_ite (fr_al fun v10 => (fr_cl (fr_mono (by decide) (fr_fX67_putByte v10)) fun _ => (fr_lt fun v12 => (fr_lp (fr_fX67_putNode_B255 x1) zBIG v12)))) (fr_al fun v19 => (fr_cl (fr_mono (by decide) (fr_fX67_putByte v19)) fun _ => (fr_al fun v21 => (fr_cl (fr_mono (by decide) (fr_fX67_putByte (zi (Int.tdiv v21 256)))) fun _ => (fr_al fun v23 => (fr_cl (fr_mono (by decide) (fr_fX67_putByte (Int.tmod v23 256))) fun _ => (fr_lp (fr_fX67_putNode_B204 x1) zBIG 0))))))))) (fr_al fun v29 => (fr_cl (fr_mono (by decide) (fr_fX67_putByte v29)) fun _ => (fr_al fun v31 => (fr_cl (fr_mono (by decide) (fr_fX67_putByte v31)) fun _ => (fr_al fun v33 => (fr_cl (fr_mono (by decide) (fr_fX67_putItems (show 6815 ∈ _ by decide) (zi ((zi (18 * x1)) + 9)) v33)) fun _ => (fr_al fun v35 => (fr_cl (fr_mono (by decide) (fr_fX67_putItems (show 6815 ∈ _ by decide) (zi (18 * x1)) v35)) fun _ => (fr_cl (fr_mono (by decide) (fr_fX67_countEntries x1)) fun v37 => (fr_cl (fr_mono (by decide) (fr_fX67_putByte v37)) fun _ => (fr_ret _)))))))))))))))
theorem fr_fX67_putNode_B24 (x1 : Int) : ∀ r24 : Int → zX, (∀ s, zFr W_fX67_putNode (r24 s)) → ∀ s, zFr W_fX67_putNode (fX67_putNode_B24 x1 r24 s) := by
  intro r24 hr24 x2
  unfold fX67_putNode_B24
  exact (fr_ite (fr_fX67_putNode_J49 x1) (fr_al fun v39 => (fr_cl (fr_mono (by decide) (fr_fX67_putByte v39)) fun _ => (fr_lt fun v41 => (hr24 v41)))))
theorem fr_fX67_putNode (x1 : Int) : zFr W_fX67_putNode (fX67_putNode x1) :=
  (fr_al fun v1 => (fr_cl (fr_mono (by decide) (fr_fX67_putByte v1)) fun _ => (fr_al fun v3 => (fr_cl (fr_mono (by decide) (fr_fX67_putWord v3)) fun _ => (fr_lt fun v5 => (fr_lp (fr_fX67_putNode_B24 x1) zBIG v5))))))
abbrev W_fX67_behindOnTape : List Nat := []
theorem fr_fX67_behindOnTape_B24 (x2 : Int) : ∀ r24 : Int × Int → zX, (∀ s, zFr W_fX67_behindOnTape (r24 s)) → ∀ s, zFr W_fX67_behindOnTape (fX67_behindOnTape_B24 x2 r24 s) := by
  intro r24 hr24 s
  obtain ⟨x3, x4⟩ := s
  unfold fX67_behindOnTape_B24
  exact (fr_ite (fr_ret _) (fr_ite (fr_ret _) (fr_al fun v2 => (fr_cl (fr_mono (by decide) (fr_fX67_entryBehind v2 x4)) fun v3 => (fr_al fun v4 => (hr24 (v3, v4)))))))
theorem fr_fX67_behindOnTape_J20 (x1 : Int) (x2 : Int) (s0 : Int) : zFr W_fX67_behindOnTape (fX67_behindOnTape_J20 x1 x2 s0) :=
  (fr_lp (fr_fX67_behindOnTape_B24 x2) zBIG (s0, x1))
theorem fr_fX67_behindOnTape (x1 : Int) (x2 : Int) : zFr W_fX67_behindOnTape (fX67_behindOnTape x1 x2) :=
  (fr_al fun v1 => (fr_ite (fr_fX67_behindOnTape_J20 x1 x2 (-1)) (fr_cl (fr_mono (by decide) (fr_fX67_entryBehind x1 0)) fun v5 => (fr_fX67_behindOnTape_J20 x1 x2 v5))))
abbrev W_fX67_dump : List Nat := [6813, 6815, 6872, 6873, 6915]
theorem fr_fX67_dump_J63 : zFr W_fX67_dump (fX67_dump_J63) :=
  (fr_gf fun v5 => (fr_cl (fr_mono (by decide) (fr_fX67_putByte (zi (Int.tdiv v5 256)))) fun _ => (fr_cl (fr_mono (by decide) (fr_fX67_putByte (Int.tmod v5 256))) fun _ => (fr_gf fun v8 => (fr_ret _)))))
theorem fr_fX67_dump_B44 (x1 : Int) : ∀ r44 : Int → zX, (∀ s, zFr W_fX67_dump (r44 s)) → ∀ s, zFr W_fX67_dump (fX67_dump_B44 x1 r44 s) := by
  intro r44 hr44 x2
  unfold fX67_dump_B44
  exact (fr_ite fr_fX67_dump_J63 (fr_cl (fr_mono (by decide) (fr_fX67_putNode x2)) fun _ => (fr_cl (fr_mono (by decide) (fr_fX67_behindOnTape x2 x1)) fun v10 => (hr44 v10))))
theorem fr_fX67_dump (x1 : Int) : zFr W_fX67_dump (fX67_dump x1) :=
  (fr_cl (fr_mono (by decide) (fr_fX67_isNode x1)) fun v1 => (fr_ite (fr_ret _) (fr_ite (fr_pf (by decide) (fr_pf (by decide) (fr_cl (fr_mono (by decide) (fr_fX67_putByte 82)) fun _ => (fr_cl (fr_mono (by decide) (fr_fX67_putByte 72)) fun _ => (fr_cl (fr_mono (by decide) (fr_fX67_putByte 1)) fun _ => (fr_lp (fr_fX67_dump_B44 x1) zBIG x1)))))) (fr_ret _))))
abbrev W_fX67_tape : List Nat := []
theorem fr_fX67_tape (x1 : Int) : zFr W_fX67_tape (fX67_tape x1) :=
  (fr_gf fun v1 => (fr_cl (fr_mono (by decide) (fr_fX67_in x1 0 (zi (v1 - 1)))) fun v2 => (fr_ite (fr_ret _) (fr_al fun v3 => (fr_ret _)))))
abbrev W_fX67_alter : List Nat := [6872, 6873]
theorem fr_fX67_alter_J67 (s1 : Int) : zFr W_fX67_alter (fX67_alter_J67 s1) :=
  (fr_pf (by decide) (fr_gf fun v6 => (fr_ret _)))
theorem fr_fX67_alter (x1 : Int) (x2 : Int) : zFr W_fX67_alter (fX67_alter x1 x2) :=
  (fr_gf fun v1 => (fr_cl (fr_mono (by decide) (fr_fX67_in x1 0 v1)) fun v2 => (fr_ite (fr_ret _) (fr_cl (fr_mono (by decide) (fr_fX67_in x2 0 255)) fun v3 => (fr_ite (fr_ite (fr_as (by decide) (fr_gf fun v4 => (fr_ite (fr_gf fun v5 => (fr_fX67_alter_J67 v5)) (fr_gf fun v7 => (fr_fX67_alter_J67 (zi (v7 + 1))))))) (fr_ret _)) (fr_ret _))))))
abbrev W_fX67_cut : List Nat := [6872]
theorem fr_fX67_cut (x1 : Int) : zFr W_fX67_cut (fX67_cut x1) :=
  (fr_gf fun v1 => (fr_cl (fr_mono (by decide) (fr_fX67_in x1 0 v1)) fun v2 => (fr_ite (fr_gf fun v3 => (fr_lt fun v4 => (fr_pf (by decide) (fr_ret _)))) (fr_ret _))))
abbrev W_fX67_torn : List Nat := [6913, 6914]
theorem fr_fX67_torn (x1 : Int) (x2 : Int) : zFr W_fX67_torn (fX67_torn x1 x2) :=
  (fr_gf fun v1 => (fr_ite (fr_ret _) (fr_pf (by decide) (fr_pf (by decide) (fr_ret _)))))
abbrev W_fX67_take : List Nat := [6912, 6913, 6914, 6915]
theorem fr_fX67_take_J62 (x3 : Int) : zFr W_fX67_take (fX67_take_J62 x3) :=
  (fr_gf fun v7 => (fr_pf (by decide) (fr_gf fun v8 => (fr_pf (by decide) (fr_gf fun v9 => (fr_ite (fr_ret _) (fr_ret _)))))))
theorem fr_fX67_take (x1 : Int) (x2 : Int) : zFr W_fX67_take (fX67_take x1 x2) :=
  (fr_gf fun v1 => (fr_ite (fr_gf fun v2 => (fr_gf fun v3 => (fr_ite (fr_gf fun v4 => (fr_al fun v5 => (fr_cl (fr_mono (by decide) (fr_fX67_in v5 x1 x2)) fun v6 => (fr_ite (fr_fX67_take_J62 v5) (fr_gf fun v10 => (fr_cl (fr_mono (by decide) (fr_fX67_torn 3 v10)) fun _ => (fr_fX67_take_J62 v5))))))) (fr_gf fun v12 => (fr_cl (fr_mono (by decide) (fr_fX67_torn 1 v12)) fun _ => (fr_ret _)))))) (fr_ret _)))
abbrev W_fX67_takeWord : List Nat := [6912, 6913, 6914, 6915]
theorem fr_fX67_takeWord_J38 (x1 : Int) (x2 : Int) : zFr W_fX67_takeWord (fX67_takeWord_J38 x1 x2) :=
  (fr_cl (fr_mono (by decide) (fr_fX67_isWord x2)) fun v2 => (fr_ite (fr_ret _) (fr_cl (fr_mono (by decide) (fr_fX67_torn 3 x1)) fun _ => (fr_ret _))))
theorem fr_fX67_takeWord_B10 (x1 : Int) : ∀ r10 : Int × Int → zX, (∀ s, zFr W_fX67_takeWord (r10 s)) → ∀ s, zFr W_fX67_takeWord (fX67_takeWord_B10 x1 r10 s) := by
  intro r10 hr10 s
  obtain ⟨x2, x4⟩ := s
  unfold fX67_takeWord_B10
  exact (fr_ite (fr_fX67_takeWord_J38 x1 x2) (fr_cl (fr_mono (by decide) (fr_fX67_take 0 255)) fun v4 => (fr_lt fun v5 => (fr_lt fun v6 => (hr10 (v5, v6))))))
theorem fr_fX67_takeWord : zFr W_fX67_takeWord (fX67_takeWord) :=
  (fr_gf fun v1 => (fr_lp (fr_fX67_takeWord_B10 v1) zBIG (0, 0)))
abbrev W_fX67_labelAbove : List Nat := []
theorem fr_fX67_labelAbove (x1 : Int) : zFr W_fX67_labelAbove (fX67_labelAbove x1) :=
  (fr_ite (fr_al fun v1 => (fr_ret _)) (fr_gf fun v2 => (fr_al fun v3 => (fr_ret _))))
abbrev W_fX67_hasName : List Nat := []
theorem fr_fX67_hasName_J52 {r6 : Int × Int → zX} (hr6 : ∀ s, zFr W_fX67_hasName (r6 s)) (x1 : Int) (x2 : Int) (x5 : Int) (s0 : Int) : zFr W_fX67_hasName (fX67_hasName_J52 r6 x1 x2 x5 s0) :=
  (fr_lt fun v2 => (hr6 (s0, v2)))
theorem fr_fX67_hasName_J47 {r6 : Int × Int → zX} (hr6 : ∀ s, zFr W_fX67_hasName (r6 s)) (x1 : Int) (x2 : Int) (x5 : Int) : zFr W_fX67_hasName (fX67_hasName_J47 r6 x1 x2 x5) :=
  (fr_fX67_hasName_J52 hr6 x1 x2 x5 1)
theorem fr_fX67_hasName_J51 {r6 : Int × Int → zX} (hr6 : ∀ s, zFr W_fX67_hasName (r6 s)) (x1 : Int) (x2 : Int) (x5 : Int) : zFr W_fX67_hasName (fX67_hasName_J51 r6 x1 x2 x5) :=
  (fr_fX67_hasName_J52 hr6 x1 x2 x5 0)
theorem fr_fX67_hasName_B6 (x1 : Int) (x2 : Int) : ∀ r6 : Int × Int → zX, (∀ s, zFr W_fX67_hasName (r6 s)) → ∀ s, zFr W_fX67_hasName (fX67_hasName_B6 x1 x2 r6 s) := by
  intro r6 hr6 s
  obtain ⟨x4, x5⟩ := s
  unfold fX67_hasName_B6
  exact (fr_gf fun v1 => (fr_ite (fr_rb _) (fr_ite (fr_fX67_hasName_J47 hr6 x1 x2 x5) (fr_al fun v3 => (fr_ite (fr_fX67_hasName_J51 hr6 x1 x2 x5) (fr_al fun v4 => (fr_ite (fr_fX67_hasName_J51 hr6 x1 x2 x5) (fr_ite (fr_fX67_hasName_J51 hr6 x1 x2 x5) (fr_fX67_hasName_J47 hr6 x1 x2 x5)))))))))
theorem fr_fX67_hasName (x1 : Int) (x2 : Int) : zFr W_fX67_hasName (fX67_hasName x1 x2) :=
  (fr_lp (fr_fX67_hasName_B6 x1 x2) zBIG (0, 0))
abbrev W_fX67_takeHead : List Nat := [6912, 6913, 6914, 6915, 6916, 6917, 6918, 6919, 6920, 6921, 6922, 6923]
theorem fr_fX67_takeHead_J77 (x1 : Int) (x2 : Int) (x3 : Int) (x5 : Int) : zFr W_fX67_takeHead (fX67_takeHead_J77 x1 x2 x3 x5) :=
  (fr_as (by decide) (fr_as (by decide) (fr_as (by decide) (fr_cl (fr_mono (by decide) (fr_fX67_labelAbove x1)) fun v7 => (fr_as (by decide) (fr_as (by decide) (fr_as (by decide) (fr_as (by decide) (fr_gf fun v8 => (fr_pf (by decide) (fr_ret _)))))))))))
theorem fr_fX67_takeHead_J46 (x1 : Int) (x2 : Int) (x3 : Int) (x4 : Int) (x5 : Int) : zFr W_fX67_takeHead (fX67_takeHead_J46 x1 x2 x3 x4 x5) :=
  (fr_gf fun v6 => (fr_ite (fr_fX67_takeHead_J77 x1 x2 x3 x5) (fr_gf fun v9 => (fr_ite (fr_fX67_takeHead_J77 x1 x2 x3 x5) (fr_cl (fr_mono (by decide) (fr_fX67_hasName x1 x5)) fun v10 => (fr_ite (fr_fX67_takeHead_J77 x1 x2 x3 x5) (fr_cl (fr_mono (by decide) (fr_fX67_torn 4 x4)) fun _ => (fr_fX67_takeHead_J77 x1 x2 x3 x5))))))))
theorem fr_fX67_takeHead (x1 : Int) : zFr W_fX67_takeHead (fX67_takeHead x1) :=
  (fr_gf fun v1 => (fr_cl (fr_mono (by decide) (fr_fX67_take 1 3)) fun v2 => (fr_gf fun v3 => (fr_cl (fr_mono (by decide) fr_fX67_takeWord) fun v4 => (fr_gf fun v5 => (fr_ite (fr_fX67_takeHead_J46 x1 v1 v2 v3 v4) (fr_cl (fr_mono (by decide) (fr_fX67_isName v4)) fun v12 => (fr_ite (fr_fX67_takeHead_J46 x1 v1 v2 v3 v4) (fr_cl (fr_mono (by decide) (fr_fX67_torn 3 v3)) fun _ => (fr_fX67_takeHead_J46 x1 v1 v2 v3 v4))))))))))
abbrev W_fX67_takeItems : List Nat := [6812, 6813, 6814, 6815, 6912, 6913, 6914, 6915, 6929]
theorem fr_fX67_takeItems_J267 {r210 : Int → zX} (hr210 : ∀ s, zFr W_fX67_takeItems (r210 s)) (x1 : Int) (x3 : Int) (x4 : Int) (x5 : Int) : zFr W_fX67_takeItems (fX67_takeItems_J267 r210 x1 x3 x4 x5) :=
  (fr_lt fun v6 => (hr210 v6))
theorem fr_fX67_takeItems_B210 (x1 : Int) (x3 : Int) (x4 : Int) : ∀ r210 : Int → zX, (∀ s, zFr W_fX67_takeItems (r210 s)) → ∀ s, zFr W_fX67_takeItems (fX67_takeItems_B210 x1 x3 x4 r210 s) := by
  intro r210 hr210 x5
  unfold fX67_takeItems_B210
  exact (fr_gf fun v4 => (fr_ite (fr_ret _) (fr_ite (fr_ret _) (fr_ite (fr_al fun v5 => (fr_as (by decide) (fr_fX67_takeItems_J267 hr210 x1 x3 x4 x5))) (fr_al fun v7 => (fr_as (by decide) (fr_fX67_takeItems_J267 hr210 x1 x3 x4 x5)))))))
theorem fr_fX67_takeItems_J207 (x1 : Int) (x3 : Int) (x4 : Int) : zFr W_fX67_takeItems (fX67_takeItems_J207 x1 x3 x4) :=
  (fr_lp (fr_fX67_takeItems_B210 x1 x3 x4) zBIG 0)
theorem fr_fX67_takeItems_J189 (x1 : Int) (x3 : Int) (x4 : Int) : zFr W_fX67_takeItems (fX67_takeItems_J189 x1 x3 x4) :=
  (fr_gf fun v3 => (fr_ite (fr_fX67_takeItems_J207 x1 x3 x4) (fr_as (by decide) (fr_fX67_takeItems_J207 x1 x3 x4))))
theorem fr_fX67_takeItems_J165 (x1 : Int) (x2 : Int) (x3 : Int) (x4 : Int) : zFr W_fX67_takeItems (fX67_takeItems_J165 x1 x2 x3 x4) :=
  (fr_gf fun v2 => (fr_ite (fr_fX67_takeItems_J189 x1 x3 x4) (fr_ite (fr_fX67_takeItems_J189 x1 x3 x4) (fr_as (by decide) (fr_fX67_takeItems_J207 x1 x3 x4)))))
theorem fr_fX67_takeItems_J141 {r11 : Int → zX} (hr11 : ∀ s, zFr W_fX67_takeItems (r11 s)) (x1 : Int) (x2 : Int) (x3 : Int) (x4 : Int) (x5 : Int) : zFr W_fX67_takeItems (fX67_takeItems_J141 r11 x1 x2 x3 x4 x5) :=
  (fr_cl (fr_mono (by decide) (fr_fX67_take 0 7)) fun v12 => (fr_as (by decide) (fr_lt fun v13 => (hr11 v13))))
theorem fr_fX67_takeItems_J135 {r11 : Int → zX} (hr11 : ∀ s, zFr W_fX67_takeItems (r11 s)) {r68 : Int → zX} (hr68 : ∀ s, zFr W_fX67_takeItems (r68 s)) (x1 : Int) (x2 : Int) (x3 : Int) (x4 : Int) (x5 : Int) (x6 : Int) (x7 : Int) : zFr W_fX67_takeItems (fX67_takeItems_J135 r11 r68 x1 x2 x3 x4 x5 x6 x7) :=
  (fr_lt fun v15 => (hr68 v15))
theorem fr_fX67_takeItems_B68 {r11 : Int → zX} (hr11 : ∀ s, zFr W_fX67_takeItems (r11 s)) (x1 : Int) (x2 : Int) (x3 : Int) (x4 : Int) (x5 : Int) (x6 : Int) : ∀ r68 : Int → zX, (∀ s, zFr W_fX67_takeItems (r68 s)) → ∀ s, zFr W_fX67_takeItems (fX67_takeItems_B68 r11 x1 x2 x3 x4 x5 x6 r68 s) := by
  intro r68 hr68 x7
  unfold fX67_takeItems_B68
  exact (fr_ite (fr_fX67_takeItems_J141 hr11 x1 x2 x3 x4 x5) (fr_gf fun v14 => (fr_ite (fr_fX67_takeItems_J135 hr11 hr68 x1 x2 x3 x4 x5 x6 x7) (fr_al fun v16 => (fr_al fun v17 => (fr_ite (fr_fX67_takeItems_J135 hr11 hr68 x1 x2 x3 x4 x5 x6 x7) (fr_al fun v18 => (fr_al fun v19 => (fr_ite (fr_fX67_takeItems_J135 hr11 hr68 x1 x2 x3 x4 x5 x6 x7) (fr_cl (fr_mono (by decide) (fr_fX67_torn 3 x6)) fun _ => (fr_fX67_takeItems_J135 hr11 hr68 x1 x2 x3 x4 x5 x6 x7)))))))))))
theorem fr_fX67_takeItems_B11 (x1 : Int) (x2 : Int) (x3 : Int) (x4 : Int) : ∀ r11 : Int → zX, (∀ s, zFr W_fX67_takeItems (r11 s)) → ∀ s, zFr W_fX67_takeItems (fX67_takeItems_B11 x1 x2 x3 x4 r11 s) := by
  intro r11 hr11 x5
  unfold fX67_takeItems_B11
  exact (fr_ite (fr_fX67_takeItems_J165 x1 x2 x3 x4) (fr_gf fun v8 => (fr_ite (fr_fX67_takeItems_J165 x1 x2 x3 x4) (fr_gf fun v9 => (fr_cl (fr_mono (by decide) (fr_fX67_take 0 16)) fun v10 => (fr_as (by decide) (fr_cl (fr_mono (by decide) (fr_fX67_take 0 8)) fun v11 => (fr_as (by decide) (fr_lp (fr_fX67_takeItems_B68 hr11 x1 x2 x3 x4 x5 v9) zBIG 0)))))))))
theorem fr_fX67_takeItems (x1 : Int) (x2 : Int) (x3 : Int) : zFr W_fX67_takeItems (fX67_takeItems x1 x2 x3) :=
  (fr_cl (fr_mono (by decide) (fr_fX67_take 0 x1)) fun v1 => (fr_lp (fr_fX67_takeItems_B11 x1 x2 x3 v1) zBIG 0))
abbrev W_fX67_takeLetters : List Nat := [6817, 6818, 6819, 6912, 6913, 6914, 6915, 6928]
theorem fr_fX67_takeLetters_J174 (x2 : Int) (x3 : Int) : zFr W_fX67_takeLetters (fX67_takeLetters_J174 x2 x3) :=
  (fr_gf fun v2 => (fr_ite (fr_ret _) (fr_as (by decide) (fr_ret _))))
theorem fr_fX67_takeLetters_J168 {r33 : Int → zX} (hr33 : ∀ s, zFr W_fX67_takeLetters (r33 s)) (x1 : Int) (x2 : Int) (x3 : Int) (x4 : Int) : zFr W_fX67_takeLetters (fX67_takeLetters_J168 r33 x1 x2 x3 x4) :=
  (fr_lt fun v11 => (hr33 v11))
theorem fr_fX67_takeLetters_J125 {r33 : Int → zX} (hr33 : ∀ s, zFr W_fX67_takeLetters (r33 s)) (x1 : Int) (x2 : Int) (x3 : Int) (x4 : Int) (x6 : Int) : zFr W_fX67_takeLetters (fX67_takeLetters_J125 r33 x1 x2 x3 x4 x6) :=
  (fr_cl (fr_mono (by decide) fr_fX67_takeWord) fun v9 => (fr_gf fun v10 => (fr_ite (fr_fX67_takeLetters_J168 hr33 x1 x2 x3 x4) (fr_as (by decide) (fr_as (by decide) (fr_fX67_takeLetters_J168 hr33 x1 x2 x3 x4))))))
theorem fr_fX67_takeLetters_J89 {r33 : Int → zX} (hr33 : ∀ s, zFr W_fX67_takeLetters (r33 s)) (x1 : Int) (x2 : Int) (x3 : Int) (x4 : Int) (x5 : Int) (x6 : Int) : zFr W_fX67_takeLetters (fX67_takeLetters_J89 r33 x1 x2 x3 x4 x5 x6) :=
  (fr_al fun v7 => (fr_as (by decide) (fr_gf fun v8 => (fr_ite (fr_fX67_takeLetters_J125 hr33 x1 x2 x3 x4 x6) (fr_al fun v12 => (fr_ite (fr_fX67_takeLetters_J125 hr33 x1 x2 x3 x4 x6) (fr_cl (fr_mono (by decide) (fr_fX67_torn 3 x5)) fun _ => (fr_fX67_takeLetters_J125 hr33 x1 x2 x3 x4 x6))))))))
theorem fr_fX67_takeLetters_B33 (x1 : Int) (x2 : Int) (x3 : Int) : ∀ r33 : Int → zX, (∀ s, zFr W_fX67_takeLetters (r33 s)) → ∀ s, zFr W_fX67_takeLetters (fX67_takeLetters_B33 x1 x2 x3 r33 s) := by
  intro r33 hr33 x4
  unfold fX67_takeLetters_B33
  exact (fr_ite (fr_fX67_takeLetters_J174 x2 x3) (fr_gf fun v3 => (fr_ite (fr_fX67_takeLetters_J174 x2 x3) (fr_gf fun v4 => (fr_cl (fr_mono (by decide) (fr_fX67_take 0 31)) fun v5 => (fr_gf fun v6 => (fr_ite (fr_fX67_takeLetters_J89 hr33 x1 x2 x3 x4 v4 v5) (fr_al fun v14 => (fr_cl (fr_mono (by decide) (fr_fX67_dominates v5 v14)) fun v15 => (fr_ite (fr_fX67_takeLetters_J89 hr33 x1 x2 x3 x4 v4 v5) (fr_cl (fr_mono (by decide) (fr_fX67_torn 5 v4)) fun _ => (fr_fX67_takeLetters_J89 hr33 x1 x2 x3 x4 v4 v5))))))))))))
theorem fr_fX67_takeLetters_J21 (x1 : Int) (x2 : Int) : zFr W_fX67_takeLetters (fX67_takeLetters_J21 x1 x2) :=
  (fr_cl (fr_mono (by decide) (fr_fX67_take 0 128)) fun v1 => (fr_lp (fr_fX67_takeLetters_B33 x1 x2 v1) zBIG 0))
theorem fr_fX67_takeLetters_B2 (x1 : Int) (x2 : Int) : ∀ r2 : Int → zX, (∀ s, zFr W_fX67_takeLetters (r2 s)) → ∀ s, zFr W_fX67_takeLetters (fX67_takeLetters_B2 x1 x2 r2 s) := by
  intro r2 hr2 x3
  unfold fX67_takeLetters_B2
  exact (fr_ite (fr_fX67_takeLetters_J21 x1 x2) (fr_as (by decide) (fr_lt fun v17 => (hr2 v17))))
theorem fr_fX67_takeLetters (x1 : Int) (x2 : Int) : zFr W_fX67_takeLetters (fX67_takeLetters x1 x2) :=
  (fr_lp (fr_fX67_takeLetters_B2 x1 x2) zBIG 0)
abbrev W_fX67_charge : List Nat := [6922, 6927]
theorem fr_fX67_charge_J25 (x2 : Int) (x3 : Int) : zFr W_fX67_charge (fX67_charge_J25 x2 x3) :=
  (fr_ite (fr_gf fun v1 => (fr_pf (by decide) (fr_ret _))) (fr_al fun v2 => (fr_as (by decide) (fr_ret _))))
theorem fr_fX67_charge_B2 (x2 : Int) : ∀ r2 : Int → zX, (∀ s, zFr W_fX67_charge (r2 s)) → ∀ s, zFr W_fX67_charge (fX67_charge_B2 x2 r2 s) := by
  intro r2 hr2 x3
  unfold fX67_charge_B2
  exact (fr_ite (fr_fX67_charge_J25 x2 x3) (fr_al fun v3 => (fr_ite (fr_fX67_charge_J25 x2 x3) (fr_al fun v4 => (hr2 v4)))))
theorem fr_fX67_charge (x1 : Int) (x2 : Int) : zFr W_fX67_charge (fX67_charge x1 x2) :=
  (fr_lp (fr_fX67_charge_B2 x2) zBIG x1)
abbrev W_fX67_takeSegment : List Nat := [6805, 6816, 6912, 6913, 6914, 6915]
theorem fr_fX67_takeSegment_J112 (x1 : Int) (x2 : Int) (x4 : Int) : zFr W_fX67_takeSegment (fX67_takeSegment_J112 x1 x2 x4) :=
  (fr_gf fun v8 => (fr_ite (fr_ret _) (fr_as (by decide) (fr_ret _))))
theorem fr_fX67_takeSegment_J106 {r64 : Int → zX} (hr64 : ∀ s, zFr W_fX67_takeSegment (r64 s)) (x1 : Int) (x2 : Int) (x4 : Int) (x5 : Int) : zFr W_fX67_takeSegment (fX67_takeSegment_J106 r64 x1 x2 x4 x5) :=
  (fr_lt fun v12 => (hr64 v12))
theorem fr_fX67_takeSegment_B64 (x1 : Int) (x2 : Int) (x4 : Int) : ∀ r64 : Int → zX, (∀ s, zFr W_fX67_takeSegment (r64 s)) → ∀ s, zFr W_fX67_takeSegment (fX67_takeSegment_B64 x1 x2 x4 r64 s) := by
  intro r64 hr64 x5
  unfold fX67_takeSegment_B64
  exact (fr_ite (fr_fX67_takeSegment_J112 x1 x2 x4) (fr_gf fun v9 => (fr_ite (fr_fX67_takeSegment_J112 x1 x2 x4) (fr_cl (fr_mono (by decide) fr_fX67_takeWord) fun v10 => (fr_gf fun v11 => (fr_ite (fr_fX67_takeSegment_J106 hr64 x1 x2 x4 x5) (fr_as (by decide) (fr_fX67_takeSegment_J106 hr64 x1 x2 x4 x5))))))))
theorem fr_fX67_takeSegment_J61 (x1 : Int) (x2 : Int) (x4 : Int) : zFr W_fX67_takeSegment (fX67_takeSegment_J61 x1 x2 x4) :=
  (fr_lp (fr_fX67_takeSegment_B64 x1 x2 x4) zBIG 0)
theorem fr_fX67_takeSegment (x1 : Int) : zFr W_fX67_takeSegment (fX67_takeSegment x1) :=
  (fr_cl (fr_mono (by decide) (fr_fX67_take 0 63)) fun v1 => (fr_gf fun v2 => (fr_cl (fr_mono (by decide) (fr_fX67_take 0 255)) fun v3 => (fr_lt fun v4 => (fr_cl (fr_mono (by decide) (fr_fX67_take 0 255)) fun v5 => (fr_lt fun v6 => (fr_gf fun v7 => (fr_ite (fr_fX67_takeSegment_J61 x1 v1 v6) (fr_ite (fr_fX67_takeSegment_J61 x1 v1 v6) (fr_cl (fr_mono (by decide) (fr_fX67_torn 3 v2)) fun _ => (fr_fX67_takeSegment_J61 x1 v1 v6)))))))))))
abbrev W_fX67_takeDirectory : List Nat := [6912, 6913, 6914, 6915, 6920, 6921]
theorem fr_fX67_takeDirectory_J82 (x1 : Int) (x3 : Int) (x5 : Int) : zFr W_fX67_takeDirectory (fX67_takeDirectory_J82 x1 x3 x5) :=
  (fr_as (by decide) (fr_as (by decide) (fr_ret _)))
theorem fr_fX67_takeDirectory_J43 (x1 : Int) (x3 : Int) (x4 : Int) : zFr W_fX67_takeDirectory (fX67_takeDirectory_J43 x1 x3 x4) :=
  (fr_gf fun v5 => (fr_cl (fr_mono (by decide) (fr_fX67_take 0 255)) fun v6 => (fr_gf fun v7 => (fr_ite (fr_fX67_takeDirectory_J82 x1 x3 v6) (fr_ite (fr_fX67_takeDirectory_J82 x1 x3 v6) (fr_ite (fr_fX67_takeDirectory_J82 x1 x3 v6) (fr_cl (fr_mono (by decide) (fr_fX67_torn 5 v5)) fun _ => (fr_fX67_takeDirectory_J82 x1 x3 v6))))))))
theorem fr_fX67_takeDirectory (x1 : Int) : zFr W_fX67_takeDirectory (fX67_takeDirectory x1) :=
  (fr_gf fun v1 => (fr_cl (fr_mono (by decide) (fr_fX67_take 0 31)) fun v2 => (fr_al fun v3 => (fr_gf fun v4 => (fr_ite (fr_fX67_takeDirectory_J43 x1 v2 v3) (fr_cl (fr_mono (by decide) (fr_fX67_dominates v2 v3)) fun v9 => (fr_ite (fr_fX67_takeDirectory_J43 x1 v2 v3) (fr_cl (fr_mono (by decide) (fr_fX67_torn 5 v1)) fun _ => (fr_fX67_takeDirectory_J43 x1 v2 v3)))))))))
abbrev W_fX67_lengthAhead : List Nat := []
theorem fr_fX67_lengthAhead : zFr W_fX67_lengthAhead (fX67_lengthAhead) :=
  (fr_gf fun v1 => (fr_al fun v2 => (fr_gf fun v3 => (fr_al fun v4 => (fr_ret _)))))
abbrev W_fX67_makeRead : List Nat := [6800, 6801, 6802, 6803, 6804, 6805, 6806, 6807, 6808, 6809, 6810, 6811, 6812, 6814, 6816, 6817, 6912, 6924]
theorem fr_fX67_makeRead_J115 (x1 : Int) (x4 : Int) (x5 : Int) (s0 : Int) : zFr W_fX67_makeRead (fX67_makeRead_J115 x1 x4 x5 s0) :=
  (fr_al fun v8 => (fr_al fun v9 => (fr_cl (fr_mono (by decide) (fr_fX67_make v8 x4 v9 x5 s0)) fun v10 => (fr_as (by decide) (fr_al fun v11 => (fr_ret _))))))
theorem fr_fX67_makeRead_J71 (x1 : Int) (x4 : Int) (s0 : Int) : zFr W_fX67_makeRead (fX67_makeRead_J71 x1 x4 s0) :=
  (fr_al fun v6 => (fr_ite (fr_al fun v7 => (fr_ite (fr_fX67_makeRead_J115 x1 x4 s0 0) (fr_cl (fr_mono (by decide) fr_fX67_lengthAhead) fun v12 => (fr_fX67_makeRead_J115 x1 x4 s0 v12)))) (fr_gf fun v13 => (fr_al fun v14 => (fr_fX67_makeRead_J115 x1 x4 s0 v14)))))
theorem fr_fX67_makeRead_J24 (x1 : Int) (x2 : Int) (s0 : Int) : zFr W_fX67_makeRead (fX67_makeRead_J24 x1 x2 s0) :=
  (fr_al fun v3 => (fr_pf (by decide) (fr_al fun v4 => (fr_ite (fr_al fun v5 => (fr_fX67_makeRead_J71 x1 s0 v5)) (fr_gf fun v15 => (fr_al fun v16 => (fr_fX67_makeRead_J71 x1 s0 v16)))))))
theorem fr_fX67_makeRead (x1 : Int) (x2 : Int) : zFr W_fX67_makeRead (fX67_makeRead x1 x2) :=
  (fr_al fun v1 => (fr_ite (fr_al fun v2 => (fr_fX67_makeRead_J24 x1 x2 v2)) (fr_gf fun v17 => (fr_fX67_makeRead_J24 x1 x2 v17))))
abbrev W_fX67_takeNode : List Nat := [6800, 6801, 6802, 6803, 6804, 6805, 6806, 6807, 6808, 6809, 6810, 6811, 6812, 6813, 6814, 6815, 6816, 6817, 6818, 6819, 6912, 6913, 6914, 6915, 6916, 6917, 6918, 6919, 6920, 6921, 6922, 6923, 6924, 6927, 6928, 6929]
theorem fr_fX67_takeNode_J186 (x1 : Int) (x2 : Int) (x8 : Int) : zFr W_fX67_takeNode (fX67_takeNode_J186 x1 x2 x8) :=
  (fr_gf fun v11 => (fr_ite (fr_ret _) (fr_al fun v12 => (fr_cl (fr_mono (by decide) (fr_fX67_costOf v12 x8)) fun v13 => (fr_cl (fr_mono (by decide) (fr_fX67_charge x1 v13)) fun _ => (fr_ret _))))))
theorem fr_fX67_takeNode_J75 (x1 : Int) (x2 : Int) (x7 : Int) : zFr W_fX67_takeNode (fX67_takeNode_J75 x1 x2 x7) :=
  (fr_cl (fr_mono (by decide) (fr_fX67_takeItems 6 x7 (zi (18 * x7)))) fun _ => (fr_al fun v8 => (fr_ite (fr_al fun v9 => (fr_ite (fr_cl (fr_mono (by decide) (fr_fX67_takeLetters x2 x7)) fun _ => (fr_fX67_takeNode_J186 x1 x2 0)) (fr_cl (fr_mono (by decide) (fr_fX67_takeSegment x7)) fun v15 => (fr_fX67_takeNode_J186 x1 x2 v15)))) (fr_cl (fr_mono (by decide) (fr_fX67_takeDirectory x2)) fun _ => (fr_cl (fr_mono (by decide) (fr_fX67_takeItems 3 x7 (zi ((zi (18 * x7)) + 9)))) fun _ => (fr_cl (fr_mono (by decide) (fr_fX67_takeItems 3 x7 (zi (18 * x7)))) fun _ => (fr_cl (fr_mono (by decide) (fr_fX67_take 0 255)) fun v19 => (fr_as (by decide) (fr_al fun v20 => (fr_fX67_takeNode_J186 x1 x2 v20))))))))))
theorem fr_fX67_takeNode (x1 : Int) : zFr W_fX67_takeNode (fX67_takeNode x1) :=
  (fr_cl (fr_mono (by decide) (fr_fX67_takeHead x1)) fun v1 => (fr_cl (fr_mono (by decide) (fr_fX67_take 0 7)) fun v2 => (fr_cl (fr_mono (by decide) (fr_fX67_take v2 7)) fun v3 => (fr_cl (fr_mono (by decide) (fr_fX67_take v3 7)) fun v4 => (fr_gf fun v5 => (fr_gf fun v6 => (fr_ite (fr_fX67_takeNode_J75 x1 v1 (-1)) (fr_cl (fr_mono (by decide) (fr_fX67_makeRead v1 v5)) fun v21 => (fr_cl (fr_mono (by decide) (fr_fX67_setBrackets v21 v2 v3 v4)) fun _ => (fr_pf (by decide) (fr_fX67_takeNode_J75 x1 v1 v21)))))))))))
abbrev W_fX67_takeAll : List Nat := [6800, 6801, 6802, 6803, 6804, 6805, 6806, 6807, 6808, 6809, 6810, 6811, 6812, 6813, 6814, 6815, 6816, 6817, 6818, 6819, 6912, 6913, 6914, 6915, 6916, 6917, 6918, 6919, 6920, 6921, 6922, 6923, 6924, 6925, 6927, 6928, 6929]
theorem fr_fX67_takeAll_J244 : zFr W_fX67_takeAll (fX67_takeAll_J244) :=
  (fr_gf fun v10 => (fr_ite (fr_ret _) (fr_gf fun v11 => (fr_gf fun v12 => (fr_ite (fr_ret _) (fr_gf fun v13 => (fr_cl (fr_mono (by decide) (fr_fX67_torn 8 v13)) fun _ => (fr_ret _))))))))
theorem fr_fX67_takeAll_J183 : zFr W_fX67_takeAll (fX67_takeAll_J183) :=
  (fr_gf fun v3 => (fr_gf fun v4 => (fr_cl (fr_mono (by decide) (fr_fX67_take 0 255)) fun v5 => (fr_lt fun v6 => (fr_cl (fr_mono (by decide) (fr_fX67_take 0 255)) fun v7 => (fr_lt fun v8 => (fr_gf fun v9 => (fr_ite fr_fX67_takeAll_J244 (fr_ite fr_fX67_takeAll_J244 (fr_cl (fr_mono (by decide) (fr_fX67_torn 7 v4)) fun _ => fr_fX67_takeAll_J244))))))))))
theorem fr_fX67_takeAll_J165 {r110 : Int × Int → zX} (hr110 : ∀ s, zFr W_fX67_takeAll (r110 s)) (x2 : Int) (s0 : Int) : zFr W_fX67_takeAll (fX67_takeAll_J165 r110 x2 s0) :=
  (fr_ite (hr110 (x2, s0)) (fr_al fun v20 => (fr_as (by decide) (hr110 (x2, s0)))))
theorem fr_fX67_takeAll_J164 {r110 : Int × Int → zX} (hr110 : ∀ s, zFr W_fX67_takeAll (r110 s)) (x2 : Int) : zFr W_fX67_takeAll (fX67_takeAll_J164 r110 x2) :=
  (fr_fX67_takeAll_J165 hr110 x2 0)
theorem fr_fX67_takeAll_J149 {r110 : Int × Int → zX} (hr110 : ∀ s, zFr W_fX67_takeAll (r110 s)) (x2 : Int) : zFr W_fX67_takeAll (fX67_takeAll_J149 r110 x2) :=
  (fr_gf fun v19 => (fr_ite (fr_fX67_takeAll_J164 hr110 x2) (fr_ite (fr_fX67_takeAll_J164 hr110 x2) (fr_fX67_takeAll_J165 hr110 x2 1))))
theorem fr_fX67_takeAll_B126 {r110 : Int × Int → zX} (hr110 : ∀ s, zFr W_fX67_takeAll (r110 s)) : ∀ r126 : Int → zX, (∀ s, zFr W_fX67_takeAll (r126 s)) → ∀ s, zFr W_fX67_takeAll (fX67_takeAll_B126 r110 r126 s) := by
  intro r126 hr126 x2
  unfold fX67_takeAll_B126
  exact (fr_ite (fr_fX67_takeAll_J149 hr110 x2) (fr_al fun v21 => (fr_ite (fr_fX67_takeAll_J149 hr110 x2) (fr_al fun v22 => (hr126 v22)))))
theorem fr_fX67_takeAll_B110 : ∀ r110 : Int × Int → zX, (∀ s, zFr W_fX67_takeAll (r110 s)) → ∀ s, zFr W_fX67_takeAll (fX67_takeAll_B110 r110 s) := by
  intro r110 hr110 s
  obtain ⟨x2, x3⟩ := s
  unfold fX67_takeAll_B110
  exact (fr_ite fr_fX67_takeAll_J183 (fr_cl (fr_mono (by decide) (fr_fX67_takeNode x2)) fun _ => (fr_gf fun v17 => (fr_lt fun v18 => (fr_lp (fr_fX67_takeAll_B126 hr110) zBIG v18)))))
theorem fr_fX67_takeAll_J109 (x2 : Int) (s0 : Int) : zFr W_fX67_takeAll (fX67_takeAll_J109 x2 s0) :=
  (fr_lp fr_fX67_takeAll_B110 zBIG (x2, s0))
theorem fr_fX67_takeAll_J95 : zFr W_fX67_takeAll (fX67_takeAll_J95) :=
  (fr_gf fun v2 => (fr_ite (fr_fX67_takeAll_J109 (-1) 0) (fr_fX67_takeAll_J109 (-1) 1)))
theorem fr_fX67_takeAll_J89 {r27 : Int → zX} (hr27 : ∀ s, zFr W_fX67_takeAll (r27 s)) (x2 : Int) : zFr W_fX67_takeAll (fX67_takeAll_J89 r27 x2) :=
  (fr_lt fun v26 => (hr27 v26))
theorem fr_fX67_takeAll_J59 {r27 : Int → zX} (hr27 : ∀ s, zFr W_fX67_takeAll (r27 s)) (x2 : Int) (s0 : Int) : zFr W_fX67_takeAll (fX67_takeAll_J59 r27 x2 s0) :=
  (fr_cl (fr_mono (by decide) (fr_fX67_take 0 255)) fun v24 => (fr_gf fun v25 => (fr_ite (fr_fX67_takeAll_J89 hr27 x2) (fr_ite (fr_fX67_takeAll_J89 hr27 x2) (fr_cl (fr_mono (by decide) (fr_fX67_torn 2 x2)) fun _ => (fr_fX67_takeAll_J89 hr27 x2))))))
theorem fr_fX67_takeAll_B27 : ∀ r27 : Int → zX, (∀ s, zFr W_fX67_takeAll (r27 s)) → ∀ s, zFr W_fX67_takeAll (fX67_takeAll_B27 r27 s) := by
  intro r27 hr27 x2
  unfold fX67_takeAll_B27
  exact (fr_ite fr_fX67_takeAll_J95 (fr_gf fun v23 => (fr_ite fr_fX67_takeAll_J95 (fr_ite (fr_ite (fr_fX67_takeAll_J59 hr27 x2 1) (fr_fX67_takeAll_J59 hr27 x2 72)) (fr_fX67_takeAll_J59 hr27 x2 82)))))
theorem fr_fX67_takeAll (x1 : Int) : zFr W_fX67_takeAll (fX67_takeAll x1) :=
  (fr_pb (by decide) (fr_pf (by decide) (fr_pf (by decide) (fr_pf (by decide) (fr_pf (by decide) (fr_lp fr_fX67_takeAll_B27 zBIG 0))))))
abbrev W_fX67_hasRoomFor : List Nat := []
theorem fr_fX67_hasRoomFor_J85 {r38 : Int × Int → zX} (hr38 : ∀ s, zFr W_fX67_hasRoomFor (r38 s)) (x4 : Int) (s0 : Int) : zFr W_fX67_hasRoomFor (fX67_hasRoomFor_J85 r38 x4 s0) :=
  (fr_lt fun v6 => (hr38 (s0, v6)))
theorem fr_fX67_hasRoomFor_J84 {r38 : Int × Int → zX} (hr38 : ∀ s, zFr W_fX67_hasRoomFor (r38 s)) (x4 : Int) : zFr W_fX67_hasRoomFor (fX67_hasRoomFor_J84 r38 x4) :=
  (fr_fX67_hasRoomFor_J85 hr38 x4 0)
theorem fr_fX67_hasRoomFor_J80 {r38 : Int × Int → zX} (hr38 : ∀ s, zFr W_fX67_hasRoomFor (r38 s)) (x4 : Int) : zFr W_fX67_hasRoomFor (fX67_hasRoomFor_J80 r38 x4) :=
  (fr_fX67_hasRoomFor_J85 hr38 x4 1)
theorem fr_fX67_hasRoomFor_B38 : ∀ r38 : Int × Int → zX, (∀ s, zFr W_fX67_hasRoomFor (r38 s)) → ∀ s, zFr W_fX67_hasRoomFor (fX67_hasRoomFor_B38 r38 s) := by
  intro r38 hr38 s
  obtain ⟨x3, x4⟩ := s
  unfold fX67_hasRoomFor_B38
  exact (fr_gf fun v5 => (fr_ite (fr_rb _) (fr_ite (fr_fX67_hasRoomFor_J84 hr38 x4) (fr_al fun v7 => (fr_ite (fr_fX67_hasRoomFor_J80 hr38 x4) (fr_al fun v8 => (fr_al fun v9 => (fr_ite (fr_fX67_hasRoomFor_J84 hr38 x4) (fr_fX67_hasRoomFor_J80 hr38 x4)))))))))
theorem fr_fX67_hasRoomFor_J34 (s0 : Int) : zFr W_fX67_hasRoomFor (fX67_hasRoomFor_J34 s0) :=
  (fr_lp fr_fX67_hasRoomFor_B38 zBIG (s0, 0))
theorem fr_fX67_hasRoomFor (x1 : Int) : zFr W_fX67_hasRoomFor (fX67_hasRoomFor x1) :=
  (fr_cl (fr_mono (by decide) (fr_fX67_account x1)) fun v1 => (fr_al fun v2 => (fr_gf fun v3 => (fr_al fun v4 => (fr_ite (fr_fX67_hasRoomFor_J34 0) (fr_fX67_hasRoomFor_J34 1))))))
abbrev W_fX67_reload : List Nat := [6800, 6801, 6802, 6803, 6804, 6805, 6806, 6807, 6808, 6809, 6810, 6811, 6812, 6813, 6814, 6815, 6816, 6817, 6818, 6819, 6869, 6912, 6913, 6914, 6915, 6916, 6917, 6918, 6919, 6920, 6921, 6922, 6923, 6924, 6925, 6926, 6927, 6928, 6929]
theorem fr_fX67_reload_J99 (x2 : Int) (s1 : Int) : zFr W_fX67_reload (fX67_reload_J99 x2 s1) :=
  (fr_pf (by decide) (fr_gf fun v7 => (fr_ite (fr_cl (fr_mono (by decide) (fr_fX67_takeAll 1)) fun _ => (fr_al fun v9 => (fr_as (by decide) (fr_al fun v10 => (fr_ret _))))) (fr_gf fun v11 => (fr_ret _)))))
theorem fr_fX67_reload_J83 (x2 : Int) : zFr W_fX67_reload (fX67_reload_J83 x2) :=
  (fr_gf fun v6 => (fr_ite (fr_fX67_reload_J99 x2 (-1)) (fr_gf fun v12 => (fr_fX67_reload_J99 x2 v12))))
theorem fr_fX67_reload_J66 (x2 : Int) (s0 : Int) : zFr W_fX67_reload (fX67_reload_J66 x2 s0) :=
  (fr_ite (fr_fX67_reload_J83 x2) (fr_gf fun v13 => (fr_cl (fr_mono (by decide) (fr_fX67_torn 6 v13)) fun _ => (fr_fX67_reload_J83 x2))))
theorem fr_fX67_reload_J61 (x2 : Int) : zFr W_fX67_reload (fX67_reload_J61 x2) :=
  (fr_fX67_reload_J66 x2 1)
theorem fr_fX67_reload (x1 : Int) (x2 : Int) : zFr W_fX67_reload (fX67_reload x1 x2) :=
  (fr_cl (fr_mono (by decide) (fr_fX67_isOf x1 1)) fun v1 => (fr_ite (fr_ret _) (fr_cl (fr_mono (by decide) (fr_fX67_isName x2)) fun v2 => (fr_ite (fr_cl (fr_mono (by decide) (fr_fX67_entryNamed x1 x2)) fun v3 => (fr_ite (fr_pf (by decide) (fr_pf (by decide) (fr_cl (fr_mono (by decide) (fr_fX67_takeAll 0)) fun _ => (fr_gf fun v5 => (fr_ite (fr_fX67_reload_J61 x2) (fr_cl (fr_mono (by decide) (fr_fX67_hasRoomFor x1)) fun v15 => (fr_ite (fr_fX67_reload_J66 x2 0) (fr_fX67_reload_J61 x2)))))))) (fr_ret _))) (fr_ret _)))))
abbrev W_fX67_count : List Nat := []
theorem fr_fX67_count_J65 {r42 : Int × Int → zX} (hr42 : ∀ s, zFr W_fX67_count (r42 s)) (x3 : Int) (s0 : Int) : zFr W_fX67_count (fX67_count_J65 r42 x3 s0) :=
  (fr_lt fun v3 => (hr42 (s0, v3)))
theorem fr_fX67_count_B42 : ∀ r42 : Int × Int → zX, (∀ s, zFr W_fX67_count (r42 s)) → ∀ s, zFr W_fX67_count (fX67_count_B42 r42 s) := by
  intro r42 hr42 s
  obtain ⟨x2, x3⟩ := s
  unfold fX67_count_B42
  exact (fr_ite (fr_ret _) (fr_al fun v2 => (fr_ite (fr_fX67_count_J65 hr42 x3 x2) (fr_fX67_count_J65 hr42 x3 (zi (x2 + 1))))))
theorem fr_fX67_count_J98 {r76 : Int × Int → zX} (hr76 : ∀ s, zFr W_fX67_count (r76 s)) (x3 : Int) (s0 : Int) : zFr W_fX67_count (fX67_count_J98 r76 x3 s0) :=
  (fr_lt fun v6 => (hr76 (s0, v6)))
theorem fr_fX67_count_B76 : ∀ r76 : Int × Int → zX, (∀ s, zFr W_fX67_count (r76 s)) → ∀ s, zFr W_fX67_count (fX67_count_B76 r76 s) := by
  intro r76 hr76 s
  obtain ⟨x2, x3⟩ := s
  unfold fX67_count_B76
  exact (fr_ite (fr_ret _) (fr_al fun v5 => (fr_ite (fr_fX67_count_J98 hr76 x3 x2) (fr_fX67_count_J98 hr76 x3 (zi (x2 + 1))))))
theorem fr_fX67_count (x1 : Int) : zFr W_fX67_count (fX67_count x1) :=
  (fr_ite (fr_lp fr_fX67_count_B42 zBIG (0, 0)) (fr_ite (fr_lp fr_fX67_count_B76 zBIG (0, 0)) (fr_ite (fr_gf fun v8 => (fr_ret _)) (fr_ite (fr_gf fun v10 => (fr_ret _)) (fr_ite (fr_gf fun v12 => (fr_ret _)) (fr_ite (fr_gf fun v14 => (fr_ret _)) (fr_ret _)))))))
