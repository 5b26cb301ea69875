set_option linter.unusedSimpArgs false
set_option linter.unusedVariables false
/-! one process changes, the others do not -/
def ysz (f : Nat) : Int := if f = 6827 ∨ f = 6841 ∨ f = 6849 ∨ f = 6850 ∨ f = 6855 ∨ f = 6856 ∨ f = 6857 ∨ f = 6858 ∨ f = 6859 then 4 else if f = 6828 ∨ f = 6829 ∨ f = 6830 ∨ f = 6847 then 8 else if f = 6837 ∨ f = 6839 then 512 else if f = 6838 ∨ f = 6852 ∨ f = 6853 ∨ f = 6854 then 32 else if f = 6851 then 16 else if f = 6861 then 256 else 1
abbrev yOA (p : Int) (f : Nat) (x : Int) : Prop := (f < 1000 ∧ x = p) ∨ (1000 ≤ f ∧ f < 1100 ∧ (x = p ∨ (8 + 4 * p ≤ x ∧ x < 12 + 4 * p))) ∨ (1100 ≤ f ∧ f < 1200 ∧ x = p) ∨ (1200 ≤ f ∧ 32 * p ≤ x ∧ x < 32 * p + 32)
abbrev yOB (p : Int) (f : Nat) (i : Int) : Prop := ysz f * p ≤ i ∧ i < ysz f * p + ysz f
theorem I_p1_fr {A A' B B' : zM} {q : Int} (hq : yPr q) (hA : ∀ f x i, f ∈ yPcA → yOA q f x → A' f x i = A f x i) (hB : ∀ f i, f ∈ yPcB → yOB q f i → B' f 0 i = B f 0 i) (tr : yTr A A') (rv : ∀ k, 8 ≤ k → k < 32 → A 1200 (32 * q + k) 0 ≤ A 207 0 0) (h : I_p1 A B q) : I_p1 A' B' q := by
  have a902 : ∀ i, A' 902 q i = A 902 q i := fun i => hA 902 q i (by decide) (by omega)
  have a903 : ∀ i, A' 903 q i = A 903 q i := fun i => hA 903 q i (by decide) (by omega)
  have a904 : ∀ i, A' 904 q i = A 904 q i := fun i => hA 904 q i (by decide) (by omega)
  have a905 : ∀ i, A' 905 q i = A 905 q i := fun i => hA 905 q i (by decide) (by omega)
  have a906 : ∀ i, A' 906 q i = A 906 q i := fun i => hA 906 q i (by decide) (by omega)
  have a907 : ∀ i, A' 907 q i = A 907 q i := fun i => hA 907 q i (by decide) (by omega)
  have a910 : ∀ i, A' 910 q i = A 910 q i := fun i => hA 910 q i (by decide) (by omega)
  have a911 : ∀ i, A' 911 q i = A 911 q i := fun i => hA 911 q i (by decide) (by omega)
  have a912 : ∀ i, A' 912 q i = A 912 q i := fun i => hA 912 q i (by decide) (by omega)
  have a913 : ∀ i, A' 913 q i = A 913 q i := fun i => hA 913 q i (by decide) (by omega)
  have a914 : ∀ i, A' 914 q i = A 914 q i := fun i => hA 914 q i (by decide) (by omega)
  have a915 : ∀ i, A' 915 q i = A 915 q i := fun i => hA 915 q i (by decide) (by omega)
  have a916 : ∀ i, A' 916 q i = A 916 q i := fun i => hA 916 q i (by decide) (by omega)
  have a918 : ∀ i, A' 918 q i = A 918 q i := fun i => hA 918 q i (by decide) (by omega)
  have a919 : ∀ i, A' 919 q i = A 919 q i := fun i => hA 919 q i (by decide) (by omega)
  have a920 : ∀ i, A' 920 q i = A 920 q i := fun i => hA 920 q i (by decide) (by omega)
  have a921 : ∀ i, A' 921 q i = A 921 q i := fun i => hA 921 q i (by decide) (by omega)
  have a922 : ∀ i, A' 922 q i = A 922 q i := fun i => hA 922 q i (by decide) (by omega)
  have a923 : ∀ i, A' 923 q i = A 923 q i := fun i => hA 923 q i (by decide) (by omega)
  have a924 : ∀ i, A' 924 q i = A 924 q i := fun i => hA 924 q i (by decide) (by omega)
  have a1100 : ∀ i, A' 1100 q i = A 1100 q i := fun i => hA 1100 q i (by decide) (by omega)
  have a1101 : ∀ i, A' 1101 q i = A 1101 q i := fun i => hA 1101 q i (by decide) (by omega)
  have a1102 : ∀ i, A' 1102 q i = A 1102 q i := fun i => hA 1102 q i (by decide) (by omega)
  have a1000 : ∀ x i, (x = q ∨ (8 + 4 * q ≤ x ∧ x < 12 + 4 * q)) → A' 1000 x i = A 1000 x i := fun x i e => hA 1000 x i (by decide) (by omega)
  have a1001 : ∀ x i, (x = q ∨ (8 + 4 * q ≤ x ∧ x < 12 + 4 * q)) → A' 1001 x i = A 1001 x i := fun x i e => hA 1001 x i (by decide) (by omega)
  have a1002 : ∀ x i, (x = q ∨ (8 + 4 * q ≤ x ∧ x < 12 + 4 * q)) → A' 1002 x i = A 1002 x i := fun x i e => hA 1002 x i (by decide) (by omega)
  have a1003 : ∀ x i, (x = q ∨ (8 + 4 * q ≤ x ∧ x < 12 + 4 * q)) → A' 1003 x i = A 1003 x i := fun x i e => hA 1003 x i (by decide) (by omega)
  have a1004 : ∀ x i, (x = q ∨ (8 + 4 * q ≤ x ∧ x < 12 + 4 * q)) → A' 1004 x i = A 1004 x i := fun x i e => hA 1004 x i (by decide) (by omega)
  have a1005 : ∀ x i, (x = q ∨ (8 + 4 * q ≤ x ∧ x < 12 + 4 * q)) → A' 1005 x i = A 1005 x i := fun x i e => hA 1005 x i (by decide) (by omega)
  have a1006 : ∀ x i, (x = q ∨ (8 + 4 * q ≤ x ∧ x < 12 + 4 * q)) → A' 1006 x i = A 1006 x i := fun x i e => hA 1006 x i (by decide) (by omega)
  have a1007 : ∀ x i, (x = q ∨ (8 + 4 * q ≤ x ∧ x < 12 + 4 * q)) → A' 1007 x i = A 1007 x i := fun x i e => hA 1007 x i (by decide) (by omega)
  have a1008 : ∀ x i, (x = q ∨ (8 + 4 * q ≤ x ∧ x < 12 + 4 * q)) → A' 1008 x i = A 1008 x i := fun x i e => hA 1008 x i (by decide) (by omega)
  have a1009 : ∀ x i, (x = q ∨ (8 + 4 * q ≤ x ∧ x < 12 + 4 * q)) → A' 1009 x i = A 1009 x i := fun x i e => hA 1009 x i (by decide) (by omega)
  have a1010 : ∀ x i, (x = q ∨ (8 + 4 * q ≤ x ∧ x < 12 + 4 * q)) → A' 1010 x i = A 1010 x i := fun x i e => hA 1010 x i (by decide) (by omega)
  have a1200 : ∀ k, 8 ≤ k → k < 32 → A' 1200 (32 * q + k) 0 = A 1200 (32 * q + k) 0 := fun k k0 k1 => hA 1200 _ 0 (by decide) (by omega)
  have a1201 : ∀ k, 8 ≤ k → k < 32 → A' 1201 (32 * q + k) 0 = A 1201 (32 * q + k) 0 := fun k k0 k1 => hA 1201 _ 0 (by decide) (by omega)
  have a1202 : ∀ k, 8 ≤ k → k < 32 → A' 1202 (32 * q + k) 0 = A 1202 (32 * q + k) 0 := fun k k0 k1 => hA 1202 _ 0 (by decide) (by omega)
  have a1203 : ∀ k, 8 ≤ k → k < 32 → A' 1203 (32 * q + k) 0 = A 1203 (32 * q + k) 0 := fun k k0 k1 => hA 1203 _ 0 (by decide) (by omega)
  have b6820 : B' 6820 0 q = B 6820 0 q := hB 6820 q (by decide) (by rw [yOB, show ysz 6820 = 1 by decide]; omega)
  have b6821 : B' 6821 0 q = B 6821 0 q := hB 6821 q (by decide) (by rw [yOB, show ysz 6821 = 1 by decide]; omega)
  have b6822 : B' 6822 0 q = B 6822 0 q := hB 6822 q (by decide) (by rw [yOB, show ysz 6822 = 1 by decide]; omega)
  have b6823 : B' 6823 0 q = B 6823 0 q := hB 6823 q (by decide) (by rw [yOB, show ysz 6823 = 1 by decide]; omega)
  have b6824 : B' 6824 0 q = B 6824 0 q := hB 6824 q (by decide) (by rw [yOB, show ysz 6824 = 1 by decide]; omega)
  have b6825 : B' 6825 0 q = B 6825 0 q := hB 6825 q (by decide) (by rw [yOB, show ysz 6825 = 1 by decide]; omega)
  have b6826 : B' 6826 0 q = B 6826 0 q := hB 6826 q (by decide) (by rw [yOB, show ysz 6826 = 1 by decide]; omega)
  have b6827 : ∀ i, 4 * q ≤ i → i < 4 * q + 4 → B' 6827 0 i = B 6827 0 i := fun i i0 i1 => hB 6827 i (by decide) (by rw [yOB, show ysz 6827 = 4 by decide]; omega)
  have b6828 : ∀ i, 8 * q ≤ i → i < 8 * q + 8 → B' 6828 0 i = B 6828 0 i := fun i i0 i1 => hB 6828 i (by decide) (by rw [yOB, show ysz 6828 = 8 by decide]; omega)
  have b6829 : ∀ i, 8 * q ≤ i → i < 8 * q + 8 → B' 6829 0 i = B 6829 0 i := fun i i0 i1 => hB 6829 i (by decide) (by rw [yOB, show ysz 6829 = 8 by decide]; omega)
  have b6830 : ∀ i, 8 * q ≤ i → i < 8 * q + 8 → B' 6830 0 i = B 6830 0 i := fun i i0 i1 => hB 6830 i (by decide) (by rw [yOB, show ysz 6830 = 8 by decide]; omega)
  have b6831 : B' 6831 0 q = B 6831 0 q := hB 6831 q (by decide) (by rw [yOB, show ysz 6831 = 1 by decide]; omega)
  have b6832 : B' 6832 0 q = B 6832 0 q := hB 6832 q (by decide) (by rw [yOB, show ysz 6832 = 1 by decide]; omega)
  have b6833 : B' 6833 0 q = B 6833 0 q := hB 6833 q (by decide) (by rw [yOB, show ysz 6833 = 1 by decide]; omega)
  have b6834 : B' 6834 0 q = B 6834 0 q := hB 6834 q (by decide) (by rw [yOB, show ysz 6834 = 1 by decide]; omega)
  have b6835 : B' 6835 0 q = B 6835 0 q := hB 6835 q (by decide) (by rw [yOB, show ysz 6835 = 1 by decide]; omega)
  have b6836 : B' 6836 0 q = B 6836 0 q := hB 6836 q (by decide) (by rw [yOB, show ysz 6836 = 1 by decide]; omega)
  have b6837 : ∀ i, 512 * q ≤ i → i < 512 * q + 512 → B' 6837 0 i = B 6837 0 i := fun i i0 i1 => hB 6837 i (by decide) (by rw [yOB, show ysz 6837 = 512 by decide]; omega)
  have b6838 : ∀ i, 32 * q ≤ i → i < 32 * q + 32 → B' 6838 0 i = B 6838 0 i := fun i i0 i1 => hB 6838 i (by decide) (by rw [yOB, show ysz 6838 = 32 by decide]; omega)
  have b6839 : ∀ i, 512 * q ≤ i → i < 512 * q + 512 → B' 6839 0 i = B 6839 0 i := fun i i0 i1 => hB 6839 i (by decide) (by rw [yOB, show ysz 6839 = 512 by decide]; omega)
  have b6840 : B' 6840 0 q = B 6840 0 q := hB 6840 q (by decide) (by rw [yOB, show ysz 6840 = 1 by decide]; omega)
  have b6841 : ∀ i, 4 * q ≤ i → i < 4 * q + 4 → B' 6841 0 i = B 6841 0 i := fun i i0 i1 => hB 6841 i (by decide) (by rw [yOB, show ysz 6841 = 4 by decide]; omega)
  have b6842 : B' 6842 0 q = B 6842 0 q := hB 6842 q (by decide) (by rw [yOB, show ysz 6842 = 1 by decide]; omega)
  have b6843 : B' 6843 0 q = B 6843 0 q := hB 6843 q (by decide) (by rw [yOB, show ysz 6843 = 1 by decide]; omega)
  have b6844 : B' 6844 0 q = B 6844 0 q := hB 6844 q (by decide) (by rw [yOB, show ysz 6844 = 1 by decide]; omega)
  have b6845 : B' 6845 0 q = B 6845 0 q := hB 6845 q (by decide) (by rw [yOB, show ysz 6845 = 1 by decide]; omega)
  have b6846 : B' 6846 0 q = B 6846 0 q := hB 6846 q (by decide) (by rw [yOB, show ysz 6846 = 1 by decide]; omega)
  have b6847 : ∀ i, 8 * q ≤ i → i < 8 * q + 8 → B' 6847 0 i = B 6847 0 i := fun i i0 i1 => hB 6847 i (by decide) (by rw [yOB, show ysz 6847 = 8 by decide]; omega)
  have b6848 : B' 6848 0 q = B 6848 0 q := hB 6848 q (by decide) (by rw [yOB, show ysz 6848 = 1 by decide]; omega)
  have b6849 : ∀ i, 4 * q ≤ i → i < 4 * q + 4 → B' 6849 0 i = B 6849 0 i := fun i i0 i1 => hB 6849 i (by decide) (by rw [yOB, show ysz 6849 = 4 by decide]; omega)
  have b6850 : ∀ i, 4 * q ≤ i → i < 4 * q + 4 → B' 6850 0 i = B 6850 0 i := fun i i0 i1 => hB 6850 i (by decide) (by rw [yOB, show ysz 6850 = 4 by decide]; omega)
  have b6851 : ∀ i, 16 * q ≤ i → i < 16 * q + 16 → B' 6851 0 i = B 6851 0 i := fun i i0 i1 => hB 6851 i (by decide) (by rw [yOB, show ysz 6851 = 16 by decide]; omega)
  have b6852 : ∀ i, 32 * q ≤ i → i < 32 * q + 32 → B' 6852 0 i = B 6852 0 i := fun i i0 i1 => hB 6852 i (by decide) (by rw [yOB, show ysz 6852 = 32 by decide]; omega)
  have b6853 : ∀ i, 32 * q ≤ i → i < 32 * q + 32 → B' 6853 0 i = B 6853 0 i := fun i i0 i1 => hB 6853 i (by decide) (by rw [yOB, show ysz 6853 = 32 by decide]; omega)
  have b6854 : ∀ i, 32 * q ≤ i → i < 32 * q + 32 → B' 6854 0 i = B 6854 0 i := fun i i0 i1 => hB 6854 i (by decide) (by rw [yOB, show ysz 6854 = 32 by decide]; omega)
  have b6855 : ∀ i, 4 * q ≤ i → i < 4 * q + 4 → B' 6855 0 i = B 6855 0 i := fun i i0 i1 => hB 6855 i (by decide) (by rw [yOB, show ysz 6855 = 4 by decide]; omega)
  have b6856 : ∀ i, 4 * q ≤ i → i < 4 * q + 4 → B' 6856 0 i = B 6856 0 i := fun i i0 i1 => hB 6856 i (by decide) (by rw [yOB, show ysz 6856 = 4 by decide]; omega)
  have b6857 : ∀ i, 4 * q ≤ i → i < 4 * q + 4 → B' 6857 0 i = B 6857 0 i := fun i i0 i1 => hB 6857 i (by decide) (by rw [yOB, show ysz 6857 = 4 by decide]; omega)
  have b6858 : ∀ i, 4 * q ≤ i → i < 4 * q + 4 → B' 6858 0 i = B 6858 0 i := fun i i0 i1 => hB 6858 i (by decide) (by rw [yOB, show ysz 6858 = 4 by decide]; omega)
  have b6859 : ∀ i, 4 * q ≤ i → i < 4 * q + 4 → B' 6859 0 i = B 6859 0 i := fun i i0 i1 => hB 6859 i (by decide) (by rw [yOB, show ysz 6859 = 4 by decide]; omega)
  have b6860 : B' 6860 0 q = B 6860 0 q := hB 6860 q (by decide) (by rw [yOB, show ysz 6860 = 1 by decide]; omega)
  have b6861 : ∀ i, 256 * q ≤ i → i < 256 * q + 256 → B' 6861 0 i = B 6861 0 i := fun i i0 i1 => hB 6861 i (by decide) (by rw [yOB, show ysz 6861 = 256 by decide]; omega)
  have b6862 : B' 6862 0 q = B 6862 0 q := hB 6862 q (by decide) (by rw [yOB, show ysz 6862 = 1 by decide]; omega)
  have lv : ∀ n, yLv A n → yLv A' n := fun n hn => ⟨hn.1, by rw [tr.k n hn]; exact hn.2⟩
  have tv := tr.v
  refine ⟨?_, ?_, ?_, ?_, ?_, ?_, ?_, ?_, ?_, ?_, ?_, ?_, ?_, ?_, ?_, ?_, ?_, ?_, ?_, ?_, ?_, ?_, ?_⟩
  · rw [b6821, a903]; exact h.st
  · rw [b6822, a904]; exact h.pe
  · rw [b6823, a905]; exact h.pj
  · rw [b6824, a906]; exact h.lb
  · rw [b6836, a907]; exact h.ti
  · refine ⟨?_, ?_, ?_, ?_, ?_, ?_, ?_, ?_, ?_, ?_, ?_⟩
    · rw [b6825, a1000 _ _ (by omega)]; exact h.rg.a
    · rw [b6826, a1001 _ _ (by omega)]; exact h.rg.q
    · intro j j0 j1; rw [b6827 _ (by omega) (by omega), a1002 _ _ (by omega)]; exact h.rg.x j j0 j1
    · intro j j0 j1; rw [b6828 _ (by omega) (by omega), a1003 _ _ (by omega)]; exact h.rg.pn j j0 j1
    · intro j j0 j1; rw [b6829 _ (by omega) (by omega), a1004 _ _ (by omega)]; exact h.rg.pp j j0 j1
    · intro j j0 j1; rw [b6830 _ (by omega) (by omega), a1005 _ _ (by omega)]; exact h.rg.pr j j0 j1
    · rw [b6831, a1006 _ _ (by omega)]; exact h.rg.nu
    · rw [b6832, a1007 _ _ (by omega)]; exact h.rg.pl
    · rw [b6833, a1008 _ _ (by omega)]; exact h.rg.ri
    · rw [b6834, a1009 _ _ (by omega)]; exact h.rg.ze
    · rw [b6835, a1010 _ _ (by omega)]; exact h.rg.mi
  · rw [b6848, a910]; exact h.fm
  · intro k k0 k1
    rw [a910] at k1
    have fm := h.fm
    have g := h.fr k k0 k1
    refine ⟨?_, ?_, ?_, ?_, ?_, ?_, ?_, ?_, ?_, ?_, ?_⟩
    · rw [b6849 _ (by omega) (by omega), a1000 _ _ (by omega)]; exact g.a
    · rw [b6850 _ (by omega) (by omega), a1001 _ _ (by omega)]; exact g.q
    · intro j j0 j1; rw [b6851 _ (by omega) (by omega), a1002 _ _ (by omega)]; exact g.x j j0 j1
    · intro j j0 j1; rw [b6852 _ (by omega) (by omega), a1003 _ _ (by omega)]; exact g.pn j j0 j1
    · intro j j0 j1; rw [b6853 _ (by omega) (by omega), a1004 _ _ (by omega)]; exact g.pp j j0 j1
    · intro j j0 j1; rw [b6854 _ (by omega) (by omega), a1005 _ _ (by omega)]; exact g.pr j j0 j1
    · rw [b6855 _ (by omega) (by omega), a1006 _ _ (by omega)]; exact g.nu
    · rw [b6856 _ (by omega) (by omega), a1007 _ _ (by omega)]; exact g.pl
    · rw [b6857 _ (by omega) (by omega), a1008 _ _ (by omega)]; exact g.ri
    · rw [b6858 _ (by omega) (by omega), a1009 _ _ (by omega)]; exact g.ze
    · rw [b6859 _ (by omega) (by omega), a1010 _ _ (by omega)]; exact g.mi
  · rw [b6842, a911]; exact h.hh
  · rw [a911, b6843, a912]; exact h.hn
  · rw [a911, b6844, a913]; exact h.hp
  · rw [a911, b6845, a914]; exact h.hr
  · intro i i0 i1; rw [b6837 _ (by omega) (by omega), a915]; exact h.sk i i0 i1
  · intro k k0 k1
    rw [b6838 _ (by omega) (by omega), a916]
    obtain ⟨u, v⟩ := h.kn k k0 k1
    refine ⟨u, v.elim Or.inl (fun w => Or.inr ⟨w.1, lv _ w.2.1, ?_⟩)⟩
    rw [tr.k _ w.2.1]; exact w.2.2
  · intro j k j0 j1 k0 k1; rw [a916, a916]; exact h.ki j k j0 j1 k0 k1
  · intro i i0 i1; rw [a918, a919, b6839 _ (by omega) (by omega)]; exact h.lk i i0 i1
  · rw [b6840, a920]
    have g2 := h.wk
    exact ⟨g2.1, lv _ g2.2.1, by rw [tr.k _ g2.2.1]; exact g2.2.2⟩
  · intro k k0 k1
    rw [b6841 _ (by omega) (by omega), a921]
    obtain ⟨u, v⟩ := h.se k k0 k1
    refine ⟨u, v.elim Or.inl (fun w => Or.inr ⟨lv _ w.1, ?_⟩)⟩
    rw [tr.k _ w.1]; exact w.2
  · rw [b6846, a924, a923]; exact h.me
  · intro i i0 i1
    rw [a924] at i1
    have := h.me
    rw [b6847 _ (by omega) (by omega), a922, a923]; exact h.mw i i0 i1
  · rw [b6860, a1101]; exact h.tm
  · rw [b6862, a1102]; exact h.ts
  · intro k k0 k1 kn ve
    rw [a916] at kn
    rw [a1200 k k0 k1] at ve
    have := rv k k0 k1
    have e : A' 207 0 0 = A 207 0 0 := by omega
    obtain ⟨u, v⟩ := h.kn k (by omega) k1
    rw [a1201 k k0 k1, a1202 k k0 k1, a1203 k k0 k1, a916, a904, a905, a906]
    rcases v with v | v
    · exact absurd v kn
    · obtain ⟨s1, s2⟩ := tr.s e _ v.2.1
      rw [s1, yof_fr s2]
      exact h.rr k k0 k1 kn (by omega)
/-- one process changes, and perhaps the tree -/
theorem I_p0_one {N N' : Int} {A A' B B' : zM} {p : Int} (hp : yPr p) (h : I_p0 N A B) (hN : N ≤ N') (tr : yTr A A') (hA : ∀ f x i, f ∈ yPcA → ¬ yOA p f x → A' f x i = A f x i) (hB : ∀ f i, f ∈ yPcB → ¬ yOB p f i → B' f 0 i = B f 0 i)
    (lv : B' 6820 0 p = A' 902 p 0 ∧ (A' 902 p 0 = 0 ∨ A' 902 p 0 = 1)) (trc : ∀ i, 0 ≤ i → i < 256 → B' 6861 0 (256 * p + i) = A' 1100 p i) (rv : ∀ k, 8 ≤ k → k < 32 → 0 ≤ A' 1200 (32 * p + k) 0 ∧ A' 1200 (32 * p + k) 0 ≤ A' 207 0 0) (p1 : A' 902 p 0 = 1 → I_p1 A' B' p) (bd : A' 902 p 0 = 1 → A' 907 p 0 ≤ N' ∧ A' 1101 p 0 ≤ 4 * N') : I_p0 N' A' B' := by
  have fa : ∀ q, yPr q → q ≠ p → ∀ f x i, f ∈ yPcA → yOA q f x → A' f x i = A f x i := by
    intro q hq e f x i hf ho
    exact hA f x i hf (by omega)
  have sz : ∀ f ∈ yPcB, ysz f = 1 ∨ ysz f = 4 ∨ ysz f = 8 ∨ ysz f = 512 ∨ ysz f = 32 ∨ ysz f = 16 ∨ ysz f = 256 := by decide
  have fb : ∀ q, yPr q → q ≠ p → ∀ f i, f ∈ yPcB → yOB q f i → B' f 0 i = B f 0 i := by
    intro q hq e f i hf ho
    refine hB f i hf ?_
    rw [yOB] at ho ⊢
    rcases sz f hf with z | z | z | z | z | z | z <;> rw [z] at ho ⊢ <;> omega
  have z1 : ysz 6820 = 1 := by decide
  have z2 : ysz 6861 = 256 := by decide
  refine ⟨?_, ?_, ?_, ?_, ?_⟩
  · intro q hq
    by_cases e : q = p
    · rw [e]; exact lv
    · rw [fa q hq e 902 q 0 (by decide) (by omega), fb q hq e 6820 q (by decide) (by rw [yOB, z1]; omega)]
      exact h.lv q hq
  · intro q i hq i0 i1
    by_cases e : q = p
    · rw [e]; exact trc i i0 i1
    · rw [fa q hq e 1100 q i (by decide) (by omega), fb q hq e 6861 _ (by decide) (by rw [yOB, z2]; omega)]
      exact h.tr q i hq i0 i1
  · intro q k hq k0 k1
    by_cases e : q = p
    · rw [e]; exact rv k k0 k1
    · have := h.rv q k hq k0 k1
      have tv := tr.v
      rw [fa q hq e 1200 _ 0 (by decide) (by omega)]
      omega
  · intro q hq hl
    by_cases e : q = p
    · rw [e] at hl ⊢; exact p1 hl
    · rw [fa q hq e 902 q 0 (by decide) (by omega)] at hl
      exact I_p1_fr hq (fa q hq e) (fb q hq e) tr (fun k k0 k1 => (h.rv q k hq k0 k1).2) (h.p1 q hq hl)
  · intro q hq hl
    by_cases e : q = p
    · rw [e] at hl ⊢; exact bd hl
    · rw [fa q hq e 902 q 0 (by decide) (by omega)] at hl
      rw [fa q hq e 907 q 0 (by decide) (by omega), fa q hq e 1101 q 0 (by decide) (by omega)]
      have := h.bd q hq hl
      omega
