/-! small tests of both sides as plain ones -/
abbrev zdm (a b : Int) : Prop := b / 8 ≤ a / 8 ∧ zan (b % 8) (-1 - a) = 0
theorem p_dm0 (a b : Int) (M : zM) : fX0_dominates a b M = some (zbi (zdm a b), M) := by
  unfold fX0_dominates zbi zdm
  simp only [zit_ap, zret_ap, zrb_ap, zno_ap, znn_ap, zne_ap, zlt_ap, zgf_ap, zpf_ap, zpb_ap, zib_ap, zal_ap, zas_ap, zct_ap, zsc_ap, zhd_ap, zcl_ap]
  by_cases h1 : a / 8 < b / 8
  · rw [if_pos h1, if_neg (by omega)]
  · rw [if_neg h1]
    by_cases h2 : zan (b % 8) (-1 - a) = 0
    · rw [if_neg (by simpa using h2), if_pos ⟨by omega, h2⟩]
    · rw [if_pos h2, if_neg (fun q => h2 q.2)]
theorem zdm_tab : ∀ a : Fin 32, ∀ b : Fin 32, ((zan (a.val : Int) (b.val : Int)) % 8 = (b.val : Int) % 8) ↔ (zan ((b.val : Int) % 8) (-1 - (a.val : Int)) = 0) := by decide
theorem zdm_and {a b : Int} (ha : 0 ≤ a ∧ a < 32) (hb : 0 ≤ b ∧ b < 32) : ((zan a b) % 8 = b % 8) ↔ (zan (b % 8) (-1 - a) = 0) := by
  have h := zdm_tab ⟨a.toNat, by omega⟩ ⟨b.toNat, by omega⟩
  have e1 : ((a.toNat : Nat) : Int) = a := by omega
  have e2 : ((b.toNat : Nat) : Int) = b := by omega
  simp only [e1, e2] at h
  exact h
theorem p_dmT {a b : Int} (ha : 0 ≤ a ∧ a < 32) (hb : 0 ≤ b ∧ b < 32) (M : zM) : fX67_dominates a b M = some (zbi (zdm a b), M) := by
  have e1 : zi (Int.tdiv a 8) = a / 8 := by rw [Int.tdiv_eq_ediv_of_nonneg ha.1]; exact zi_of (by omega)
  have e2 : zi (Int.tdiv b 8) = b / 8 := by rw [Int.tdiv_eq_ediv_of_nonneg hb.1]; exact zi_of (by omega)
  unfold fX67_dominates zbi zdm
  simp only [zit_ap, zret_ap, zrb_ap, zno_ap, znn_ap, zne_ap, zlt_ap, zgf_ap, zpf_ap, zpb_ap, zib_ap, zal_ap, zas_ap, zct_ap, zsc_ap, zhd_ap, zcl_ap, e1, e2]
  have h := zdm_and ha hb
  by_cases h1 : a / 8 < b / 8
  · rw [if_pos h1, if_neg (by omega)]
  · rw [if_neg h1]
    by_cases h2 : zan (b % 8) (-1 - a) = 0
    · rw [if_neg (by simpa using h.2 h2), if_pos ⟨by omega, h2⟩]
    · rw [if_pos (fun q => h2 (h.1 q)), if_neg (fun q => h2 q.2)]
theorem p_lb0 (v : Int) (M : zM) : fX0_isLabel v M = some (zbi (0 ≤ v ∧ v ≤ 31), M) := by
  unfold fX0_isLabel
  simp only [zit_ap, zret_ap, zrb_ap, zno_ap, znn_ap, zne_ap, zlt_ap, zgf_ap, zpf_ap, zpb_ap, zib_ap, zal_ap, zas_ap, zct_ap, zsc_ap, zhd_ap, zcl_ap, p_in0]
  rw [if_pos (zbi_01 _)]
theorem p_rl0 (l o m : Int) (M : zM) : fX0_isRightLimit l o m M = some (zbi (zdm l o ∧ (if l = o then 0 else 1) ≤ m ∧ m ≤ 255), M) := by
  unfold fX0_isRightLimit fX0_isRightLimit_J20
  simp only [zit_ap, zret_ap, zrb_ap, zno_ap, znn_ap, zne_ap, zlt_ap, zgf_ap, zpf_ap, zpb_ap, zib_ap, zal_ap, zas_ap, zct_ap, zsc_ap, zhd_ap, zcl_ap, p_in0, p_dm0, zbi_eq0]
  by_cases h1 : zdm l o
  · rw [if_neg (by simpa using h1)]
    by_cases h2 : l = o
    · rw [if_neg (by simpa using h2)]
      by_cases h3 : 0 ≤ m ∧ m ≤ 255
      · rw [if_neg (by simpa using h3), zbi_pos (by rw [if_pos h2]; exact ⟨h1, h3⟩)]
      · rw [if_pos h3, zbi_neg (by rw [if_pos h2]; exact fun q => h3 q.2)]
    · rw [if_pos h2]
      by_cases h3 : 1 ≤ m ∧ m ≤ 255
      · rw [if_neg (by simpa using h3), zbi_pos (by rw [if_neg h2]; exact ⟨h1, h3⟩)]
      · rw [if_pos h3, zbi_neg (by rw [if_neg h2]; exact fun q => h3 q.2)]
  · rw [if_pos h1, zbi_neg (fun q => h1 q.1)]
theorem p_br0 (a b c : Int) (M : zM) : fX0_areBrackets a b c M = some (zbi (0 ≤ a ∧ a ≤ b ∧ b ≤ c ∧ c ≤ 7), M) := by
  unfold fX0_areBrackets zbi
  simp only [zit_ap, zret_ap, zrb_ap, zno_ap, znn_ap, zne_ap, zlt_ap, zgf_ap, zpf_ap, zpb_ap, zib_ap, zal_ap, zas_ap, zct_ap, zsc_ap, zhd_ap, zcl_ap]
  by_cases h1 : a < 0
  · rw [if_pos h1, if_neg (by omega)]
  · rw [if_neg h1]
    by_cases h2 : b < a
    · rw [if_pos h2, if_neg (by omega)]
    · rw [if_neg h2]
      by_cases h3 : c < b
      · rw [if_pos h3, if_neg (by omega)]
      · rw [if_neg h3]
        by_cases h4 : 7 < c
        · rw [if_pos h4, if_neg (by omega)]
        · rw [if_neg h4, if_pos (by omega)]
theorem p_brT {n : Int} (hn : 0 ≤ n ∧ n < 256) (a b c g : Int) (M : zM) : fX67_areBrackets n a b c g M = some (zbi ((0 ≤ a ∧ a ≤ b ∧ b ≤ c ∧ c ≤ 7) ∧ 0 ≤ g ∧ g ≤ if M 6800 0 n = 2 then 63 else 0), M) := by
  unfold fX67_areBrackets fX67_areBrackets_J57
  simp only [zit_ap, zret_ap, zrb_ap, zno_ap, znn_ap, zne_ap, zlt_ap, zgf_ap, zpf_ap, zpb_ap, zib_ap, zal_ap, zas_ap, zct_ap, zsc_ap, zhd_ap, zcl_ap, p_inT, zbi_eq0]
  by_cases h1 : 0 ≤ a ∧ a ≤ b
  · rw [if_neg (by simpa using h1)]
    by_cases h2 : 0 ≤ b ∧ b ≤ c
    · rw [if_neg (by simpa using h2)]
      by_cases h3 : 0 ≤ c ∧ c ≤ 7
      · rw [if_neg (by simpa using h3), if_pos hn]
        by_cases h4 : M 6800 0 n = 2
        · rw [if_neg (by simpa using h4)]
          by_cases h5 : 0 ≤ g ∧ g ≤ 63
          · rw [if_neg (by simpa using h5), zbi_pos (by rw [if_pos h4]; omega)]
          · rw [if_pos h5, zbi_neg (by rw [if_pos h4]; omega)]
        · rw [if_pos h4]
          by_cases h5 : 0 ≤ g ∧ g ≤ 0
          · rw [if_neg (by simpa using h5), zbi_pos (by rw [if_neg h4]; omega)]
          · rw [if_pos h5, zbi_neg (by rw [if_neg h4]; omega)]
      · rw [if_pos h3, zbi_neg (by omega)]
    · rw [if_pos h2, zbi_neg (by omega)]
  · rw [if_pos h1, zbi_neg (by omega)]
abbrev isIt (a b m : Int) : Prop := (0 ≤ a ∧ a ≤ 16) ∧ (0 ≤ b ∧ b ≤ 8) ∧ (0 ≤ m ∧ m ≤ 8)
theorem p_itT (a b m : Int) (M : zM) : fX67_isItem a b m M = some (zbi (isIt a b m), M) := by
  unfold fX67_isItem
  simp only [zit_ap, zret_ap, zrb_ap, zno_ap, znn_ap, zne_ap, zlt_ap, zgf_ap, zpf_ap, zpb_ap, zib_ap, zal_ap, zas_ap, zct_ap, zsc_ap, zhd_ap, zcl_ap, p_inT, zbi_eq0]
  by_cases h1 : 0 ≤ a ∧ a ≤ 16
  · rw [if_neg (by simpa using h1)]
    by_cases h2 : 0 ≤ b ∧ b ≤ 8
    · rw [if_neg (by simpa using h2)]
      by_cases h3 : 0 ≤ m ∧ m ≤ 8
      · rw [if_neg (by simpa using h3), zbi_pos ⟨h1, h2, h3⟩]
      · rw [if_pos h3, zbi_neg (fun q => h3 q.2.2)]
    · rw [if_pos h2, zbi_neg (fun q => h2 q.2.1)]
  · rw [if_pos h1, zbi_neg (fun q => h1 q.1)]
def zrec (n : Int) : Int := (n + 63) / 64
theorem p_rec {n : Int} (h : 0 ≤ n ∧ n ≤ 1024) (M : zM) : fX0_records n M = some (zrec n, M) := by
  have e : zi (Int.tdiv (zi ((zi (n + 64)) - 1)) 64) = zrec n := by
    rw [zi_of (x := n + 64) (by omega), zi_of (x := n + 64 - 1) (by omega), Int.tdiv_eq_ediv_of_nonneg (by omega)]
    unfold zrec
    rw [show n + 64 - 1 = n + 63 by omega]
    exact zi_of (by omega)
  unfold fX0_records
  simp only [zit_ap, zret_ap, zrb_ap, zno_ap, znn_ap, zne_ap, zlt_ap, zgf_ap, zpf_ap, zpb_ap, zib_ap, zal_ap, zas_ap, zct_ap, zsc_ap, zhd_ap, zcl_ap, e]
theorem zrec_rng {n : Int} (h : 0 ≤ n ∧ n ≤ 1024) : 0 ≤ zrec n ∧ zrec n ≤ 16 := by unfold zrec; omega
/-- what a node of a kind costs: by its length or limit -/
def zco (k s : Int) : Int := if k = 2 then 1 + zrec s else if k = 3 then 17 else 1 + s
theorem p_coT {k s : Int} (h : 0 ≤ s ∧ s ≤ 1024) (M : zM) : fX67_costOf k s M = some (zco k s, M) := by
  have e : zi (1 + (zi (Int.tdiv (zi (s + 63)) 64))) = 1 + zrec s := by
    rw [zi_of (x := s + 63) (by omega), Int.tdiv_eq_ediv_of_nonneg (by omega)]
    unfold zrec
    rw [zi_of (x := (s + 63) / 64) (by omega)]
    exact zi_of (by omega)
  have e2 : zi (1 + s) = 1 + s := zi_of (by omega)
  unfold fX67_costOf zco
  simp only [zit_ap, zret_ap, zrb_ap, zno_ap, znn_ap, zne_ap, zlt_ap, zgf_ap, zpf_ap, zpb_ap, zib_ap, zal_ap, zas_ap, zct_ap, zsc_ap, zhd_ap, zcl_ap, e, e2]
  by_cases h1 : k = 2
  · rw [if_neg (by simpa using h1), if_pos h1]
  · rw [if_pos h1, if_neg h1]
    by_cases h2 : k = 3
    · rw [if_neg (by simpa using h2), if_pos h2]
    · rw [if_pos h2, if_neg h2]
/-! nodes -/
theorem p_nd0 (n : Int) (M : zM) : fX1_node n M = some (if (0 ≤ n ∧ n ≤ 255) ∧ 0 < M 501 n 0 then n else -1, M) := by
  unfold fX1_node
  simp only [zit_ap, zret_ap, zrb_ap, zno_ap, znn_ap, zne_ap, zlt_ap, zgf_ap, zpf_ap, zpb_ap, zib_ap, zal_ap, zas_ap, zct_ap, zsc_ap, zhd_ap, zcl_ap, p_in0, zbi_eq0]
  by_cases h1 : 0 ≤ n ∧ n ≤ 255
  · rw [if_neg (by simpa using h1), if_pos (by omega)]
    by_cases h2 : M 501 n 0 ≤ 0
    · rw [if_pos h2, if_neg (by omega)]
    · rw [if_neg h2, if_pos (by omega), if_pos (by omega)]
  · rw [if_pos h1, if_neg (fun q => h1 q.1)]
theorem p_isd (n : Int) (M : zM) : fX4_isDirectory n M = some (zbi (M 501 n 0 = 1), M) := by
  unfold fX4_isDirectory zbi
  simp only [zit_ap, zret_ap, zrb_ap, zno_ap, znn_ap, zne_ap, zlt_ap, zgf_ap, zpf_ap, zpb_ap, zib_ap, zal_ap, zas_ap, zct_ap, zsc_ap, zhd_ap, zcl_ap]
  by_cases h : M 501 n 0 = 1
  · rw [if_neg (by simpa using h), if_pos h]
  · rw [if_pos h, if_neg h]
theorem p_iss (n : Int) (M : zM) : fX4_isSegment n M = some (zbi (M 501 n 0 = 2), M) := by
  unfold fX4_isSegment zbi
  simp only [zit_ap, zret_ap, zrb_ap, zno_ap, znn_ap, zne_ap, zlt_ap, zgf_ap, zpf_ap, zpb_ap, zib_ap, zal_ap, zas_ap, zct_ap, zsc_ap, zhd_ap, zcl_ap]
  by_cases h : M 501 n 0 = 2
  · rw [if_neg (by simpa using h), if_pos h]
  · rw [if_pos h, if_neg h]
theorem p_ism (n : Int) (M : zM) : fX4_isMailbox n M = some (zbi (M 501 n 0 = 3), M) := by
  unfold fX4_isMailbox zbi
  simp only [zit_ap, zret_ap, zrb_ap, zno_ap, znn_ap, zne_ap, zlt_ap, zgf_ap, zpf_ap, zpb_ap, zib_ap, zal_ap, zas_ap, zct_ap, zsc_ap, zhd_ap, zcl_ap]
  by_cases h : M 501 n 0 = 3
  · rw [if_neg (by simpa using h), if_pos h]
  · rw [if_pos h, if_neg h]
theorem p_dir0 (n : Int) (M : zM) : fX1_directory n M = some (if (0 ≤ n ∧ n ≤ 255) ∧ M 501 n 0 = 1 then n else -1, M) := by
  unfold fX1_directory
  simp only [zit_ap, zret_ap, zrb_ap, zno_ap, znn_ap, zne_ap, zlt_ap, zgf_ap, zpf_ap, zpb_ap, zib_ap, zal_ap, zas_ap, zct_ap, zsc_ap, zhd_ap, zcl_ap, p_nd0, p_isd, zbi_eq0]
  by_cases h1 : (0 ≤ n ∧ n ≤ 255) ∧ 0 < M 501 n 0
  · simp only [if_pos h1]
    rw [if_neg (by omega)]
    by_cases h2 : M 501 n 0 = 1
    · rw [if_neg (by simpa using h2), if_pos ⟨h1.1, h2⟩]
    · rw [if_pos h2, if_neg (fun q => h2 q.2)]
  · simp only [if_neg h1]
    rw [if_pos (by omega), if_neg (fun q => h1 ⟨q.1, by omega⟩)]
theorem p_seg0 (n : Int) (M : zM) : fX1_segment n M = some (if (0 ≤ n ∧ n ≤ 255) ∧ M 501 n 0 = 2 then n else -1, M) := by
  unfold fX1_segment
  simp only [zit_ap, zret_ap, zrb_ap, zno_ap, znn_ap, zne_ap, zlt_ap, zgf_ap, zpf_ap, zpb_ap, zib_ap, zal_ap, zas_ap, zct_ap, zsc_ap, zhd_ap, zcl_ap, p_nd0, p_iss, zbi_eq0]
  by_cases h1 : (0 ≤ n ∧ n ≤ 255) ∧ 0 < M 501 n 0
  · simp only [if_pos h1]
    rw [if_neg (by omega)]
    by_cases h2 : M 501 n 0 = 2
    · rw [if_neg (by simpa using h2), if_pos ⟨h1.1, h2⟩]
    · rw [if_pos h2, if_neg (fun q => h2 q.2)]
  · simp only [if_neg h1]
    rw [if_pos (by omega), if_neg (fun q => h1 ⟨q.1, by omega⟩)]
theorem p_mbx0 (n : Int) (M : zM) : fX1_mailbox n M = some (if (0 ≤ n ∧ n ≤ 255) ∧ M 501 n 0 = 3 then n else -1, M) := by
  unfold fX1_mailbox
  simp only [zit_ap, zret_ap, zrb_ap, zno_ap, znn_ap, zne_ap, zlt_ap, zgf_ap, zpf_ap, zpb_ap, zib_ap, zal_ap, zas_ap, zct_ap, zsc_ap, zhd_ap, zcl_ap, p_nd0, p_ism, zbi_eq0]
  by_cases h1 : (0 ≤ n ∧ n ≤ 255) ∧ 0 < M 501 n 0
  · simp only [if_pos h1]
    rw [if_neg (by omega)]
    by_cases h2 : M 501 n 0 = 3
    · rw [if_neg (by simpa using h2), if_pos ⟨h1.1, h2⟩]
    · rw [if_pos h2, if_neg (fun q => h2 q.2)]
  · simp only [if_neg h1]
    rw [if_pos (by omega), if_neg (fun q => h1 ⟨q.1, by omega⟩)]
theorem p_ndT (n : Int) (M : zM) : fX67_isNode n M = some (zbi ((0 ≤ n ∧ n ≤ 255) ∧ 0 < M 6800 0 n), M) := by
  unfold fX67_isNode
  simp only [zit_ap, zret_ap, zrb_ap, zno_ap, znn_ap, zne_ap, zlt_ap, zgf_ap, zpf_ap, zpb_ap, zib_ap, zal_ap, zas_ap, zct_ap, zsc_ap, zhd_ap, zcl_ap, p_inT, zbi_eq0]
  by_cases h1 : 0 ≤ n ∧ n ≤ 255
  · rw [if_neg (by simpa using h1), if_pos (by omega)]
    by_cases h2 : M 6800 0 n ≤ 0
    · rw [if_pos h2, zbi_neg (by omega)]
    · rw [if_neg h2, zbi_pos (by omega)]
  · rw [if_pos h1, zbi_neg (fun q => h1 q.1)]
theorem p_ofT (n : Int) {k : Int} (hk : 0 < k) (M : zM) : fX67_isOf n k M = some (zbi ((0 ≤ n ∧ n ≤ 255) ∧ M 6800 0 n = k), M) := by
  unfold fX67_isOf
  simp only [zit_ap, zret_ap, zrb_ap, zno_ap, znn_ap, zne_ap, zlt_ap, zgf_ap, zpf_ap, zpb_ap, zib_ap, zal_ap, zas_ap, zct_ap, zsc_ap, zhd_ap, zcl_ap, p_ndT, zbi_eq0]
  by_cases h1 : (0 ≤ n ∧ n ≤ 255) ∧ 0 < M 6800 0 n
  · rw [if_neg (fun q => q h1), if_pos (by omega)]
    by_cases h2 : M 6800 0 n = k
    · rw [if_neg (by simpa using h2), zbi_pos ⟨h1.1, h2⟩]
    · rw [if_pos h2, zbi_neg (fun q => h2 q.2)]
  · rw [if_pos h1, zbi_neg (fun q => h1 ⟨q.1, by omega⟩)]
