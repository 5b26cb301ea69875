/-! PLAIN LAW: how computations are worked out -/
theorem zret_ap (v : Int) (M : zM) : zret v M = some (v, M) := rfl
theorem zrb_ap (v : Int) (M : zM) : zrb v M = if v = 0 ∨ v = 1 then some (v, M) else none := rfl
theorem zno_ap (M : zM) : zno M = none := rfl
theorem znn_ap (x : Int) (k : zX) (M : zM) : znn x k M = if 0 ≤ x then k M else none := rfl
theorem zne_ap (x : Int) (k : zX) (M : zM) : zne x k M = if x = 0 then none else k M := rfl
theorem zlt_ap (x : Int) (k : Int → zX) (M : zM) : zlt x k M = k x M := rfl
theorem zgf_ap (f : Nat) (x : Int) (k : Int → zX) (M : zM) : zgf f x k M = k (M f x 0) M := rfl
theorem zpf_ap (f : Nat) (x v : Int) (k : zX) (M : zM) : zpf f x v k M = k (zup M f x 0 v) := rfl
theorem zpb_ap (f : Nat) (x v : Int) (k : zX) (M : zM) : zpb f x v k M = if v = 0 ∨ v = 1 then k (zup M f x 0 v) else none := rfl
theorem zib_ap (i n : Int) (k : zX) (M : zM) : zib i n k M = if 0 ≤ i ∧ i < n then k M else none := rfl
theorem zal_ap (f : Nat) (x i n : Int) (k : Int → zX) (M : zM) : zal f x i n k M = if 0 ≤ i ∧ i < n then k (M f x i) M else none := rfl
theorem zas_ap (f : Nat) (x i n v : Int) (k : zX) (M : zM) : zas f x i n v k M = if 0 ≤ i ∧ i < n then k (zup M f x i v) else none := rfl
theorem zct_ap (c : Nat) (i n : Int) (k : Int → zX) (M : zM) : zct c i n k M = if 0 ≤ i ∧ i < n then k (zctv c i) M else none := rfl
theorem zsc_ap (s i : Int) (k : Int → zX) (M : zM) : zsc s i k M = if 0 ≤ i ∧ i < zsn s then k (zsv s i) M else none := rfl
theorem zhd_ap (i : Int) (k : Int → zX) (M : zM) : zhd i k M = if 0 ≤ i ∧ i < 3 then k (zhv i) M else none := rfl
theorem zit_ap (P : Prop) (h : Decidable P) (a b : zX) (M : zM) : (@ite _ P h a b) M = @ite _ P h (a M) (b M) := by
  by_cases q : P
  · rw [if_pos q, if_pos q]
  · rw [if_neg q, if_neg q]
theorem zcl_some {c : zX} {M M' : zM} {r : Int} (h : c M = some (r, M')) (k : Int → zX) : zcl c k M = k r M' := by unfold zcl; rw [h]
theorem zcl_ap (c : zX) (k : Int → zX) (M : zM) : zcl c k M = match c M with | none => none | some r => k r.1 r.2 := rfl
theorem zup_ap (M : zM) (f : Nat) (x i v : Int) (f' : Nat) (x' i' : Int) : zup M f x i v f' x' i' = if f' = f ∧ x' = x ∧ i' = i then v else M f' x' i' := rfl
theorem zup_ne {M : zM} {f f' : Nat} {x i v x' i' : Int} (h : ¬ f' = f) : zup M f x i v f' x' i' = M f' x' i' := by simp [zup, h]
theorem zup_eq {M : zM} {f : Nat} {x i v : Int} : zup M f x i v f x i = v := by simp [zup]
/-- one column alone is written -/
theorem zup_col {M : zM} {f f' : Nat} {x i v : Int} (h : ¬ f' = f) : zup M f x i v f' = M f' := by
  funext x' i'
  exact zup_ne h
theorem zBIG_pos : zBIG = 1048575 + 1 := rfl
/-- a loop that goes from state to state until it goes on behind itself -/
theorem zlp_run {σ : Type} {B : (σ → zX) → σ → zX} (I : σ → zM → Nat → Prop) (Q : Option (Int × zM) → Prop)
    (step : ∀ (s : σ) (M : zM) (n : Nat), I s M n → (∀ f : σ → zX, Q (B f s M)) ∨ ∃ (s' : σ) (M' : zM) (n' : Nat), n' < n ∧ I s' M' n' ∧ ∀ f : σ → zX, B f s M = f s' M') :
    ∀ (n : Nat) (s : σ) (M : zM) (fuel : Nat), I s M n → n < fuel → Q (zlp B fuel s M) := by
  intro n
  induction n using Nat.strongRecOn with
  | ind n ih =>
    intro s M fuel hI hf
    cases fuel with
    | zero => omega
    | succ fuel =>
      show Q (B (zlp B fuel) s M)
      rcases step s M n hI with h | ⟨s', M', n', hn, hI', h⟩
      · exact h _
      · rw [h]
        exact ih n' hn s' M' fuel hI' (by omega)
theorem zlp_big {σ : Type} {B : (σ → zX) → σ → zX} (I : σ → zM → Nat → Prop) (Q : Option (Int × zM) → Prop)
    (step : ∀ (s : σ) (M : zM) (n : Nat), I s M n → (∀ f : σ → zX, Q (B f s M)) ∨ ∃ (s' : σ) (M' : zM) (n' : Nat), n' < n ∧ I s' M' n' ∧ ∀ f : σ → zX, B f s M = f s' M')
    {n : Nat} {s : σ} {M : zM} (h : I s M n) (hn : n < 1000000) : Q (zlp B zBIG s M) := zlp_run I Q step n s M zBIG h (by show n < 1048576; omega)
theorem zi_of {x : Int} (h : -2147483648 ≤ x ∧ x ≤ 2147483647) : zi x = x := by unfold zi; omega
theorem zl_of {x : Int} (h : -9223372036854775808 ≤ x ∧ x ≤ 9223372036854775807) : zl x = x := by unfold zl; omega
/-! words, names, labels: plain tests -/
def zbi (P : Prop) [Decidable P] : Int := if P then 1 else 0
theorem zbi_pos {P : Prop} [Decidable P] (h : P) : zbi P = 1 := if_pos h
theorem zbi_neg {P : Prop} [Decidable P] (h : ¬ P) : zbi P = 0 := if_neg h
theorem zbi_01 (P : Prop) [Decidable P] : zbi P = 0 ∨ zbi P = 1 := by unfold zbi; split <;> simp
theorem zbi_eq0 (P : Prop) [Decidable P] : (zbi P = 0) = ¬ P := by unfold zbi; split <;> simp_all
theorem zbi_eq1 (P : Prop) [Decidable P] : (zbi P = 1) = P := by unfold zbi; split <;> simp_all
theorem p_in0 (v lo hi : Int) (M : zM) : fX0_isIn v lo hi M = some (zbi (lo ≤ v ∧ v ≤ hi), M) := by
  unfold fX0_isIn zbi
  simp only [zit_ap, zret_ap, zrb_ap, zno_ap, znn_ap, zne_ap, zlt_ap, zgf_ap, zpf_ap, zpb_ap, zib_ap, zal_ap, zas_ap, zct_ap, zsc_ap, zhd_ap, zcl_ap]
  by_cases h1 : v < lo
  · rw [if_pos h1, if_neg (by omega)]
  · rw [if_neg h1]
    by_cases h2 : hi < v
    · rw [if_pos h2, if_neg (by omega)]
    · rw [if_neg h2, if_pos (by omega)]
theorem p_inT (v lo hi : Int) (M : zM) : fX67_in v lo hi M = some (zbi (lo ≤ v ∧ v ≤ hi), M) := by
  unfold fX67_in zbi
  simp only [zit_ap, zret_ap, zrb_ap, zno_ap, znn_ap, zne_ap, zlt_ap, zgf_ap, zpf_ap, zpb_ap, zib_ap, zal_ap, zas_ap, zct_ap, zsc_ap, zhd_ap, zcl_ap]
  by_cases h1 : v < lo
  · rw [if_pos h1, if_neg (by omega)]
  · rw [if_neg h1]
    by_cases h2 : hi < v
    · rw [if_pos h2, if_neg (by omega)]
    · rw [if_neg h2, if_pos (by omega)]
abbrev isWd (w : Int) : Prop := 0 ≤ w ∧ w ≤ 68719476735
theorem p_wd0 (w : Int) (M : zM) : fX0_isWord w M = some (zbi (0 ≤ w ∧ w ≤ 68719476735), M) := by
  unfold fX0_isWord zbi
  simp only [zit_ap, zret_ap, zrb_ap, zno_ap, znn_ap, zne_ap, zlt_ap, zgf_ap, zpf_ap, zpb_ap, zib_ap, zal_ap, zas_ap, zct_ap, zsc_ap, zhd_ap, zcl_ap]
  by_cases h1 : w < 0
  · rw [if_pos h1, if_neg (by omega)]
  · rw [if_neg h1]
    by_cases h2 : 68719476735 < w
    · rw [if_pos h2, if_neg (by omega)]
    · rw [if_neg h2, if_pos (by omega)]
theorem p_wdT (w : Int) (M : zM) : fX67_isWord w M = some (zbi (0 ≤ w ∧ w ≤ 68719476735), M) := by
  unfold fX67_isWord
  simp only [zit_ap, zret_ap, zrb_ap, zno_ap, znn_ap, zne_ap, zlt_ap, zgf_ap, zpf_ap, zpb_ap, zib_ap, zal_ap, zas_ap, zct_ap, zsc_ap, zhd_ap, zcl_ap, p_inT]
  rw [if_pos (zbi_01 _)]
/-! names -/
def zsg (w : Int) (j : Nat) : Int := w / 2 ^ (6 * j) % 64
def zgood (w : Int) : Bool → Nat → Bool
  | _, 0 => true
  | e, j + 1 => if zsg w j > 38 ∨ (e = true ∧ zsg w j > 0) then false else zgood w (decide (zsg w j = 0)) j
abbrev isNm (w : Int) : Prop := (0 ≤ w ∧ w ≤ 68719476735) ∧ w / 1073741824 > 0 ∧ zgood w false 6 = true
theorem zsg_rng (w : Int) (j : Nat) : 0 ≤ zsg w j ∧ zsg w j < 64 := by unfold zsg; omega
theorem zsg_at (w : Int) (j : Nat) : w / 2 ^ (((6 * (j : Int))) % 64).toNat % 64 = w / 2 ^ ((6 * j) % 64) % 64 := by
  have h : ((6 * (j : Int)) % 64).toNat = (6 * j) % 64 := by omega
  rw [h]
theorem p_nm0_loop (w : Int) (M : zM) : ∀ (j : Nat) (e fuel : Nat), j ≤ 6 → j < fuel → e ≤ 1 → zlp (fX0_isName_B23 w) fuel ((e : Int), 6 * (j : Int) - 6) M = some (zbi (zgood w (decide (e = 1)) j = true), M) := by
  intro j
  induction j with
  | zero =>
    intro e fuel _ hf _
    obtain ⟨f, rfl⟩ : ∃ f, fuel = f + 1 := ⟨fuel - 1, by omega⟩
    show fX0_isName_B23 w (zlp _ f) _ M = _
    unfold fX0_isName_B23
    simp only [zit_ap, zret_ap, zrb_ap, zno_ap, znn_ap, zne_ap, zlt_ap, zgf_ap, zpf_ap, zpb_ap, zib_ap, zal_ap, zas_ap, zct_ap, zsc_ap, zhd_ap, zcl_ap]
    rw [if_pos (by omega)]
    rfl
  | succ j ih =>
    intro e fuel hj hf he
    obtain ⟨f, rfl⟩ : ∃ f, fuel = f + 1 := ⟨fuel - 1, by omega⟩
    show fX0_isName_B23 w (zlp _ f) _ M = _
    have hs := zsg_rng w j
    have hk : (6 * ((j + 1 : Nat) : Int) - 6) = 6 * (j : Int) := by omega
    have hm : (6 * j) % 64 = 6 * j := by omega
    unfold fX0_isName_B23
    simp only [zit_ap, zret_ap, zrb_ap, zno_ap, znn_ap, zne_ap, zlt_ap, zgf_ap, zpf_ap, zpb_ap, zib_ap, zal_ap, zas_ap, zct_ap, zsc_ap, zhd_ap, zcl_ap, hk, zsg_at, hm]
    rw [if_neg (by omega)]
    have hz : zi (w / 2 ^ (6 * j) % 64) = zsg w j := zi_of (by unfold zsg at hs; omega)
    rw [hz]
    have hn : zi (6 * (j : Int) + (-6)) = 6 * (j : Int) - 6 := by unfold zi; omega
    by_cases h1 : 38 < zsg w j
    · rw [if_pos h1, zbi_neg]
      simp [zgood, h1]
    · rw [if_neg h1]
      unfold fX0_isName_J55 fX0_isName_J65
      simp only [zit_ap, zret_ap, zrb_ap, zno_ap, znn_ap, zne_ap, zlt_ap, zgf_ap, zpf_ap, zpb_ap, zib_ap, zal_ap, zas_ap, zct_ap, zsc_ap, zhd_ap, zcl_ap, hn]
      have hg : zgood w (decide (e = 1)) (j + 1) = if zsg w j > 38 ∨ (decide (e = 1) = true ∧ zsg w j > 0) then false else zgood w (decide (zsg w j = 0)) j := rfl
      have i0 := ih 0 f (by omega) (by omega) (by omega)
      have i1 := ih 1 f (by omega) (by omega) (by omega)
      simp only [Int.natCast_zero, Int.natCast_one] at i0 i1
      by_cases h3 : zsg w j = 0
      · have h4 : zgood w (decide (e = 1)) (j + 1) = zgood w true j := by rw [hg, if_neg (by omega)]; simp [h3]
        rw [h4]
        have i1 : zlp (fX0_isName_B23 w) f (1, 6 * (j : Int) - 6) M = some (zbi (zgood w true j = true), M) := i1
        by_cases h2 : (e : Int) = 0
        · rw [if_pos h2, if_neg (by omega)]; exact i1
        · rw [if_neg h2, if_pos (by omega), if_neg (by omega)]; exact i1
      · have i0 : zlp (fX0_isName_B23 w) f (0, 6 * (j : Int) - 6) M = some (zbi (zgood w false j = true), M) := i0
        by_cases h2 : (e : Int) = 0
        · have h4 : zgood w (decide (e = 1)) (j + 1) = zgood w false j := by rw [hg, if_neg (by simp; omega)]; simp [h3]
          rw [h4, if_pos h2, if_pos h3]; exact i0
        · have h4 : zgood w (decide (e = 1)) (j + 1) = false := by rw [hg, if_pos (by right; exact ⟨by simp; omega, by omega⟩)]
          rw [h4, if_neg h2, if_neg (by omega), zbi_neg (by simp)]
theorem p_nm0 (w : Int) (M : zM) : fX0_isName w M = some (zbi (isNm w), M) := by
  unfold fX0_isName
  simp only [zit_ap, zret_ap, zrb_ap, zno_ap, znn_ap, zne_ap, zlt_ap, zgf_ap, zpf_ap, zpb_ap, zib_ap, zal_ap, zas_ap, zct_ap, zsc_ap, zhd_ap, zcl_ap, p_wd0, zbi_eq0]
  by_cases h1 : 0 ≤ w ∧ w ≤ 68719476735
  · rw [if_neg (by simpa using h1)]
    by_cases h2 : w / 1073741824 = 0
    · rw [if_neg (by simpa using h2), zbi_neg]
      intro q
      have := q.2.1
      omega
    · rw [if_pos h2]
      have := p_nm0_loop w M 6 0 zBIG (by omega) (by decide) (by omega)
      simp only [Int.natCast_zero] at this
      rw [show (6 * ((6 : Nat) : Int) - 6) = 30 by decide] at this
      rw [this]
      have e : (zgood w (decide ((0 : Nat) = 1)) 6 = true) = isNm w := by
        apply propext
        constructor
        · intro q
          exact ⟨h1, by omega, q⟩
        · intro q
          exact q.2.2
      simp only [zbi, e]
  · rw [if_pos (by simpa using h1), zbi_neg]
    exact fun q => h1 q.1
