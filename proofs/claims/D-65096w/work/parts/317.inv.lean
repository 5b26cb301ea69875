/-! what ties the nodes of both sides -/
abbrev yLv (A : zM) (n : Int) : Prop := (0 ≤ n ∧ n < 256) ∧ 0 < A 501 n 0
abbrev yEn (A : zM) (d n : Int) : Prop := (0 < n ∧ n < 256) ∧ 0 < A 501 n 0 ∧ A 504 n 0 = d
def I_nd (A B : zM) : Prop :=
  (∀ n, 0 ≤ n → n < 256 → B 6800 0 n = A 501 n 0 ∧ 0 ≤ A 501 n 0 ∧ A 501 n 0 ≤ 3) ∧
  (∀ n, yLv A n → B 6801 0 n = A 502 n 0) ∧
  (∀ n, yLv A n → B 6802 0 n = A 504 n 0) ∧
  (∀ n, yLv A n → B 6803 0 n = A 503 n 0 ∧ 0 ≤ A 503 n 0 ∧ A 503 n 0 < 32) ∧
  (∀ n, yLv A n → B 6804 0 (3 * n) = A 509 n 0 ∧ B 6804 0 (3 * n + 1) = A 510 n 0 ∧ B 6804 0 (3 * n + 2) = A 511 n 0) ∧
  (∀ n, yLv A n → 0 ≤ A 509 n 0 ∧ A 509 n 0 ≤ A 510 n 0 ∧ A 510 n 0 ≤ A 511 n 0 ∧ A 511 n 0 ≤ 7) ∧
  (∀ n, yLv A n → B 6805 0 n = A 521 n 0 ∧ 0 ≤ A 521 n 0 ∧ A 521 n 0 ≤ (if A 501 n 0 = 2 then 63 else 0)) ∧
  (∀ n, yLv A n → B 6806 0 n = A 522 n 0 ∧ 0 ≤ A 522 n 0 ∧ A 522 n 0 ≤ (if A 501 n 0 = 2 then 1024 else 0)) ∧
  (∀ n, yLv A n → B 6807 0 n = A 516 n 0 ∧ 0 ≤ A 516 n 0 ∧ A 516 n 0 ≤ (if A 501 n 0 = 1 then 255 else 0)) ∧
  (∀ n, yLv A n → B 6808 0 n = A 517 n 0) ∧
  (∀ n, yLv A n → B 6809 0 n = A 512 n 0) ∧
  (A 501 0 0 = 1 ∧ A 504 0 0 = -1 ∧ A 516 0 0 = 255 ∧ B 6810 0 0 = 0) ∧
  (∀ n, yLv A n → n ≠ 0 → yLv A (A 504 n 0) ∧ A 501 (A 504 n 0) 0 = 1 ∧ B 6810 0 (A 504 n 0) < B 6810 0 n) ∧
  (∀ m n, yLv A m → yLv A n → B 6810 0 m = B 6810 0 n → m = n) ∧
  (∀ n, yLv A n → 0 ≤ B 6810 0 n ∧ B 6810 0 n ≤ B 6811 0 0) ∧
  (∀ n, yLv A n → n ≠ 0 → A 501 n 0 ≠ 1 → A 503 n 0 = A 503 (A 504 n 0) 0) ∧
  (∀ n, yLv A n → n ≠ 0 → isNm (A 502 n 0)) ∧
  (∀ m n, yLv A m → yLv A n → m ≠ 0 → n ≠ 0 → A 504 m 0 = A 504 n 0 → A 502 m 0 = A 502 n 0 → m = n)
theorem I_nd.k {A B : zM} (h : I_nd A B) : ∀ n, 0 ≤ n → n < 256 → B 6800 0 n = A 501 n 0 ∧ 0 ≤ A 501 n 0 ∧ A 501 n 0 ≤ 3 := h.1
theorem I_nd.nm {A B : zM} (h : I_nd A B) : ∀ n, yLv A n → B 6801 0 n = A 502 n 0 := h.2.1
theorem I_nd.pa {A B : zM} (h : I_nd A B) : ∀ n, yLv A n → B 6802 0 n = A 504 n 0 := h.2.2.1
theorem I_nd.lb {A B : zM} (h : I_nd A B) : ∀ n, yLv A n → B 6803 0 n = A 503 n 0 ∧ 0 ≤ A 503 n 0 ∧ A 503 n 0 < 32 := h.2.2.2.1
theorem I_nd.br {A B : zM} (h : I_nd A B) : ∀ n, yLv A n → B 6804 0 (3 * n) = A 509 n 0 ∧ B 6804 0 (3 * n + 1) = A 510 n 0 ∧ B 6804 0 (3 * n + 2) = A 511 n 0 := h.2.2.2.2.1
theorem I_nd.bo {A B : zM} (h : I_nd A B) : ∀ n, yLv A n → 0 ≤ A 509 n 0 ∧ A 509 n 0 ≤ A 510 n 0 ∧ A 510 n 0 ≤ A 511 n 0 ∧ A 511 n 0 ≤ 7 := h.2.2.2.2.2.1
theorem I_nd.ga {A B : zM} (h : I_nd A B) : ∀ n, yLv A n → B 6805 0 n = A 521 n 0 ∧ 0 ≤ A 521 n 0 ∧ A 521 n 0 ≤ (if A 501 n 0 = 2 then 63 else 0) := h.2.2.2.2.2.2.1
theorem I_nd.le {A B : zM} (h : I_nd A B) : ∀ n, yLv A n → B 6806 0 n = A 522 n 0 ∧ 0 ≤ A 522 n 0 ∧ A 522 n 0 ≤ (if A 501 n 0 = 2 then 1024 else 0) := h.2.2.2.2.2.2.2.1
theorem I_nd.li {A B : zM} (h : I_nd A B) : ∀ n, yLv A n → B 6807 0 n = A 516 n 0 ∧ 0 ≤ A 516 n 0 ∧ A 516 n 0 ≤ (if A 501 n 0 = 1 then 255 else 0) := h.2.2.2.2.2.2.2.2.1
theorem I_nd.us {A B : zM} (h : I_nd A B) : ∀ n, yLv A n → B 6808 0 n = A 517 n 0 := h.2.2.2.2.2.2.2.2.2.1
theorem I_nd.de {A B : zM} (h : I_nd A B) : ∀ n, yLv A n → B 6809 0 n = A 512 n 0 := h.2.2.2.2.2.2.2.2.2.2.1
theorem I_nd.rt {A B : zM} (h : I_nd A B) : A 501 0 0 = 1 ∧ A 504 0 0 = -1 ∧ A 516 0 0 = 255 ∧ B 6810 0 0 = 0 := h.2.2.2.2.2.2.2.2.2.2.2.1
theorem I_nd.pr {A B : zM} (h : I_nd A B) : ∀ n, yLv A n → n ≠ 0 → yLv A (A 504 n 0) ∧ A 501 (A 504 n 0) 0 = 1 ∧ B 6810 0 (A 504 n 0) < B 6810 0 n := h.2.2.2.2.2.2.2.2.2.2.2.2.1
theorem I_nd.ci {A B : zM} (h : I_nd A B) : ∀ m n, yLv A m → yLv A n → B 6810 0 m = B 6810 0 n → m = n := h.2.2.2.2.2.2.2.2.2.2.2.2.2.1
theorem I_nd.co {A B : zM} (h : I_nd A B) : ∀ n, yLv A n → 0 ≤ B 6810 0 n ∧ B 6810 0 n ≤ B 6811 0 0 := h.2.2.2.2.2.2.2.2.2.2.2.2.2.2.1
theorem I_nd.la {A B : zM} (h : I_nd A B) : ∀ n, yLv A n → n ≠ 0 → A 501 n 0 ≠ 1 → A 503 n 0 = A 503 (A 504 n 0) 0 := h.2.2.2.2.2.2.2.2.2.2.2.2.2.2.2.1
theorem I_nd.na {A B : zM} (h : I_nd A B) : ∀ n, yLv A n → n ≠ 0 → isNm (A 502 n 0) := h.2.2.2.2.2.2.2.2.2.2.2.2.2.2.2.2.1
theorem I_nd.un {A B : zM} (h : I_nd A B) : ∀ m n, yLv A m → yLv A n → m ≠ 0 → n ≠ 0 → A 504 m 0 = A 504 n 0 → A 502 m 0 = A 502 n 0 → m = n := h.2.2.2.2.2.2.2.2.2.2.2.2.2.2.2.2.2
/-! siblings in the order in which they came -/
def I_sb (A B : zM) : Prop :=
  (∀ d, yLv A d → A 501 d 0 = 1 → zPv (yEn A d) (fun m => - B 6810 0 m) 0 (A 513 d 0)) ∧
  (∀ d, yLv A d → A 501 d 0 = 1 → zPv (yEn A d) (fun m => B 6810 0 m) (B 6811 0 0 + 1) (A 514 d 0)) ∧
  (∀ n, yLv A n → n ≠ 0 → zPv (yEn A (A 504 n 0)) (fun m => - B 6810 0 m) (- B 6810 0 n) (A 506 n 0)) ∧
  (∀ n, yLv A n → n ≠ 0 → zPv (yEn A (A 504 n 0)) (fun m => B 6810 0 m) (B 6810 0 n) (A 505 n 0)) ∧
  (∀ d, yLv A d → A 515 d 0 = zsm (fun m => if yEn A d m then 1 else 0) 256)
theorem I_sb.fi {A B : zM} (h : I_sb A B) : ∀ d, yLv A d → A 501 d 0 = 1 → zPv (yEn A d) (fun m => - B 6810 0 m) 0 (A 513 d 0) := h.1
theorem I_sb.la {A B : zM} (h : I_sb A B) : ∀ d, yLv A d → A 501 d 0 = 1 → zPv (yEn A d) (fun m => B 6810 0 m) (B 6811 0 0 + 1) (A 514 d 0) := h.2.1
theorem I_sb.bh {A B : zM} (h : I_sb A B) : ∀ n, yLv A n → n ≠ 0 → zPv (yEn A (A 504 n 0)) (fun m => - B 6810 0 m) (- B 6810 0 n) (A 506 n 0) := h.2.2.1
theorem I_sb.bf {A B : zM} (h : I_sb A B) : ∀ n, yLv A n → n ≠ 0 → zPv (yEn A (A 504 n 0)) (fun m => B 6810 0 m) (B 6810 0 n) (A 505 n 0) := h.2.2.2.1
theorem I_sb.en {A B : zM} (h : I_sb A B) : ∀ d, yLv A d → A 515 d 0 = zsm (fun m => if yEn A d m then 1 else 0) 256 := h.2.2.2.2
/-! lists -/
def I_ls (A B : zM) : Prop :=
  (∀ n, yLv A n → I_al A B (3 * n) 6813 (18 * n) (B 6812 0 n)) ∧
  (∀ n, yLv A n → I_al A B (3 * n + 1) 6815 (9 * (2 * n + 1)) (B 6814 0 (2 * n + 1))) ∧
  (∀ n, yLv A n → I_al A B (3 * n + 2) 6815 (9 * (2 * n)) (B 6814 0 (2 * n)))
theorem I_ls.ac {A B : zM} (h : I_ls A B) : ∀ n, yLv A n → I_al A B (3 * n) 6813 (18 * n) (B 6812 0 n) := h.1
theorem I_ls.fs {A B : zM} (h : I_ls A B) : ∀ n, yLv A n → I_al A B (3 * n + 1) 6815 (9 * (2 * n + 1)) (B 6814 0 (2 * n + 1)) := h.2.1
theorem I_ls.fd {A B : zM} (h : I_ls A B) : ∀ n, yLv A n → I_al A B (3 * n + 2) 6815 (9 * (2 * n)) (B 6814 0 (2 * n)) := h.2.2
theorem p_free0_loop {A : zM} : ∀ (r : Nat) (i : Int) (fuel : Nat), 0 ≤ i → i + r < 256 → ¬ 0 < A 501 (i + r) 0 → (∀ k, i ≤ k → k < i + r → 0 < A 501 k 0) → r < fuel → zlp fX1_free_B2 fuel i A = some (i + r, A) := by
  intro r
  induction r with
  | zero =>
    intro i fuel hi hn hz _ hf
    obtain ⟨f, rfl⟩ : ∃ f, fuel = f + 1 := ⟨fuel - 1, by omega⟩
    show fX1_free_B2 (zlp _ f) i A = _
    have e : i + ((0 : Nat) : Int) = i := by omega
    rw [e] at hz ⊢
    unfold fX1_free_B2 fX1_free_J20
    rw [zib_in (by omega), zgf_ap, zitT (by omega), zib_in (by omega), zret_ap]
  | succ r ih =>
    intro i fuel hi hn hz hk hf
    obtain ⟨f, rfl⟩ : ∃ f, fuel = f + 1 := ⟨fuel - 1, by omega⟩
    show fX1_free_B2 (zlp fX1_free_B2 f) i A = _
    have h0 := hk i (by omega) (by omega)
    have e : i + ((r + 1 : Nat) : Int) = i + 1 + r := by omega
    rw [e] at hz hk ⊢
    have ihn := ih (i + 1) f (by omega) (by omega) hz (fun k a b => hk k (by omega) b) (by omega)
    rw [← ihn]
    generalize zlp fX1_free_B2 f = g
    unfold fX1_free_B2
    rw [zib_in (by omega), zgf_ap, zitF (by omega), zlt_ap, zi_of (by omega)]
