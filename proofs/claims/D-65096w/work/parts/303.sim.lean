/-! both sides from one memory -/
def zmg (A B : zM) : zM := fun c => if c < 6800 then A c else B c
theorem zmg_self (M : zM) : zmg M M = M := by
  funext c
  unfold zmg
  split <;> rfl
/-- two loops that go side by side -/
theorem zsim_loop {σ τ : Type} {B1 : (σ → zX) → σ → zX} {B2 : (τ → zX) → τ → zX} (I : σ → τ → zM → zM → Nat → Prop) (Q : Option (Int × zM) → Option (Int × zM) → Prop)
    (step : ∀ (s : σ) (t : τ) (A B : zM) (n : Nat), I s t A B n → (∀ (f : σ → zX) (g : τ → zX), Q (B1 f s A) (B2 g t B)) ∨ ∃ (s' : σ) (t' : τ) (A' B' : zM) (n' : Nat), n' < n ∧ I s' t' A' B' n' ∧ (∀ f : σ → zX, B1 f s A = f s' A') ∧ ∀ g : τ → zX, B2 g t B = g t' B') :
    ∀ (n : Nat) (s : σ) (t : τ) (A B : zM) (f1 f2 : Nat), I s t A B n → n < f1 → n < f2 → Q (zlp B1 f1 s A) (zlp B2 f2 t B) := by
  intro n
  induction n using Nat.strongRecOn with
  | ind n ih =>
    intro s t A B f1 f2 hI h1 h2
    cases f1 with
    | zero => omega
    | succ f1 =>
      cases f2 with
      | zero => omega
      | succ f2 =>
        show Q (B1 (zlp B1 f1) s A) (B2 (zlp B2 f2) t B)
        rcases step s t A B n hI with h | ⟨s', t', A', B', n', hn, hI', e1, e2⟩
        · exact h _ _
        · rw [e1, e2]
          exact ih n' hn s' t' A' B' f1 f2 hI' (by omega) (by omega)
theorem zsim_big {σ τ : Type} {B1 : (σ → zX) → σ → zX} {B2 : (τ → zX) → τ → zX} (I : σ → τ → zM → zM → Nat → Prop) (Q : Option (Int × zM) → Option (Int × zM) → Prop)
    (step : ∀ (s : σ) (t : τ) (A B : zM) (n : Nat), I s t A B n → (∀ (f : σ → zX) (g : τ → zX), Q (B1 f s A) (B2 g t B)) ∨ ∃ (s' : σ) (t' : τ) (A' B' : zM) (n' : Nat), n' < n ∧ I s' t' A' B' n' ∧ (∀ f : σ → zX, B1 f s A = f s' A') ∧ ∀ g : τ → zX, B2 g t B = g t' B')
    {n : Nat} {s : σ} {t : τ} {A B : zM} (h : I s t A B n) (hn : n < 1000000) : Q (zlp B1 zBIG s A) (zlp B2 zBIG t B) := zsim_loop I Q step n s t A B zBIG zBIG h (by show n < 1048576; omega) (by show n < 1048576; omega)
