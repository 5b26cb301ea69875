/-! both sides from one memory: a step of the law -/
/-- what the twin does behind the component is what it does from the start -/
theorem zlaw_step {X Y : zX} (hX : zLoc zSc X) (hY : zLoc zSt_ Y) {M A' B' : zM} {r r' : Int} (h1 : X M = some (r, A')) (h2 : Y M = some (r', B')) : Y A' = some (r', zmg A' B') := by
  have hA : ∀ c, ¬ zSc c → A' c = M c := by
    rcases hX M M (fun _ _ => rfl) with ⟨q, -⟩ | ⟨r1, A1, B1, e1, -, -, e4, -⟩
    · rw [h1] at q; cases q
    · rw [h1] at e1
      cases e1
      exact e4
  have hag : zAg zSt_ M A' := fun c hc => (hA c (by show ¬ c < 6800; have : 6800 ≤ c := hc; omega)).symm
  rcases hY M A' hag with ⟨q, -⟩ | ⟨r1, A1, B1, e1, e2, e3, -, e5⟩
  · rw [h2] at q; cases q
  · rw [h2] at e1
    cases e1
    rw [e2]
    congr 2
    funext c
    unfold zmg
    by_cases hc : c < 6800
    · rw [if_pos hc]
      exact e5 c (by show ¬ 6800 ≤ c; omega)
    · rw [if_neg hc]
      exact (e3 c (by show 6800 ≤ c; omega)).symm
