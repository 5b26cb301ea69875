/-! tools of the plain law: reads and writes with their bounds, sums, chains -/
theorem zrd_hit {M : zM} {f f' : Nat} {x i v x' i' : Int} (h : f' = f ∧ x' = x ∧ i' = i) : zup M f x i v f' x' i' = v := if_pos h
theorem zrd_miss {M : zM} {f f' : Nat} {x i v x' i' : Int} (h : ¬ (f' = f ∧ x' = x ∧ i' = i)) : zup M f x i v f' x' i' = M f' x' i' := if_neg h
theorem zal_in {f : Nat} {x i n : Int} {k : Int → zX} {M : zM} (h : 0 ≤ i ∧ i < n) : zal f x i n k M = k (M f x i) M := if_pos h
theorem zas_in {f : Nat} {x i n v : Int} {k : zX} {M : zM} (h : 0 ≤ i ∧ i < n) : zas f x i n v k M = k (zup M f x i v) := if_pos h
theorem zib_in {i n : Int} {k : zX} {M : zM} (h : 0 ≤ i ∧ i < n) : zib i n k M = k M := if_pos h
theorem znn_in {x : Int} {k : zX} {M : zM} (h : 0 ≤ x) : znn x k M = k M := if_pos h
theorem zne_in {x : Int} {k : zX} {M : zM} (h : ¬ x = 0) : zne x k M = k M := if_neg h
theorem zrb_in {v : Int} {M : zM} (h : v = 0 ∨ v = 1) : zrb v M = some (v, M) := if_pos h
theorem zpb_in {f : Nat} {x v : Int} {k : zX} {M : zM} (h : v = 0 ∨ v = 1) : zpb f x v k M = k (zup M f x 0 v) := if_pos h
theorem zitT {P : Prop} {h : Decidable P} {a b : zX} {M : zM} (q : P) : (@ite _ P h a b) M = a M := by rw [if_pos q]
theorem zitF {P : Prop} {h : Decidable P} {a b : zX} {M : zM} (q : ¬ P) : (@ite _ P h a b) M = b M := by rw [if_neg q]
/-- a range of a column is written -/
def zfil (M : zM) (f : Nat) (x lo hi : Int) (g : Int → Int) : zM := fun f' x' i' => if f' = f ∧ x' = x ∧ lo ≤ i' ∧ i' < hi then g i' else M f' x' i'
theorem zfil_hit {M : zM} {f f' : Nat} {x lo hi x' i' : Int} {g : Int → Int} (h : f' = f ∧ x' = x ∧ lo ≤ i' ∧ i' < hi) : zfil M f x lo hi g f' x' i' = g i' := if_pos h
theorem zfil_miss {M : zM} {f f' : Nat} {x lo hi x' i' : Int} {g : Int → Int} (h : ¬ (f' = f ∧ x' = x ∧ lo ≤ i' ∧ i' < hi)) : zfil M f x lo hi g f' x' i' = M f' x' i' := if_neg h
theorem zfil_nil {M : zM} {f : Nat} {x lo : Int} {g : Int → Int} : zfil M f x lo lo g = M := by
  funext f' x' i'
  exact zfil_miss (by omega)
theorem zfil_up {M : zM} {f : Nat} {x lo hi : Int} {g : Int → Int} (h : lo ≤ hi) : zup (zfil M f x lo hi g) f x hi (g hi) = zfil M f x lo (hi + 1) g := by
  funext f' x' i'
  unfold zup zfil
  by_cases h1 : f' = f ∧ x' = x ∧ i' = hi
  · obtain ⟨rfl, rfl, rfl⟩ := h1
    rw [if_pos ⟨rfl, rfl, rfl⟩, if_pos ⟨rfl, rfl, h, by omega⟩]
  · rw [if_neg h1]
    by_cases h2 : f' = f ∧ x' = x ∧ lo ≤ i' ∧ i' < hi
    · rw [if_pos h2, if_pos ⟨h2.1, h2.2.1, h2.2.2.1, by omega⟩]
    · rw [if_neg h2, if_neg]
      rintro ⟨a, b, c, d⟩
      by_cases e : i' = hi
      · exact h1 ⟨a, b, e⟩
      · exact h2 ⟨a, b, c, by omega⟩
/-! sums -/
def zsm (f : Int → Int) : Nat → Int
  | 0 => 0
  | n + 1 => zsm f n + f (n : Int)
theorem zsm_congr {f g : Int → Int} : ∀ (n : Nat), (∀ k : Int, 0 ≤ k → k < n → f k = g k) → zsm f n = zsm g n := by
  intro n
  induction n with
  | zero => intro _; rfl
  | succ n ih =>
    intro h
    show zsm f n + f n = zsm g n + g n
    rw [ih (fun k a b => h k a (by omega)), h n (by omega) (by omega)]
theorem zsm_upd {f g : Int → Int} {i : Int} : ∀ (n : Nat), 0 ≤ i → i < n → (∀ k : Int, 0 ≤ k → k < n → k ≠ i → g k = f k) → zsm g n = zsm f n + (g i - f i) := by
  intro n
  induction n with
  | zero => intro a b; omega
  | succ n ih =>
    intro a b h
    show zsm g n + g n = zsm f n + f n + (g i - f i)
    by_cases e : i = n
    · subst e
      rw [zsm_congr n (fun k p q => h k p (by omega) (by omega))]
      omega
    · rw [ih a (by omega) (fun k p q r => h k p (by omega) r), h n (by omega) (by omega) (by omega)]
      omega
theorem zsm_nn {f : Int → Int} : ∀ (n : Nat), (∀ k : Int, 0 ≤ k → k < n → 0 ≤ f k) → 0 ≤ zsm f n := by
  intro n
  induction n with
  | zero => intro _; exact Int.le_refl _
  | succ n ih =>
    intro h
    have a := ih (fun k p q => h k p (by omega))
    have b := h n (by omega) (by omega)
    show 0 ≤ zsm f n + f n
    omega
theorem zsm_le {f g : Int → Int} : ∀ (n : Nat), (∀ k : Int, 0 ≤ k → k < n → f k ≤ g k) → zsm f n ≤ zsm g n := by
  intro n
  induction n with
  | zero => intro _; exact Int.le_refl _
  | succ n ih =>
    intro h
    have a := ih (fun k p q => h k p (by omega))
    have b := h n (by omega) (by omega)
    show zsm f n + f n ≤ zsm g n + g n
    omega
theorem zsm_zero {f : Int → Int} (n : Nat) (h : ∀ k : Int, 0 ≤ k → k < n → f k = 0) : zsm f n = 0 := by
  have a : zsm f n = zsm (fun _ => 0) n := zsm_congr n h
  have b : ∀ m : Nat, zsm (fun _ => 0) m = 0 := by
    intro m
    induction m with
    | zero => rfl
    | succ m ih => show zsm _ m + 0 = 0; rw [ih]; rfl
  rw [a, b]
theorem zsm_add {f g : Int → Int} : ∀ (n : Nat), zsm (fun k => f k + g k) n = zsm f n + zsm g n := by
  intro n
  induction n with
  | zero => rfl
  | succ n ih =>
    show zsm (fun k => f k + g k) n + (f n + g n) = zsm f n + f n + (zsm g n + g n)
    rw [ih]
    omega
/-- sums of sums may be taken the other way round -/
theorem zsm_swap {f : Int → Int → Int} (m : Nat) : ∀ (n : Nat), zsm (fun a => zsm (fun b => f a b) m) n = zsm (fun b => zsm (fun a => f a b) n) m := by
  intro n
  induction n with
  | zero =>
    show (0 : Int) = _
    rw [zsm_zero]
    intro k _ _
    rfl
  | succ n ih =>
    show zsm (fun a => zsm (fun b => f a b) m) n + zsm (fun b => f n b) m = _
    rw [ih, ← zsm_add]
    rfl
/-- of one place alone -/
theorem zsm_one {c : Int} {i : Int} (n : Nat) (h : 0 ≤ i ∧ i < n) : zsm (fun a => if i = a then c else 0) n = c := by
  have a := zsm_upd (f := fun _ => 0) (g := fun a => if i = a then c else 0) (i := i) n h.1 h.2 (fun k _ _ q => if_neg (fun e => q e.symm))
  have b : zsm (fun _ => 0) n = 0 := zsm_zero n (fun _ _ _ => rfl)
  rw [a, b, if_pos rfl]
  omega
/-! chains: the member with the greatest key below a bound, or none -/
def zPv (S : Int → Prop) (key : Int → Int) (c r : Int) : Prop := (r = -1 ∧ ∀ m, S m → ¬ key m < c) ∨ (S r ∧ key r < c ∧ ∀ m, S m → key m < c → key m ≤ key r)
theorem zPv_mem {S : Int → Prop} {key : Int → Int} {c r : Int} (h : zPv S key c r) (q : r ≠ -1) : S r ∧ key r < c ∧ ∀ m, S m → key m < c → key m ≤ key r := by
  rcases h with h | h
  · exact absurd h.1 q
  · exact h
theorem zPv_none {S : Int → Prop} {key : Int → Int} {c : Int} (hS : ∀ m, S m → 0 ≤ m) (h : zPv S key c (-1)) : ∀ m, S m → ¬ key m < c := by
  rcases h with h | h
  · exact h.2
  · have := hS _ h.1; omega
theorem zPv_uni {S : Int → Prop} {key : Int → Int} {c r r' : Int} (hi : ∀ m n, S m → S n → key m = key n → m = n) (h : zPv S key c r) (h' : zPv S key c r') : r = r' := by
  rcases h with ⟨h1, h2⟩ | ⟨h1, h2, h3⟩
  · rcases h' with ⟨g1, g2⟩ | ⟨g1, g2, g3⟩
    · rw [h1, g1]
    · exact absurd g2 (h2 _ g1)
  · rcases h' with ⟨g1, g2⟩ | ⟨g1, g2, g3⟩
    · exact absurd h2 (g2 _ h1)
    · have a := h3 _ g1 g2
      have b := g3 _ h1 h2
      exact hi _ _ h1 g1 (by omega)
theorem zPv_congr {S S' : Int → Prop} {key key' : Int → Int} {c r : Int} (hS : ∀ m, S m ↔ S' m) (hk : ∀ m, S m → key m = key' m) (h : zPv S key c r) : zPv S' key' c r := by
  rcases h with ⟨h1, h2⟩ | ⟨h1, h2, h3⟩
  · refine Or.inl ⟨h1, fun m hm => ?_⟩
    have := h2 m ((hS m).2 hm)
    rw [← hk m ((hS m).2 hm)]
    exact this
  · refine Or.inr ⟨(hS r).1 h1, by rw [← hk r h1]; exact h2, fun m hm hc => ?_⟩
    have hm' := (hS m).2 hm
    rw [← hk m hm', ← hk r h1]
    exact h3 m hm' (by rw [hk m hm']; exact hc)
/-- one more with the greatest key -/
theorem zPv_top {S S' : Int → Prop} {key : Int → Int} {x : Int} (hS : ∀ m, S' m ↔ S m ∨ m = x) (hk : ∀ m, S m → key m < key x) : zPv S' key (key x + 1) x := by
  refine Or.inr ⟨(hS x).2 (Or.inr rfl), by omega, fun m hm _ => ?_⟩
  rcases (hS m).1 hm with a | a
  · have := hk m a; omega
  · rw [a]; omega
theorem zPv_under {S S' : Int → Prop} {key : Int → Int} {x c r : Int} (hS : ∀ m, S' m ↔ S m ∨ m = x) (hc : c ≤ key x) (h : zPv S key c r) : zPv S' key c r := by
  rcases h with ⟨h1, h2⟩ | ⟨h1, h2, h3⟩
  · refine Or.inl ⟨h1, fun m hm => ?_⟩
    rcases (hS m).1 hm with a | a
    · exact h2 m a
    · rw [a]; omega
  · refine Or.inr ⟨(hS r).2 (Or.inl h1), h2, fun m hm q => ?_⟩
    rcases (hS m).1 hm with a | a
    · exact h3 m a q
    · rw [a] at q; omega
/-- one more with the least key -/
theorem zPv_low {S S' : Int → Prop} {key : Int → Int} {x c r : Int} (hS : ∀ m, S' m ↔ S m ∨ m = x) (hk : ∀ m, S m → key x < key m) (hr : r ≠ -1) (h : zPv S key c r) : zPv S' key c r := by
  obtain ⟨h1, h2, h3⟩ := zPv_mem h hr
  refine Or.inr ⟨(hS r).2 (Or.inl h1), h2, fun m hm q => ?_⟩
  rcases (hS m).1 hm with a | a
  · exact h3 m a q
  · have := hk r h1; rw [a]; omega
theorem zPv_low0 {S S' : Int → Prop} {key : Int → Int} {x c : Int} (h0 : ∀ m, S m → 0 ≤ m) (hS : ∀ m, S' m ↔ S m ∨ m = x) (hc : key x < c) (h : zPv S key c (-1)) : zPv S' key c x := by
  have h2 := zPv_none h0 h
  refine Or.inr ⟨(hS x).2 (Or.inr rfl), hc, fun m hm q => ?_⟩
  rcases (hS m).1 hm with a | a
  · exact absurd q (h2 m a)
  · rw [a]; omega
/-- one goes -/
theorem zPv_del {S S' : Int → Prop} {key : Int → Int} {x c r : Int} (hS : ∀ m, S' m ↔ S m ∧ m ≠ x) (hr : r ≠ x) (h : zPv S key c r) : zPv S' key c r := by
  rcases h with ⟨h1, h2⟩ | ⟨h1, h2, h3⟩
  · exact Or.inl ⟨h1, fun m hm => h2 m ((hS m).1 hm).1⟩
  · exact Or.inr ⟨(hS r).2 ⟨h1, hr⟩, h2, fun m hm q => h3 m ((hS m).1 hm).1 q⟩
theorem zPv_delx {S S' : Int → Prop} {key : Int → Int} {x c r : Int} (h0 : ∀ m, S m → 0 ≤ m) (hi : ∀ m n, S m → S n → key m = key n → m = n) (hS : ∀ m, S' m ↔ S m ∧ m ≠ x) (h : zPv S key c x) (hx : 0 ≤ x) (hn : zPv S key (key x) r) : zPv S' key c r := by
  obtain ⟨a1, a2, a3⟩ := zPv_mem h (by omega)
  rcases hn with ⟨h1, h2⟩ | ⟨h1, h2, h3⟩
  · refine Or.inl ⟨h1, fun m hm q => ?_⟩
    obtain ⟨b1, b2⟩ := (hS m).1 hm
    have c1 := a3 m b1 q
    have c2 := h2 m b1
    exact b2 (hi m x b1 a1 (by omega))
  · refine Or.inr ⟨(hS r).2 ⟨h1, fun e => by rw [e] at h2; omega⟩, by omega, fun m hm q => ?_⟩
    obtain ⟨b1, b2⟩ := (hS m).1 hm
    have c1 := a3 m b1 q
    by_cases e : key m = key x
    · exact absurd (hi m x b1 a1 e) b2
    · exact h3 m b1 (by omega)
