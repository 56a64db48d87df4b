/-! ===== counting; things that hang together ===== -/
section COUNT
noncomputable def cnt (P : Nat → Prop) : Nat → Int
  | 0 => 0
  | n + 1 => cnt P n + @ite _ (P n) (Classical.propDecidable _) 1 0
theorem cnt_pos {P : Nat → Prop} {n : Nat} (h : P n) : cnt P (n + 1) = cnt P n + 1 := by rw [cnt, if_pos h]
theorem cnt_neg {P : Nat → Prop} {n : Nat} (h : ¬ P n) : cnt P (n + 1) = cnt P n := by rw [cnt, if_neg h, Int.add_zero]
theorem cnt_congr {P Q : Nat → Prop} : ∀ {n : Nat}, (∀ k, k < n → (P k ↔ Q k)) → cnt P n = cnt Q n := by
  intro n
  induction n with
  | zero => intro _; rfl
  | succ n ih =>
    intro h
    have e := ih fun k hk => h k (by omega)
    by_cases hp : P n
    · rw [cnt_pos hp, cnt_pos ((h n (by omega)).mp hp), e]
    · rw [cnt_neg hp, cnt_neg (fun q => hp ((h n (by omega)).mpr q)), e]
theorem cnt_rng {P : Nat → Prop} : ∀ {n : Nat}, 0 ≤ cnt P n ∧ cnt P n ≤ n := by
  intro n
  induction n with
  | zero => exact ⟨Int.le_refl _, Int.le_refl _⟩
  | succ n ih =>
    by_cases hp : P n
    · rw [cnt_pos hp]; omega
    · rw [cnt_neg hp]; omega
theorem cnt_remove {Q : Nat → Prop} {q : Nat} (hq : Q q) : ∀ {m : Nat}, q < m → cnt Q m = cnt (fun x => Q x ∧ x ≠ q) m + 1 := by
  intro m
  induction m with
  | zero => intro h; omega
  | succ m ih =>
    intro h
    by_cases e : q = m
    · subst e
      rw [cnt_pos hq, cnt_neg (fun z => z.2 rfl)]
      rw [cnt_congr (P := Q) (Q := fun x => Q x ∧ x ≠ q)]
      intro k hk
      exact ⟨fun z => ⟨z, by omega⟩, fun z => z.1⟩
    · have i := ih (by omega)
      by_cases hp : Q m
      · rw [cnt_pos hp, cnt_pos (P := fun x => Q x ∧ x ≠ q) ⟨hp, by omega⟩, i]
      · rw [cnt_neg hp, cnt_neg (fun z => hp z.1), i]
theorem cnt_inj : ∀ {n m : Nat} {P Q : Nat → Prop} (f : Nat → Nat), (∀ a, a < n → P a → f a < m ∧ Q (f a)) → (∀ a b, a < n → b < n → P a → P b → f a = f b → a = b) → cnt P n ≤ cnt Q m := by
  intro n
  induction n with
  | zero => intro m P Q f _ _; exact cnt_rng.1
  | succ n ih =>
    intro m P Q f hf inj
    by_cases hp : P n
    · obtain ⟨h1, h2⟩ := hf n (by omega) hp
      rw [cnt_pos hp, cnt_remove h2 h1]
      have := ih (m := m) (P := P) (Q := fun x => Q x ∧ x ≠ f n) f (fun a ha pa => by
        obtain ⟨g1, g2⟩ := hf a (by omega) pa
        exact ⟨g1, g2, fun e => by have := inj a n (by omega) (by omega) pa hp e; omega⟩) (fun a b ha hb => inj a b (by omega) (by omega))
      omega
    · rw [cnt_neg hp]
      exact ih f (fun a ha => hf a (by omega)) (fun a b ha hb => inj a b (by omega) (by omega))
-- what hangs together
def Conn (A : Nat → Nat → Prop) (a b : Nat) : Prop := ∀ S : Nat → Prop, S a → (∀ x y, S x → A x y → S y) → S b
theorem conn_refl {A : Nat → Nat → Prop} {a : Nat} : Conn A a a := fun _ h _ => h
theorem conn_tr {A : Nat → Nat → Prop} {a b c : Nat} (h1 : Conn A a b) (h2 : Conn A b c) : Conn A a c := fun S ha hs => h2 S (h1 S ha hs) hs
theorem conn_step {A : Nat → Nat → Prop} {a b c : Nat} (h1 : Conn A a b) (h2 : A b c) : Conn A a c := fun S ha hs => hs b c (h1 S ha hs) h2
theorem conn_one {A : Nat → Nat → Prop} {a b : Nat} (h2 : A a b) : Conn A a b := conn_step conn_refl h2
theorem conn_sym {A : Nat → Nat → Prop} (hA : ∀ x y, A x y → A y x) {a b : Nat} (h : Conn A a b) : Conn A b a :=
  h (fun x => Conn A x a) conn_refl fun x y hx hxy => conn_tr (conn_one (hA x y hxy)) hx
/-- a set that holds one and is closed holds all that hang together with it -/
theorem conn_closed {A : Nat → Nat → Prop} {a b : Nat} {S : Nat → Prop} (h : Conn A a b) (ha : S a) (hs : ∀ x y, S x → A x y → S y) : S b := h S ha hs
-- the first of those with a property
theorem first_of {P : Nat → Prop} : ∀ (n : Nat), P n → ∃ k, k ≤ n ∧ P k ∧ ∀ j, j < k → ¬ P j := by
  intro n
  induction n using Nat.strongRecOn with
  | ind n ih =>
    intro h
    by_cases e : ∃ j, j < n ∧ P j
    · obtain ⟨j, hj, pj⟩ := e
      obtain ⟨k, k1, k2, k3⟩ := ih j hj pj
      exact ⟨k, by omega, k2, k3⟩
    · exact ⟨n, Nat.le_refl _, h, fun j hj pj => e ⟨j, hj, pj⟩⟩
/-- two ways to choose one of each: as many -/
theorem cnt_reps {n m : Nat} {P Q : Nat → Prop} {R : Nat → Nat → Prop}
    (h1 : ∀ a, a < n → P a → ∃ b, b < m ∧ Q b ∧ R a b) (h2 : ∀ b, b < m → Q b → ∃ a, a < n ∧ P a ∧ R a b)
    (u1 : ∀ a a' b, a < n → a' < n → P a → P a' → R a b → R a' b → a = a') (u2 : ∀ a b b', b < m → b' < m → Q b → Q b' → R a b → R a b' → b = b') : cnt P n = cnt Q m := by
  apply Int.le_antisymm
  · refine cnt_inj (fun a => Classical.epsilon fun b => b < m ∧ Q b ∧ R a b) (fun a ha pa => ?_) (fun a a' ha ha' pa pa' e => ?_)
    · have s := Classical.epsilon_spec (p := fun b => b < m ∧ Q b ∧ R a b) (h1 a ha pa)
      exact ⟨s.1, s.2.1⟩
    · have s := Classical.epsilon_spec (p := fun b => b < m ∧ Q b ∧ R a b) (h1 a ha pa)
      have s' := Classical.epsilon_spec (p := fun b => b < m ∧ Q b ∧ R a' b) (h1 a' ha' pa')
      try dsimp only at e
      rw [← e] at s'
      exact u1 a a' _ ha ha' pa pa' s.2.2 s'.2.2
  · refine cnt_inj (fun b => Classical.epsilon fun a => a < n ∧ P a ∧ R a b) (fun b hb pb => ?_) (fun b b' hb hb' pb pb' e => ?_)
    · have s := Classical.epsilon_spec (p := fun a => a < n ∧ P a ∧ R a b) (h2 b hb pb)
      exact ⟨s.1, s.2.1⟩
    · have s := Classical.epsilon_spec (p := fun a => a < n ∧ P a ∧ R a b) (h2 b hb pb)
      have s' := Classical.epsilon_spec (p := fun a => a < n ∧ P a ∧ R a b') (h2 b' hb' pb')
      try dsimp only at e
      rw [← e] at s'
      exact u2 _ b b' hb hb' pb pb' s.2.2 s'.2.2
/-- a forest: who is above whom, how deep, and the top -/
def Forest (r : Nat) (A ρ δ : Nat → Nat) : Prop := ∀ k, k < r → A k < r ∧ ρ k < r ∧ ρ (A k) = ρ k ∧ A (ρ k) = ρ k ∧ (A k = k → ρ k = k) ∧ (A k ≠ k → δ (A k) < δ k)
theorem forest_root {r : Nat} {A ρ δ : Nat → Nat} (h : Forest r A ρ δ) {k : Nat} (hk : k < r) : ρ (ρ k) = ρ k := by
  obtain ⟨-, h2, -, h4, -, -⟩ := h k hk
  exact (h (ρ k) h2).2.2.2.2.1 h4
theorem forest_halve {r : Nat} {A ρ δ : Nat → Nat} (h : Forest r A ρ δ) {t : Nat} (ht : t < r) : Forest r (fun k => if k = t then A (A t) else A k) ρ δ := by
  intro k hk
  obtain ⟨a1, a2, a3, a4, a5, a6⟩ := h t ht
  obtain ⟨b1, b2, b3, b4, b5, b6⟩ := h (A t) a1
  by_cases e : k = t
  · subst e
    refine ⟨by simp only [if_pos]; exact b1, a2, by simp only [if_pos]; rw [b3, a3], ?_, ?_, ?_⟩
    · show (if ρ k = k then A (A k) else A (ρ k)) = ρ k
      by_cases g : ρ k = k
      · rw [if_pos g]
        rw [g] at a4
        rw [a4, a4, g]
      · rw [if_neg g]; exact a4
    · simp only [if_pos]
      intro q
      by_cases g : A k = k
      · exact a5 g
      · have d1 := a6 g
        have d2 : A (A k) ≠ A k := by rw [q]; exact fun z => g z.symm
        have d3 := b6 d2
        rw [q] at d3
        omega
    · simp only [if_pos]
      intro q
      by_cases g : A k = k
      · rw [g] at q; exact absurd g q
      · have d1 := a6 g
        by_cases g2 : A (A k) = A k
        · rw [g2]; exact d1
        · have := b6 g2; omega
  · obtain ⟨c1, c2, c3, c4, c5, c6⟩ := h k hk
    simp only [if_neg e]
    refine ⟨c1, c2, c3, ?_, c5, c6⟩
    by_cases g : ρ k = t
    · rw [if_pos g]
      have : A t = t := by rw [← g]; exact c4
      rw [this, this, g]
    · rw [if_neg g]; exact c4
theorem forest_join {r : Nat} {A ρ δ : Nat → Nat} (h : Forest r A ρ δ) {x y : Nat} (hx : x < r) (hy : y < r) (rx : ρ x = x) (ry : ρ y = y) (hne : x ≠ y) :
    Forest r (fun k => if k = y then x else A k) (fun k => if ρ k = y then x else ρ k) (fun k => if ρ k = y then δ k + δ x + 1 else δ k) := by
  intro k hk
  obtain ⟨c1, c2, c3, c4, c5, c6⟩ := h k hk
  have ax : A x = x := by have := (h x hx).2.2.2.1; rw [rx] at this; exact this
  have ay : A y = y := by have := (h y hy).2.2.2.1; rw [ry] at this; exact this
  by_cases e : k = y
  · subst e
    simp only [if_pos, ry]
    refine ⟨hx, hx, ?_, ?_, fun q => q, fun _ => ?_⟩
    · rw [rx, if_neg hne]
    · rw [if_neg hne]; exact ax
    · rw [rx, if_neg hne]; omega
  · simp only [if_neg e]
    refine ⟨c1, ?_, ?_, ?_, ?_, ?_⟩
    · by_cases g : ρ k = y
      · rw [if_pos g]; exact hx
      · rw [if_neg g]; exact c2
    · rw [c3]
    · by_cases g : ρ k = y
      · rw [if_pos g, if_neg hne]; exact ax
      · rw [if_neg g, if_neg g]; exact c4
    · intro q
      have := c5 q
      rw [this, if_neg e]
    · intro q
      have := c6 q
      rw [c3]
      by_cases g : ρ k = y
      · rw [if_pos g, if_pos g]; omega
      · rw [if_neg g, if_neg g]; exact this
end COUNT
