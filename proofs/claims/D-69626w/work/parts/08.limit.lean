/-! ===== runs have a limit: D, and its equation ===== -/
def Ct (f : Nat → Res) (g : Res) : Prop := ∀ x, g = some x → ∃ n, ∀ k, n ≤ k → f k = some x
theorem ct_c (r : Res) : Ct (fun _ => r) r := fun x h => ⟨0, fun _ _ => h⟩
theorem ct_n {f : Nat → Res} : Ct f none := fun x h => by cases h
theorem ct_ob {α : Type} (o : Option α) {K : Nat → α → Res} {L : α → Res} (h : ∀ x, Ct (fun k => K k x) (L x)) : Ct (fun k => ob o (K k)) (ob o L) := by
  cases o with
  | none => exact ct_n
  | some x => exact h x
theorem ct_on (o : Option Nat) {K : Nat → Nat → Res} {L : Nat → Res} {A : Nat → Res} {B : Res} (h : ∀ x, Ct (fun k => K k x) (L x)) (h2 : Ct A B) : Ct (fun k => on o (K k) (A k)) (on o L B) := by
  cases o with
  | none => exact h2
  | some x => exact h x
theorem ct_pI (st : List Value) {K : Nat → Int32 → List Value → Res} {L : Int32 → List Value → Res} (h : ∀ x r, Ct (fun k => K k x r) (L x r)) : Ct (fun k => pI st (K k)) (pI st L) := by
  rcases st with _ | ⟨v, r⟩
  · exact ct_n
  · cases v <;> first | exact h _ _ | exact ct_n
theorem ct_pJ (st : List Value) {K : Nat → Int64 → List Value → Res} {L : Int64 → List Value → Res} (h : ∀ x r, Ct (fun k => K k x r) (L x r)) : Ct (fun k => pJ st (K k)) (pJ st L) := by
  rcases st with _ | ⟨v, r⟩
  · exact ct_n
  · cases v <;> first | exact h _ _ | exact ct_n
theorem ct_pA (st : List Value) {K : Nat → Nat → List Value → Res} {L : Nat → List Value → Res} (h : ∀ x r, Ct (fun k => K k x r) (L x r)) : Ct (fun k => pA st (K k)) (pA st L) := by
  rcases st with _ | ⟨v, r⟩
  · exact ct_n
  · cases v <;> first | exact h _ _ | exact ct_n
theorem ct_pN (st : List Value) {K : Nat → Nat → List Value → Res} {L : Nat → List Value → Res} {A : Nat → List Value → Res} {B : List Value → Res} (h : ∀ x r, Ct (fun k => K k x r) (L x r)) (h2 : ∀ r, Ct (fun k => A k r) (B r)) : Ct (fun k => pN st (K k) (A k)) (pN st L B) := by
  rcases st with _ | ⟨v, r⟩
  · exact ct_n
  · cases v <;> first | exact h _ _ | exact h2 _ | exact ct_n
theorem ct_pII (st : List Value) {K : Nat → Int32 → Int32 → List Value → Res} {L : Int32 → Int32 → List Value → Res} (h : ∀ x y r, Ct (fun k => K k x y r) (L x y r)) : Ct (fun k => pII st (K k)) (pII st L) := by
  rcases st with _ | ⟨v, _ | ⟨w, r⟩⟩
  · exact ct_n
  · cases v <;> exact ct_n
  · cases v <;> cases w <;> first | exact h _ _ _ | exact ct_n
theorem ct_pJJ (st : List Value) {K : Nat → Int64 → Int64 → List Value → Res} {L : Int64 → Int64 → List Value → Res} (h : ∀ x y r, Ct (fun k => K k x y r) (L x y r)) : Ct (fun k => pJJ st (K k)) (pJJ st L) := by
  rcases st with _ | ⟨v, _ | ⟨w, r⟩⟩
  · exact ct_n
  · cases v <;> exact ct_n
  · cases v <;> cases w <;> first | exact h _ _ _ | exact ct_n
theorem ct_pJI (st : List Value) {K : Nat → Int64 → Int32 → List Value → Res} {L : Int64 → Int32 → List Value → Res} (h : ∀ x y r, Ct (fun k => K k x y r) (L x y r)) : Ct (fun k => pJI st (K k)) (pJI st L) := by
  rcases st with _ | ⟨v, _ | ⟨w, r⟩⟩
  · exact ct_n
  · cases v <;> exact ct_n
  · cases v <;> cases w <;> first | exact h _ _ _ | exact ct_n
theorem ct_pAA (st : List Value) {K : Nat → Nat → Nat → List Value → Res} {L : Nat → Nat → List Value → Res} (h : ∀ x y r, Ct (fun k => K k x y r) (L x y r)) : Ct (fun k => pAA st (K k)) (pAA st L) := by
  rcases st with _ | ⟨v, _ | ⟨w, r⟩⟩
  · exact ct_n
  · cases v <;> exact ct_n
  · cases v <;> cases w <;> first | exact h _ _ _ | exact ct_n
theorem ct_pV (st : List Value) {K : Nat → Value → List Value → Res} {L : Value → List Value → Res} (h : ∀ x r, Ct (fun k => K k x r) (L x r)) : Ct (fun k => pV st (K k)) (pV st L) := by
  rcases st with _ | ⟨v, r⟩
  · exact ct_n
  · exact h _ _
theorem ct_pVV (st : List Value) {K : Nat → Value → Value → List Value → Res} {L : Value → Value → List Value → Res} (h : ∀ x y r, Ct (fun k => K k x y r) (L x y r)) : Ct (fun k => pVV st (K k)) (pVV st L) := by
  rcases st with _ | ⟨v, _ | ⟨w, r⟩⟩
  · exact ct_n
  · exact ct_n
  · exact h _ _ _
theorem ct_bif (b : Bool) {A B : Nat → Res} {a c : Res} (h1 : Ct A a) (h2 : Ct B c) : Ct (fun k => bif b then A k else B k) (bif b then a else c) := by
  cases b
  · exact h2
  · exact h1
theorem ct_ite (q : Prop) {d : Decidable q} {A B : Nat → Res} {a c : Res} (h1 : Ct A a) (h2 : Ct B c) : Ct (fun k => if q then A k else B k) (if q then a else c) := by
  by_cases h : q
  · simp only [h, if_true]; exact h1
  · simp only [h, if_false]; exact h2
theorem ct_aft {R : Nat → Res} {r : Res} {G : Nat → Res → Res} {g : Res → Res} (hr : Ct R r) (h0 : ∀ x, g none = some x → False) (h : ∀ z, Ct (fun k => G k (some z)) (g (some z))) : Ct (fun k => G k (R k)) (g r) := by
  intro x hx
  cases r with
  | none => exact (h0 x hx).elim
  | some z =>
    obtain ⟨n1, q1⟩ := hr z rfl
    obtain ⟨n2, q2⟩ := h z x hx
    refine ⟨max n1 n2, fun k hk => ?_⟩
    have e1 : R k = some z := q1 k (by omega)
    simp only [e1]
    exact q2 k (by omega)
theorem ct_aV {R : Nat → Res} {r : Res} {K : Nat → St → Res} {L : St → Res} {A : Nat → Nat → St → Res} {B : Nat → St → Res} (hr : Ct R r) (h : ∀ σ, Ct (fun k => K k σ) (L σ)) (h2 : ∀ a σ, Ct (fun k => A k a σ) (B a σ)) : Ct (fun k => aV (R k) (K k) (A k)) (aV r L B) := by
  refine ct_aft (G := fun k z => aV z (K k) (A k)) (g := fun z => aV z L B) hr (fun x hx => by cases hx) ?_
  rintro ⟨(_ | v) | a, σ⟩
  · exact h σ
  · exact ct_n
  · exact h2 a σ
theorem ct_aI {R : Nat → Res} {r : Res} {K : Nat → Int32 → St → Res} {L : Int32 → St → Res} {A : Nat → Nat → St → Res} {B : Nat → St → Res} (hr : Ct R r) (h : ∀ x σ, Ct (fun k => K k x σ) (L x σ)) (h2 : ∀ a σ, Ct (fun k => A k a σ) (B a σ)) : Ct (fun k => aI (R k) (K k) (A k)) (aI r L B) := by
  refine ct_aft (G := fun k z => aI z (K k) (A k)) (g := fun z => aI z L B) hr (fun x hx => by cases hx) ?_
  rintro ⟨(_ | v) | a, σ⟩
  · exact ct_n
  · cases v <;> first | exact h _ σ | exact ct_n
  · exact h2 a σ
theorem ct_aJ {R : Nat → Res} {r : Res} {K : Nat → Int64 → St → Res} {L : Int64 → St → Res} {A : Nat → Nat → St → Res} {B : Nat → St → Res} (hr : Ct R r) (h : ∀ x σ, Ct (fun k => K k x σ) (L x σ)) (h2 : ∀ a σ, Ct (fun k => A k a σ) (B a σ)) : Ct (fun k => aJ (R k) (K k) (A k)) (aJ r L B) := by
  refine ct_aft (G := fun k z => aJ z (K k) (A k)) (g := fun z => aJ z L B) hr (fun x hx => by cases hx) ?_
  rintro ⟨(_ | v) | a, σ⟩
  · exact ct_n
  · cases v <;> first | exact h _ σ | exact ct_n
  · exact h2 a σ
theorem ct_aA {R : Nat → Res} {r : Res} {K : Nat → Nat → St → Res} {L : Nat → St → Res} {A : Nat → Nat → St → Res} {B : Nat → St → Res} (hr : Ct R r) (h : ∀ x σ, Ct (fun k => K k x σ) (L x σ)) (h2 : ∀ a σ, Ct (fun k => A k a σ) (B a σ)) : Ct (fun k => aA (R k) (K k) (A k)) (aA r L B) := by
  refine ct_aft (G := fun k z => aA z (K k) (A k)) (g := fun z => aA z L B) hr (fun x hx => by cases hx) ?_
  rintro ⟨(_ | v) | a, σ⟩
  · exact ct_n
  · cases v <;> first | exact h _ σ | exact ct_n
  · exact h2 a σ
theorem ct_swT (x : Int32) {K : Nat → Int → Res} {L : Int → Res} {A : Nat → Res} {B : Res} (h : ∀ o, Ct (fun k => K k o) (L o)) (h2 : Ct A B) : ∀ (os : List Int) (v : Int), Ct (fun k => swT x v os (K k) (A k)) (swT x v os L B) := by
  intro os
  induction os with
  | nil => intro v; exact h2
  | cons o t ih => intro v; exact ct_ite _ (h o) (ih (v + 1))
theorem ct_emp (st : List Value) {A : Nat → Res} {B : Res} (h : Ct A B) : Ct (fun k => emp st (A k)) (emp st B) := by
  cases st with
  | nil => exact h
  | cons v r => exact ct_n
theorem ct_ldl (n i : Nat) (ls : Lcs) {K : Nat → Value → Res} {L : Value → Res} (h : ∀ v, Ct (fun k => K k v) (L v)) : Ct (fun k => ldl n i ls (K k)) (ldl n i ls L) := by
  refine ct_ob _ fun v => ?_
  rcases n with _ | _ | _ | n <;> cases v <;> first | exact h _ | exact ct_n
section LIM
variable {F : Fx} {M : MI} {G : Nat → Go} {g : Go} {C : Nat → Cl} {c : Cl}
theorem ct_hnd (hg : ∀ p t ls st σ, Ct (fun k => G k p t ls st σ) (g p t ls st σ)) (pc : Nat) (ls : Lcs) (a : Nat) (σ : St) : Ct (fun k => hnd F M (G k) pc ls a σ) (hnd F M g pc ls a σ) := by
  unfold hnd
  cases mH M with
  | nil => exact ct_c _
  | cons q t => exact ct_bif _ (ct_bif _ (hg _ _ _ _ _) ct_n) (ct_c _)
theorem ct_doCall (hg : ∀ p t ls st σ, Ct (fun k => G k p t ls st σ) (g p t ls st σ)) (hc : ∀ j vs σ, Ct (fun k => C k j vs σ) (c j vs σ)) (e : Ent) (t : List Ent) (ls : Lcs) (rk : Nat) (q : Nat × Nat) (vs rest : List Value) (σ : St) :
    Ct (fun k => doCall F M (G k) (C k) e t ls rk q vs rest σ) (doCall F M g c e t ls rk q vs rest σ) := by
  refine ct_bif _ ?_ ct_n
  rcases rk with _ | _ | _ | _ | rk
  · exact ct_aV (hc _ _ _) (fun _ => hg _ _ _ _ _) (fun _ _ => ct_hnd hg _ _ _ _)
  · exact ct_aI (hc _ _ _) (fun _ _ => hg _ _ _ _ _) (fun _ _ => ct_hnd hg _ _ _ _)
  · exact ct_aJ (hc _ _ _) (fun _ _ => hg _ _ _ _ _) (fun _ _ => ct_hnd hg _ _ _ _)
  · exact ct_aA (hc _ _ _) (fun _ _ => hg _ _ _ _ _) (fun _ _ => ct_hnd hg _ _ _ _)
  · exact ct_n
theorem ct_stepH (hg : ∀ p t ls st σ, Ct (fun k => G k p t ls st σ) (g p t ls st σ)) (e : Ent) (t : List Ent) (ls : Lcs) (st : List Value) (σ : St) : Ct (fun k => stepH F M (G k) e t ls st σ) (stepH F M g e t ls st σ) := by
  unfold stepH
  obtain ⟨pc, i, len, cut⟩ := e
  cases i with
  | getfield i =>
    refine ct_ob _ fun f => ct_pA _ fun a r => ct_bif _ ?_ ct_n
    obtain ⟨f1, f2, f3, f4⟩ := f
    rcases f3 with _ | _ | _ | _ | _ | f3
    · exact hg _ _ _ _ _
    · exact hg _ _ _ _ _
    · exact ct_ob _ fun b => hg _ _ _ _ _
    · exact ct_on _ (fun b => hg _ _ _ _ _) (hg _ _ _ _ _)
    · exact hg _ _ _ _ _
    · exact ct_n
  | putfield i =>
    refine ct_ob _ fun f => ct_bif _ ?_ ct_n
    obtain ⟨f1, f2, f3, f4⟩ := f
    have hN : Ct (fun k => pN st (fun v r => pA r fun a r => bif memN (tg F σ a) f1 && (fR F a f2).isNone then G k (pc + 3) t ls r (wR σ a f2 (some v)) else none)
            (fun r => pA r fun a r => bif memN (tg F σ a) f1 && (fR F a f2).isNone then G k (pc + 3) t ls r (wR σ a f2 none) else none))
          (pN st (fun v r => pA r fun a r => bif memN (tg F σ a) f1 && (fR F a f2).isNone then g (pc + 3) t ls r (wR σ a f2 (some v)) else none)
            (fun r => pA r fun a r => bif memN (tg F σ a) f1 && (fR F a f2).isNone then g (pc + 3) t ls r (wR σ a f2 none) else none)) :=
      ct_pN _ (fun v r => ct_pA _ fun a r => ct_bif _ (hg _ _ _ _ _) ct_n) (fun r => ct_pA _ fun a r => ct_bif _ (hg _ _ _ _ _) ct_n)
    rcases f3 with _ | _ | _ | _ | _ | f3
    · exact ct_pI _ fun v r => ct_pA _ fun a r => ct_bif _ (hg _ _ _ _ _) ct_n
    · exact ct_pJ _ fun v r => ct_pA _ fun a r => ct_bif _ (hg _ _ _ _ _) ct_n
    · exact hN
    · exact hN
    · exact ct_pI _ fun v r => ct_pA _ fun a r => ct_bif _ (hg _ _ _ _ _) ct_n
    · exact hN
  | getstatic i => exact ct_ob _ fun v => hg _ _ _ _ _
  | iaload => exact ct_pI _ fun i r => ct_pA _ fun a r => ct_bif _ (hg _ _ _ _ _) ct_n
  | laload => exact ct_pI _ fun i r => ct_pA _ fun a r => ct_bif _ (hg _ _ _ _ _) ct_n
  | baload => exact ct_pI _ fun i r => ct_pA _ fun a r => ct_bif _ (hg _ _ _ _ _) ct_n
  | aaload => exact ct_pI _ fun i r => ct_pA _ fun a r => ct_bif _ (ct_bif _ (ct_ob _ fun b => hg _ _ _ _ _) (ct_bif _ (ct_on _ (fun b => hg _ _ _ _ _) (hg _ _ _ _ _)) ct_n)) ct_n
  | iastore => exact ct_pI _ fun v r => ct_pI _ fun i r => ct_pA _ fun a r => ct_bif _ (hg _ _ _ _ _) ct_n
  | lastore => exact ct_pJ _ fun v r => ct_pI _ fun i r => ct_pA _ fun a r => ct_bif _ (hg _ _ _ _ _) ct_n
  | bastore => exact ct_pI _ fun v r => ct_pI _ fun i r => ct_pA _ fun a r => ct_bif _ (ct_bif _ (hg _ _ _ _ _) (ct_bif _ (hg _ _ _ _ _) ct_n)) ct_n
  | aastore => exact ct_pA _ fun b r => ct_pI _ fun i r => ct_pA _ fun a r => ct_bif _ (hg _ _ _ _ _) ct_n
  | arraylength => exact ct_pA _ fun a r => ct_bif _ (hg _ _ _ _ _) ct_n
  | newarray ty =>
    refine ct_pI _ fun n r => ct_bif _ ?_ ct_n
    cases ty <;> first | exact hg _ _ _ _ _ | exact ct_n
  | anewarray i => exact ct_ob _ fun tag => ct_pI _ fun n r => ct_bif _ (hg _ _ _ _ _) ct_n
  | new i => exact ct_ob _ fun q => ct_bif _ (hg _ _ _ _ _) ct_n
  | checkcast i => exact ct_ob _ fun q => ct_pA _ fun a r => ct_bif _ (hg _ _ _ _ _) ct_n
  | if_acmp cnd o =>
    refine ct_pAA _ fun a b r => ct_bif _ ct_n ?_
    cases cnd
    · exact ct_ite _ (hg _ _ _ _ _) (ct_bif _ (hg _ _ _ _ _) ct_n)
    · exact ct_ite _ (hg _ _ _ _ _) (ct_bif _ (hg _ _ _ _ _) ct_n)
  | ifnull o => exact ct_pN _ (fun a r => ct_bif _ ct_n (hg _ _ _ _ _)) (fun r => hg _ _ _ _ _)
  | ifnonnull o => exact ct_pN _ (fun a r => ct_bif _ ct_n (hg _ _ _ _ _)) (fun r => hg _ _ _ _ _)
  | _ => exact ct_n
theorem ct_stepI (hg : ∀ p t ls st σ, Ct (fun k => G k p t ls st σ) (g p t ls st σ)) (hc : ∀ j vs σ, Ct (fun k => C k j vs σ) (c j vs σ)) (e : Ent) (t : List Ent) (ls : Lcs) (st : List Value) (σ : St) :
    Ct (fun k => stepI F M (G k) (C k) e t ls st σ) (stepI F M g c e t ls st σ) := by
  have hH := ct_stepH (F := F) (M := M) hg e t ls st σ
  unfold stepI
  obtain ⟨pc, i, len, cut⟩ := e
  cases i with
  | ldc i =>
    refine ct_ob _ fun v => ?_
    cases v <;> first | exact ct_bif _ (hg _ _ _ _ _) ct_n | exact ct_n
  | ldc_w i =>
    refine ct_ob _ fun v => ?_
    cases v <;> first | exact ct_bif _ (hg _ _ _ _ _) ct_n | exact ct_n
  | ldc2_w i =>
    refine ct_ob _ fun v => ?_
    cases v <;> first | exact ct_bif _ (hg _ _ _ _ _) ct_n | exact ct_n
  | iinc n k =>
    refine ct_ob _ fun v => ?_
    cases v <;> first | exact ct_bif _ (hg _ _ _ _ _) ct_n | exact ct_n
  | ifCond cnd o =>
    refine ct_pI _ fun x r => ?_
    cases cnd <;> exact ct_ite _ (hg _ _ _ _ _) (hg _ _ _ _ _)
  | if_icmp cnd o =>
    refine ct_pII _ fun x y r => ?_
    cases cnd <;> exact ct_ite _ (hg _ _ _ _ _) (hg _ _ _ _ _)
  | tableswitch d lo hi offs => exact ct_pI _ fun x r => ct_bif _ (ct_swT _ (fun o => hg _ _ _ _ _) (hg _ _ _ _ _) _ _) ct_n
  | invokestatic i =>
    refine ct_ob _ fun q => ?_
    obtain ⟨q1, q2, q3, q4⟩ := q
    rcases q1 with _ | _ | _ | _ | _ | _ | _ | _ | _ | _ | _ | _ | _ | q1
    · exact ct_ob _ fun z => ct_ob _ fun w => ct_doCall hg hc _ _ _ _ _ _ _ _
    · exact ct_n
    · exact ct_n
    · exact ct_n
    · exact ct_pI _ fun n r => ct_pI _ fun dp r => ct_pA _ fun b r => ct_pI _ fun sp r => ct_pA _ fun a r => ct_bif _ (ct_bif _ (hg _ _ _ _ _) (ct_bif _ (hg _ _ _ _ _) ct_n)) ct_n
    · exact ct_n
    · exact ct_n
    · exact ct_pII _ fun x y r => ct_bif _ (hg _ _ _ _ _) ct_n
    · exact ct_pII _ fun x y r => ct_bif _ (hg _ _ _ _ _) ct_n
    · exact ct_pJJ _ fun x y r => ct_bif _ (hg _ _ _ _ _) ct_n
    · exact ct_pJJ _ fun x y r => ct_bif _ (hg _ _ _ _ _) ct_n
    · exact ct_pI _ fun x r => ct_bif _ (hg _ _ _ _ _) ct_n
    · exact ct_pJ _ fun x r => ct_bif _ (hg _ _ _ _ _) ct_n
    · exact ct_n
  | invokespecial i =>
    refine ct_ob _ fun q => ?_
    obtain ⟨q1, q2, q3, q4⟩ := q
    rcases q1 with _ | _ | _ | _ | _ | _ | q1
    · exact ct_n
    · exact ct_ob _ fun z => ct_pA _ fun a r => ct_bif _ (ct_ob _ fun w => ct_doCall hg hc _ _ _ _ _ _ _ _) ct_n
    · exact ct_n
    · exact ct_pA _ fun a r => ct_bif _ (hg _ _ _ _ _) ct_n
    · exact ct_n
    · exact ct_pA _ fun a r => ct_bif _ (hg _ _ _ _ _) ct_n
    · exact ct_n
  | invokevirtual i =>
    refine ct_ob _ fun q => ?_
    obtain ⟨q1, q2, q3, q4⟩ := q
    rcases q1 with _ | _ | _ | _ | _ | _ | _ | q1
    · exact ct_n
    · exact ct_n
    · exact ct_ob _ fun z => ct_pA _ fun a r => ct_ob _ fun w => ct_doCall hg hc _ _ _ _ _ _ _ _
    · exact ct_n
    · exact ct_n
    · exact ct_n
    · exact ct_pA _ fun a r => ct_bif _ (hg _ _ _ _ _) ct_n
    · exact ct_n
  | ireturn => exact ct_pI _ fun x _ => ct_emp _ (ct_bif _ (ct_c _) ct_n)
  | lreturn => exact ct_pJ _ fun x _ => ct_emp _ (ct_c _)
  | areturn => exact ct_pA _ fun x _ => ct_emp _ (ct_c _)
  | return_ => exact ct_emp _ (ct_c _)
  | athrow => exact ct_pA _ fun a _ => ct_bif _ (ct_hnd hg _ _ _ _) ct_n
  | _ => first
    | exact hH
    | exact hg _ _ _ _ _
    | exact ct_ldl _ _ _ fun v => hg _ _ _ _ _
    | exact ct_ob _ fun v => hg _ _ _ _ _
    | exact ct_pII _ fun x y r => hg _ _ _ _ _
    | exact ct_pJJ _ fun x y r => hg _ _ _ _ _
    | exact ct_pJI _ fun x y r => hg _ _ _ _ _
    | exact ct_pI _ fun x r => hg _ _ _ _ _
    | exact ct_pJ _ fun x r => hg _ _ _ _ _
    | exact ct_pI _ fun x r => ct_bif _ (hg _ _ _ _ _) ct_n
    | exact ct_pJ _ fun x r => ct_bif _ (hg _ _ _ _ _) ct_n
    | exact ct_pN _ (fun a r => ct_bif _ (hg _ _ _ _ _) ct_n) (fun r => ct_bif _ (hg _ _ _ _ _) ct_n)
    | exact ct_pII _ fun x y r => ct_ite _ ct_n (hg _ _ _ _ _)
    | exact ct_pJJ _ fun x y r => ct_ite _ ct_n (hg _ _ _ _ _)
    | exact ct_pV _ fun v r => ct_bif _ (hg _ _ _ _ _) ct_n
    | exact ct_pVV _ fun v w r => ct_bif _ (hg _ _ _ _ _) ct_n
end LIM
theorem ct_interp {F : Fx} {M : MI} {S : Nat → Rec} {r : Rec} (hr : ∀ d j pc vs σ, Ct (fun k => S k d j pc vs σ) (r d j pc vs σ)) (d j : Nat) : ∀ (n : Nat) (c : List Ent) (ls : Lcs) (st : List Value) (σ : St), Ct (fun k => interp F (S k) d j M n c ls st σ) (interp F r d j M n c ls st σ) := by
  intro n
  induction n with
  | zero => intro c ls st σ; exact ct_n
  | succ n ih =>
    intro c ls st σ
    show Ct (fun k => step1 F (S k) d j M (interp F (S k) d j M n) c ls st σ) (step1 F r d j M (interp F r d j M n) c ls st σ)
    cases c with
    | nil => exact ct_n
    | cons e t =>
      refine ct_bif _ (ct_stepI (G := fun k => goA (S k) d j (interp F (S k) d j M n)) (C := fun k => callD (S k) d) ?_ ?_ e t ls st σ) ct_n
      · intro p c ls st σ
        cases c with
        | nil => exact ct_n
        | cons e t =>
          obtain ⟨pc, i, len, cut⟩ := e
          refine ct_bif _ ?_ ct_n
          cases cut with
          | none => exact ih _ _ _ _
          | some lv => exact ct_ob _ fun vs => hr _ _ _ _ _
      · intro j vs σ
        cases d with
        | zero => exact ct_n
        | succ d => exact hr _ _ _ _ _
theorem ct_enter {F : Fx} {mt : Nat → Option MI} {S : Nat → Rec} {r : Rec} (hr : ∀ d j pc vs σ, Ct (fun k => S k d j pc vs σ) (r d j pc vs σ)) (d j pc : Nat) (vs : List Value) (σ : St) : Ct (fun k => enter F mt (S k) d j pc vs σ) (enter F mt r d j pc vs σ) := by
  refine ct_ob _ fun M => ?_
  cases seek pc (mC M) with
  | nil => exact ct_n
  | cons e t =>
    obtain ⟨p, i, len, cut⟩ := e
    cases cut with
    | none => exact ct_bif _ (ct_interp hr _ _ _ _ _ _ _) ct_n
    | some lv => exact ct_bif _ ct_n (ct_interp hr _ _ _ _ _ _ _)
theorem sem_mono (F : Fx) (mt : Nat → Option MI) : ∀ (n d j pc : Nat) (vs : List Value) (σ : St) (x : Out × St), Sem F mt n d j pc vs σ = some x → Sem F mt (n + 1) d j pc vs σ = some x := by
  intro n
  induction n with
  | zero => intro d j pc vs σ x h; cases h
  | succ n ih =>
    intro d j pc vs σ x h
    obtain ⟨k, hk⟩ := ct_enter (F := F) (mt := mt) (S := fun _ => Sem F mt (n + 1)) (r := Sem F mt n) (fun d j pc vs σ x h => ⟨0, fun _ _ => ih d j pc vs σ x h⟩) d j pc vs σ x h
    exact hk k (Nat.le_refl _)
theorem sem_le (F : Fx) (mt : Nat → Option MI) {n m d j pc : Nat} {vs : List Value} {σ : St} {x : Out × St} (hnm : n ≤ m) (h : Sem F mt n d j pc vs σ = some x) : Sem F mt m d j pc vs σ = some x := by
  induction hnm with
  | refl => exact h
  | step _ ih => exact sem_mono F mt _ _ _ _ _ _ _ ih
/-- the limit of the runs -/
noncomputable def D (F : Fx) (mt : Nat → Option MI) : Rec := fun d j pc vs σ => Classical.epsilon (h := ⟨none⟩) fun r => (∃ n x, r = some x ∧ Sem F mt n d j pc vs σ = some x) ∨ (r = none ∧ ∀ n, Sem F mt n d j pc vs σ = none)
theorem D_sem {F : Fx} {mt : Nat → Option MI} {n d j pc : Nat} {vs : List Value} {σ : St} {x : Out × St} (h : Sem F mt n d j pc vs σ = some x) : D F mt d j pc vs σ = some x := by
  have hs := Classical.epsilon_spec (p := fun r => (∃ n x, r = some x ∧ Sem F mt n d j pc vs σ = some x) ∨ (r = none ∧ ∀ n, Sem F mt n d j pc vs σ = none)) ⟨some x, Or.inl ⟨n, x, rfl, h⟩⟩
  have hs : (∃ n x, D F mt d j pc vs σ = some x ∧ Sem F mt n d j pc vs σ = some x) ∨ (D F mt d j pc vs σ = none ∧ ∀ n, Sem F mt n d j pc vs σ = none) := hs
  rcases hs with ⟨m, y, e, hm⟩ | ⟨-, hn⟩
  · rw [e]
    have h1 := sem_le F mt (Nat.le_max_left n m) h
    have h2 := sem_le F mt (Nat.le_max_right n m) hm
    exact h2.symm.trans h1
  · rw [hn n] at h; cases h
theorem D_lim {F : Fx} {mt : Nat → Option MI} {d j pc : Nat} {vs : List Value} {σ : St} {x : Out × St} (h : D F mt d j pc vs σ = some x) : ∃ n, Sem F mt n d j pc vs σ = some x := by
  by_cases hn : ∃ n y, Sem F mt n d j pc vs σ = some y
  · obtain ⟨n, y, hy⟩ := hn
    have := D_sem hy
    rw [h] at this
    cases this
    exact ⟨n, hy⟩
  · have hs := Classical.epsilon_spec (p := fun r => (∃ n x, r = some x ∧ Sem F mt n d j pc vs σ = some x) ∨ (r = none ∧ ∀ n, Sem F mt n d j pc vs σ = none)) ⟨none, Or.inr ⟨rfl, fun n => by
      cases hq : Sem F mt n d j pc vs σ with
      | none => rfl
      | some y => exact (hn ⟨n, y, hq⟩).elim⟩⟩
    have hs : (∃ n x, D F mt d j pc vs σ = some x ∧ Sem F mt n d j pc vs σ = some x) ∨ (D F mt d j pc vs σ = none ∧ ∀ n, Sem F mt n d j pc vs σ = none) := hs
    rcases hs with ⟨m, y, e, hm⟩ | ⟨e, -⟩
    · exact (hn ⟨m, y, hm⟩).elim
    · rw [e] at h; cases h
theorem D_eq (F : Fx) (mt : Nat → Option MI) (d j pc : Nat) (vs : List Value) (σ : St) : D F mt d j pc vs σ = enter F mt (D F mt) d j pc vs σ := by
  have hD : ∀ d j pc vs σ, Ct (fun k => Sem F mt k d j pc vs σ) (D F mt d j pc vs σ) := fun d j pc vs σ x h => by
    obtain ⟨n, hn⟩ := D_lim h
    exact ⟨n, fun k hk => sem_le F mt hk hn⟩
  cases h : enter F mt (D F mt) d j pc vs σ with
  | some x =>
    obtain ⟨n, hn⟩ := ct_enter hD d j pc vs σ x h
    exact D_sem (n := n + 1) (hn n (Nat.le_refl _))
  | none =>
    cases h2 : D F mt d j pc vs σ with
    | none => rfl
    | some x =>
      obtain ⟨n, hn⟩ := D_lim h2
      cases n with
      | zero => cases hn
      | succ n =>
        obtain ⟨k, hk⟩ := ct_enter (F := F) (mt := mt) (S := fun _ => D F mt) (r := Sem F mt n) (fun d j pc vs σ x h => ⟨0, fun _ _ => D_sem h⟩) d j pc vs σ x hn
        have := hk k (Nat.le_refl _)
        rw [h] at this
        cases this
