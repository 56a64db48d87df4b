/-! ===== cells and slots only grow ===== -/
def Le (σ τ : St) : Prop := nx σ ≤ nx τ ∧ sl σ ≤ sl τ
theorem Le.rfl' (σ : St) : Le σ σ := ⟨Nat.le_refl _, Nat.le_refl _⟩
theorem Le.tr {a b c : St} (h : Le a b) (k : Le b c) : Le a c := ⟨Nat.le_trans h.1 k.1, Nat.le_trans h.2 k.2⟩
def Mo (σ : St) (r : Res) : Prop := ∀ x, r = some x → Le σ x.2
theorem mo_n (σ : St) : Mo σ none := fun x h => by cases h
theorem mo_ok {σ : St} {v : Option Value} : Mo σ (ok v σ) := fun x h => by cases h; exact Le.rfl' _
theorem mo_th {σ : St} {a : Nat} : Mo σ (thr a σ) := fun x h => by cases h; exact Le.rfl' _
theorem mo_le {σ τ : St} {r : Res} (h : Le σ τ) (k : Mo τ r) : Mo σ r := fun x hx => h.tr (k x hx)
theorem mo_ob {σ : St} {α : Type} (o : Option α) {L : α → Res} (h : ∀ x, Mo σ (L x)) : Mo σ (ob o L) := by
  cases o with
  | none => exact mo_n _
  | some x => exact h x
theorem mo_on {σ : St} (o : Option Nat) {L : Nat → Res} {B : Res} (h : ∀ x, Mo σ (L x)) (h2 : Mo σ B) : Mo σ (on o L B) := by
  cases o with
  | none => exact h2
  | some x => exact h x
theorem mo_pI {σ : St} (st : List Value) {L : Int32 → List Value → Res} (h : ∀ x r, Mo σ (L x r)) : Mo σ (pI st L) := by
  rcases st with _ | ⟨v, r⟩
  · exact mo_n _
  · cases v <;> first | exact h _ _ | exact mo_n _
theorem mo_pJ {σ : St} (st : List Value) {L : Int64 → List Value → Res} (h : ∀ x r, Mo σ (L x r)) : Mo σ (pJ st L) := by
  rcases st with _ | ⟨v, r⟩
  · exact mo_n _
  · cases v <;> first | exact h _ _ | exact mo_n _
theorem mo_pA {σ : St} (st : List Value) {L : Nat → List Value → Res} (h : ∀ x r, Mo σ (L x r)) : Mo σ (pA st L) := by
  rcases st with _ | ⟨v, r⟩
  · exact mo_n _
  · cases v <;> first | exact h _ _ | exact mo_n _
theorem mo_pN {σ : St} (st : List Value) {L : Nat → List Value → Res} {B : List Value → Res} (h : ∀ x r, Mo σ (L x r)) (h2 : ∀ r, Mo σ (B r)) : Mo σ (pN st L B) := by
  rcases st with _ | ⟨v, r⟩
  · exact mo_n _
  · cases v <;> first | exact h _ _ | exact h2 _ | exact mo_n _
theorem mo_pII {σ : St} (st : List Value) {L : Int32 → Int32 → List Value → Res} (h : ∀ x y r, Mo σ (L x y r)) : Mo σ (pII st L) := by
  rcases st with _ | ⟨v, _ | ⟨w, r⟩⟩
  · exact mo_n _
  · cases v <;> exact mo_n _
  · cases v <;> cases w <;> first | exact h _ _ _ | exact mo_n _
theorem mo_pJJ {σ : St} (st : List Value) {L : Int64 → Int64 → List Value → Res} (h : ∀ x y r, Mo σ (L x y r)) : Mo σ (pJJ st L) := by
  rcases st with _ | ⟨v, _ | ⟨w, r⟩⟩
  · exact mo_n _
  · cases v <;> exact mo_n _
  · cases v <;> cases w <;> first | exact h _ _ _ | exact mo_n _
theorem mo_pJI {σ : St} (st : List Value) {L : Int64 → Int32 → List Value → Res} (h : ∀ x y r, Mo σ (L x y r)) : Mo σ (pJI st L) := by
  rcases st with _ | ⟨v, _ | ⟨w, r⟩⟩
  · exact mo_n _
  · cases v <;> exact mo_n _
  · cases v <;> cases w <;> first | exact h _ _ _ | exact mo_n _
theorem mo_pAA {σ : St} (st : List Value) {L : Nat → Nat → List Value → Res} (h : ∀ x y r, Mo σ (L x y r)) : Mo σ (pAA st L) := by
  rcases st with _ | ⟨v, _ | ⟨w, r⟩⟩
  · exact mo_n _
  · cases v <;> exact mo_n _
  · cases v <;> cases w <;> first | exact h _ _ _ | exact mo_n _
theorem mo_pV {σ : St} (st : List Value) {L : Value → List Value → Res} (h : ∀ x r, Mo σ (L x r)) : Mo σ (pV st L) := by
  rcases st with _ | ⟨v, r⟩
  · exact mo_n _
  · exact h _ _
theorem mo_pVV {σ : St} (st : List Value) {L : Value → Value → List Value → Res} (h : ∀ x y r, Mo σ (L x y r)) : Mo σ (pVV st L) := by
  rcases st with _ | ⟨v, _ | ⟨w, r⟩⟩
  · exact mo_n _
  · exact mo_n _
  · exact h _ _ _
theorem mo_bif {σ : St} (b : Bool) {a c : Res} (h1 : Mo σ a) (h2 : Mo σ c) : Mo σ (bif b then a else c) := by
  cases b
  · exact h2
  · exact h1
theorem mo_ite {σ : St} (q : Prop) {d : Decidable q} {a c : Res} (h1 : Mo σ a) (h2 : Mo σ c) : Mo σ (if q then a else c) := by
  by_cases h : q
  · simp only [h, if_true]; exact h1
  · simp only [h, if_false]; exact h2
theorem mo_aV {σ : St} {r : Res} {L : St → Res} {B : Nat → St → Res} (hr : Mo σ r) (h : ∀ τ, Mo τ (L τ)) (h2 : ∀ a τ, Mo τ (B a τ)) : Mo σ (aV r L B) := by
  rcases r with _ | ⟨(_ | v) | a, τ⟩
  · exact mo_n _
  · exact mo_le (hr _ rfl) (h τ)
  · exact mo_n _
  · exact mo_le (hr _ rfl) (h2 a τ)
theorem mo_aI {σ : St} {r : Res} {L : Int32 → St → Res} {B : Nat → St → Res} (hr : Mo σ r) (h : ∀ x τ, Mo τ (L x τ)) (h2 : ∀ a τ, Mo τ (B a τ)) : Mo σ (aI r L B) := by
  rcases r with _ | ⟨(_ | v) | a, τ⟩
  · exact mo_n _
  · exact mo_n _
  · cases v <;> first | exact mo_le (hr _ rfl) (h _ τ) | exact mo_n _
  · exact mo_le (hr _ rfl) (h2 a τ)
theorem mo_aJ {σ : St} {r : Res} {L : Int64 → St → Res} {B : Nat → St → Res} (hr : Mo σ r) (h : ∀ x τ, Mo τ (L x τ)) (h2 : ∀ a τ, Mo τ (B a τ)) : Mo σ (aJ r L B) := by
  rcases r with _ | ⟨(_ | v) | a, τ⟩
  · exact mo_n _
  · exact mo_n _
  · cases v <;> first | exact mo_le (hr _ rfl) (h _ τ) | exact mo_n _
  · exact mo_le (hr _ rfl) (h2 a τ)
theorem mo_aA {σ : St} {r : Res} {L : Nat → St → Res} {B : Nat → St → Res} (hr : Mo σ r) (h : ∀ x τ, Mo τ (L x τ)) (h2 : ∀ a τ, Mo τ (B a τ)) : Mo σ (aA r L B) := by
  rcases r with _ | ⟨(_ | v) | a, τ⟩
  · exact mo_n _
  · exact mo_n _
  · cases v <;> first | exact mo_le (hr _ rfl) (h _ τ) | exact mo_n _
  · exact mo_le (hr _ rfl) (h2 a τ)
theorem mo_swT {σ : St} (x : Int32) {L : Int → Res} {B : Res} (h : ∀ o, Mo σ (L o)) (h2 : Mo σ B) : ∀ (os : List Int) (v : Int), Mo σ (swT x v os L B) := by
  intro os
  induction os with
  | nil => intro v; exact h2
  | cons o t ih => intro v; exact mo_ite _ (h o) (ih (v + 1))
theorem mo_emp {σ : St} (st : List Value) {B : Res} (h : Mo σ B) : Mo σ (emp st B) := by
  cases st with
  | nil => exact h
  | cons v r => exact mo_n _
theorem mo_ldl {σ : St} (n i : Nat) (ls : Lcs) {L : Value → Res} (h : ∀ v, Mo σ (L v)) : Mo σ (ldl n i ls L) := by
  refine mo_ob _ fun v => ?_
  rcases n with _ | _ | _ | n <;> cases v <;> first | exact h _ | exact mo_n _
section MON
variable {F : Fx} {M : MI} {g : Go} {c : Cl}
theorem le_nw (σ : St) (t n k : Nat) : Le σ (nw σ t n k) := ⟨Nat.le_succ _, Nat.le_add_right _ _⟩
theorem le_wI (σ : St) (a k : Nat) (v : Int32) : Le σ (wI σ a k v) := ⟨Nat.le_refl _, Nat.le_refl _⟩
theorem le_wJ (σ : St) (a k : Nat) (v : Int64) : Le σ (wJ σ a k v) := ⟨Nat.le_refl _, Nat.le_refl _⟩
theorem le_wR (σ : St) (a k : Nat) (v : Option Nat) : Le σ (wR σ a k v) := ⟨Nat.le_refl _, Nat.le_refl _⟩
theorem le_cpI (σ : St) (a sp b dp n : Nat) : Le σ (cpI σ a sp b dp n) := ⟨Nat.le_refl _, Nat.le_refl _⟩
theorem le_cpR (σ : St) (a sp b dp n : Nat) : Le σ (cpR σ a sp b dp n) := ⟨Nat.le_refl _, Nat.le_refl _⟩
theorem mo_hnd (hg : ∀ p t ls st σ, Mo σ (g p t ls st σ)) (pc : Nat) (ls : Lcs) (a : Nat) (σ : St) : Mo σ (hnd F M g pc ls a σ) := by
  unfold hnd
  cases mH M with
  | nil => exact mo_th
  | cons q t => exact mo_bif _ (mo_bif _ (hg _ _ _ _ _) (mo_n _)) mo_th
theorem mo_doCall (hg : ∀ p t ls st σ, Mo σ (g p t ls st σ)) (hc : ∀ j vs σ, Mo σ (c j vs σ)) (e : Ent) (t : List Ent) (ls : Lcs) (rk : Nat) (q : Nat × Nat) (vs rest : List Value) (σ : St) :
    Mo σ (doCall F M g c e t ls rk q vs rest σ) := by
  refine mo_bif _ ?_ (mo_n _)
  rcases rk with _ | _ | _ | _ | rk
  · exact mo_aV (hc _ _ _) (fun _ => hg _ _ _ _ _) (fun _ _ => mo_hnd hg _ _ _ _)
  · exact mo_aI (hc _ _ _) (fun _ _ => hg _ _ _ _ _) (fun _ _ => mo_hnd hg _ _ _ _)
  · exact mo_aJ (hc _ _ _) (fun _ _ => hg _ _ _ _ _) (fun _ _ => mo_hnd hg _ _ _ _)
  · exact mo_aA (hc _ _ _) (fun _ _ => hg _ _ _ _ _) (fun _ _ => mo_hnd hg _ _ _ _)
  · exact mo_n _
theorem mo_stepH (hg : ∀ p t ls st σ, Mo σ (g p t ls st σ)) (e : Ent) (t : List Ent) (ls : Lcs) (st : List Value) (σ : St) : Mo σ (stepH F M g e t ls st σ) := by
  unfold stepH
  obtain ⟨pc, i, len, cut⟩ := e
  cases i with
  | getfield i =>
    refine mo_ob _ fun f => mo_pA _ fun a r => mo_bif _ ?_ (mo_n _)
    obtain ⟨f1, f2, f3, f4⟩ := f
    rcases f3 with _ | _ | _ | _ | _ | f3
    · exact hg _ _ _ _ _
    · exact hg _ _ _ _ _
    · exact mo_ob _ fun b => hg _ _ _ _ _
    · exact mo_on _ (fun b => hg _ _ _ _ _) (hg _ _ _ _ _)
    · exact hg _ _ _ _ _
    · exact mo_n _
  | putfield i =>
    refine mo_ob _ fun f => mo_bif _ ?_ (mo_n _)
    obtain ⟨f1, f2, f3, f4⟩ := f
    have hN : Mo σ (pN st (fun v r => pA r fun a r => bif memN (tg F σ a) f1 && (fR F a f2).isNone then g (pc + 3) t ls r (wR σ a f2 (some v)) else none)
            (fun r => pA r fun a r => bif memN (tg F σ a) f1 && (fR F a f2).isNone then g (pc + 3) t ls r (wR σ a f2 none) else none)) :=
      mo_pN _ (fun v r => mo_pA _ fun a r => mo_bif _ (mo_le (le_wR _ _ _ _) (hg _ _ _ _ _)) (mo_n _)) (fun r => mo_pA _ fun a r => mo_bif _ (mo_le (le_wR _ _ _ _) (hg _ _ _ _ _)) (mo_n _))
    rcases f3 with _ | _ | _ | _ | _ | f3
    · exact mo_pI _ fun v r => mo_pA _ fun a r => mo_bif _ (mo_le (le_wI _ _ _ _) (hg _ _ _ _ _)) (mo_n _)
    · exact mo_pJ _ fun v r => mo_pA _ fun a r => mo_bif _ (mo_le (le_wJ _ _ _ _) (hg _ _ _ _ _)) (mo_n _)
    · exact hN
    · exact hN
    · exact mo_pI _ fun v r => mo_pA _ fun a r => mo_bif _ (mo_le (le_wI _ _ _ _) (hg _ _ _ _ _)) (mo_n _)
    · exact hN
  | getstatic i => exact mo_ob _ fun v => hg _ _ _ _ _
  | iaload => exact mo_pI _ fun i r => mo_pA _ fun a r => mo_bif _ (hg _ _ _ _ _) (mo_n _)
  | laload => exact mo_pI _ fun i r => mo_pA _ fun a r => mo_bif _ (hg _ _ _ _ _) (mo_n _)
  | baload => exact mo_pI _ fun i r => mo_pA _ fun a r => mo_bif _ (hg _ _ _ _ _) (mo_n _)
  | aaload => exact mo_pI _ fun i r => mo_pA _ fun a r => mo_bif _ (mo_bif _ (mo_ob _ fun b => hg _ _ _ _ _) (mo_bif _ (mo_on _ (fun b => hg _ _ _ _ _) (hg _ _ _ _ _)) (mo_n _))) (mo_n _)
  | iastore => exact mo_pI _ fun v r => mo_pI _ fun i r => mo_pA _ fun a r => mo_bif _ (mo_le (le_wI _ _ _ _) (hg _ _ _ _ _)) (mo_n _)
  | lastore => exact mo_pJ _ fun v r => mo_pI _ fun i r => mo_pA _ fun a r => mo_bif _ (mo_le (le_wJ _ _ _ _) (hg _ _ _ _ _)) (mo_n _)
  | bastore => exact mo_pI _ fun v r => mo_pI _ fun i r => mo_pA _ fun a r => mo_bif _ (mo_bif _ (mo_le (le_wI _ _ _ _) (hg _ _ _ _ _)) (mo_bif _ (mo_le (le_wI _ _ _ _) (hg _ _ _ _ _)) (mo_n _))) (mo_n _)
  | aastore => exact mo_pA _ fun b r => mo_pI _ fun i r => mo_pA _ fun a r => mo_bif _ (mo_le (le_wR _ _ _ _) (hg _ _ _ _ _)) (mo_n _)
  | arraylength => exact mo_pA _ fun a r => mo_bif _ (hg _ _ _ _ _) (mo_n _)
  | newarray ty =>
    refine mo_pI _ fun n r => mo_bif _ ?_ (mo_n _)
    cases ty <;> first | exact mo_le (le_nw _ _ _ _) (hg _ _ _ _ _) | exact mo_n _
  | anewarray i => exact mo_ob _ fun tag => mo_pI _ fun n r => mo_bif _ (mo_le (le_nw _ _ _ _) (hg _ _ _ _ _)) (mo_n _)
  | new i => exact mo_ob _ fun q => mo_bif _ (mo_le (le_nw _ _ _ _) (hg _ _ _ _ _)) (mo_n _)
  | checkcast i => exact mo_ob _ fun q => mo_pA _ fun a r => mo_bif _ (hg _ _ _ _ _) (mo_n _)
  | if_acmp cnd o =>
    refine mo_pAA _ fun a b r => mo_bif _ (mo_n _) ?_
    cases cnd
    · exact mo_ite _ (hg _ _ _ _ _) (mo_bif _ (hg _ _ _ _ _) (mo_n _))
    · exact mo_ite _ (hg _ _ _ _ _) (mo_bif _ (hg _ _ _ _ _) (mo_n _))
  | ifnull o => exact mo_pN _ (fun a r => mo_bif _ (mo_n _) (hg _ _ _ _ _)) (fun r => hg _ _ _ _ _)
  | ifnonnull o => exact mo_pN _ (fun a r => mo_bif _ (mo_n _) (hg _ _ _ _ _)) (fun r => hg _ _ _ _ _)
  | _ => exact mo_n _
theorem mo_stepI (hg : ∀ p t ls st σ, Mo σ (g p t ls st σ)) (hc : ∀ j vs σ, Mo σ (c j vs σ)) (e : Ent) (t : List Ent) (ls : Lcs) (st : List Value) (σ : St) :
    Mo σ (stepI F M g c e t ls st σ) := by
  have hH := mo_stepH (F := F) (M := M) hg e t ls st σ
  unfold stepI
  obtain ⟨pc, i, len, cut⟩ := e
  cases i with
  | ldc i =>
    refine mo_ob _ fun v => ?_
    cases v <;> first | exact mo_bif _ (hg _ _ _ _ _) (mo_n _) | exact mo_n _
  | ldc_w i =>
    refine mo_ob _ fun v => ?_
    cases v <;> first | exact mo_bif _ (hg _ _ _ _ _) (mo_n _) | exact mo_n _
  | ldc2_w i =>
    refine mo_ob _ fun v => ?_
    cases v <;> first | exact mo_bif _ (hg _ _ _ _ _) (mo_n _) | exact mo_n _
  | iinc n k =>
    refine mo_ob _ fun v => ?_
    cases v <;> first | exact mo_bif _ (hg _ _ _ _ _) (mo_n _) | exact mo_n _
  | ifCond cnd o =>
    refine mo_pI _ fun x r => ?_
    cases cnd <;> exact mo_ite _ (hg _ _ _ _ _) (hg _ _ _ _ _)
  | if_icmp cnd o =>
    refine mo_pII _ fun x y r => ?_
    cases cnd <;> exact mo_ite _ (hg _ _ _ _ _) (hg _ _ _ _ _)
  | tableswitch d lo hi offs => exact mo_pI _ fun x r => mo_bif _ (mo_swT _ (fun o => hg _ _ _ _ _) (hg _ _ _ _ _) _ _) (mo_n _)
  | invokestatic i =>
    refine mo_ob _ fun q => ?_
    obtain ⟨q1, q2, q3, q4⟩ := q
    rcases q1 with _ | _ | _ | _ | _ | _ | _ | _ | _ | _ | _ | _ | _ | q1
    · exact mo_ob _ fun z => mo_ob _ fun w => mo_doCall hg hc _ _ _ _ _ _ _ _
    · exact mo_n _
    · exact mo_n _
    · exact mo_n _
    · exact mo_pI _ fun n r => mo_pI _ fun dp r => mo_pA _ fun b r => mo_pI _ fun sp r => mo_pA _ fun a r => mo_bif _ (mo_bif _ (mo_le (le_cpI _ _ _ _ _ _) (hg _ _ _ _ _)) (mo_bif _ (mo_le (le_cpR _ _ _ _ _ _) (hg _ _ _ _ _)) (mo_n _))) (mo_n _)
    · exact mo_n _
    · exact mo_n _
    · exact mo_pII _ fun x y r => mo_bif _ (hg _ _ _ _ _) (mo_n _)
    · exact mo_pII _ fun x y r => mo_bif _ (hg _ _ _ _ _) (mo_n _)
    · exact mo_pJJ _ fun x y r => mo_bif _ (hg _ _ _ _ _) (mo_n _)
    · exact mo_pJJ _ fun x y r => mo_bif _ (hg _ _ _ _ _) (mo_n _)
    · exact mo_pI _ fun x r => mo_bif _ (hg _ _ _ _ _) (mo_n _)
    · exact mo_pJ _ fun x r => mo_bif _ (hg _ _ _ _ _) (mo_n _)
    · exact mo_n _
  | invokespecial i =>
    refine mo_ob _ fun q => ?_
    obtain ⟨q1, q2, q3, q4⟩ := q
    rcases q1 with _ | _ | _ | _ | _ | _ | q1
    · exact mo_n _
    · exact mo_ob _ fun z => mo_pA _ fun a r => mo_bif _ (mo_ob _ fun w => mo_doCall hg hc _ _ _ _ _ _ _ _) (mo_n _)
    · exact mo_n _
    · exact mo_pA _ fun a r => mo_bif _ (hg _ _ _ _ _) (mo_n _)
    · exact mo_n _
    · exact mo_pA _ fun a r => mo_bif _ (mo_le (le_wI _ _ _ _) (hg _ _ _ _ _)) (mo_n _)
    · exact mo_n _
  | invokevirtual i =>
    refine mo_ob _ fun q => ?_
    obtain ⟨q1, q2, q3, q4⟩ := q
    rcases q1 with _ | _ | _ | _ | _ | _ | _ | q1
    · exact mo_n _
    · exact mo_n _
    · exact mo_ob _ fun z => mo_pA _ fun a r => mo_ob _ fun w => mo_doCall hg hc _ _ _ _ _ _ _ _
    · exact mo_n _
    · exact mo_n _
    · exact mo_n _
    · exact mo_pA _ fun a r => mo_bif _ (hg _ _ _ _ _) (mo_n _)
    · exact mo_n _
  | ireturn => exact mo_pI _ fun x _ => mo_emp _ (mo_bif _ mo_ok (mo_n _))
  | lreturn =>
    refine mo_pJ _ fun x _ => mo_emp _ ?_
    split
    · exact mo_ok
    · exact mo_n _
  | areturn =>
    refine mo_pA _ fun x _ => mo_emp _ ?_
    split
    · exact mo_ok
    · exact mo_ok
    · exact mo_n _
  | return_ =>
    refine mo_emp _ ?_
    split
    · exact mo_ok
    · exact mo_n _
  | athrow => exact mo_pA _ fun a _ => mo_bif _ (mo_hnd hg _ _ _ _) (mo_n _)
  | _ => first
    | exact hH
    | exact hg _ _ _ _ _
    | exact mo_ldl _ _ _ fun v => hg _ _ _ _ _
    | exact mo_ob _ fun v => hg _ _ _ _ _
    | exact mo_pII _ fun x y r => hg _ _ _ _ _
    | exact mo_pJJ _ fun x y r => hg _ _ _ _ _
    | exact mo_pJI _ fun x y r => hg _ _ _ _ _
    | exact mo_pI _ fun x r => hg _ _ _ _ _
    | exact mo_pJ _ fun x r => hg _ _ _ _ _
    | exact mo_pI _ fun x r => mo_bif _ (hg _ _ _ _ _) (mo_n _)
    | exact mo_pJ _ fun x r => mo_bif _ (hg _ _ _ _ _) (mo_n _)
    | exact mo_pN _ (fun a r => mo_bif _ (hg _ _ _ _ _) (mo_n _)) (fun r => mo_bif _ (hg _ _ _ _ _) (mo_n _))
    | exact mo_pII _ fun x y r => mo_ite _ (mo_n _) (hg _ _ _ _ _)
    | exact mo_pJJ _ fun x y r => mo_ite _ (mo_n _) (hg _ _ _ _ _)
    | exact mo_pV _ fun v r => mo_bif _ (hg _ _ _ _ _) (mo_n _)
    | exact mo_pVV _ fun v w r => mo_bif _ (hg _ _ _ _ _) (mo_n _)
end MON
theorem mo_goA {rec : Rec} (hr : ∀ d j pc vs σ, Mo σ (rec d j pc vs σ)) {nxt : Nxt} (hn : ∀ c ls st σ, Mo σ (nxt c ls st σ)) (d j p : Nat) (c : List Ent) (ls : Lcs) (st : List Value) (σ : St) : Mo σ (goA rec d j nxt p c ls st σ) := by
  cases c with
  | nil => exact mo_n _
  | cons e t =>
    obtain ⟨pc, i, len, cut⟩ := e
    refine mo_bif _ ?_ (mo_n _)
    cases cut with
    | none => exact hn _ _ _ _
    | some lv => exact mo_ob _ fun vs => hr _ _ _ _ _
theorem mo_interp {F : Fx} {M : MI} {rec : Rec} (hr : ∀ d j pc vs σ, Mo σ (rec d j pc vs σ)) (d j : Nat) : ∀ (n : Nat) (c : List Ent) (ls : Lcs) (st : List Value) (σ : St), Mo σ (interp F rec d j M n c ls st σ) := by
  intro n
  induction n with
  | zero => intro c ls st σ; exact mo_n _
  | succ n ih =>
    intro c ls st σ
    show Mo σ (step1 F rec d j M (interp F rec d j M n) c ls st σ)
    cases c with
    | nil => exact mo_n _
    | cons e t =>
      refine mo_bif _ (mo_stepI (fun p c ls st σ => mo_goA hr ih d j p c ls st σ) ?_ e t ls st σ) (mo_n _)
      intro j vs σ
      cases d with
      | zero => exact mo_n _
      | succ d => exact hr _ _ _ _ _
theorem mo_sem (F : Fx) (mt : Nat → Option MI) : ∀ (n d j pc : Nat) (vs : List Value) (σ : St), Mo σ (Sem F mt n d j pc vs σ) := by
  intro n
  induction n with
  | zero => intro d j pc vs σ; exact mo_n _
  | succ n ih =>
    intro d j pc vs σ
    refine mo_ob _ fun M => ?_
    cases seek pc (mC M) with
    | nil => exact mo_n _
    | cons e t =>
      obtain ⟨p, i, len, cut⟩ := e
      cases cut with
      | none => exact mo_bif _ (mo_interp ih _ _ _ _ _ _ _) (mo_n _)
      | some lv => exact mo_bif _ (mo_n _) (mo_interp ih _ _ _ _ _ _ _)
