/-! ===== soundness: the ground ===== -/
theorem ob_inv {α : Type} {o : Option α} {k : α → Res} {z : Out × St} (h : ob o k = some z) : ∃ x, o = some x ∧ k x = some z := by
  cases o with
  | none => cases h
  | some x => exact ⟨x, rfl, h⟩
theorem bif_inv {b : Bool} {r : Res} {z : Out × St} (h : (bif b then r else none) = some z) : b = true ∧ r = some z := by
  cases b
  · cases h
  · exact ⟨rfl, h⟩
theorem pI_inv {st : List Value} {k : Int32 → List Value → Res} {z : Out × St} (h : pI st k = some z) : ∃ x r, st = .int x :: r ∧ k x r = some z := by
  rcases st with _ | ⟨v, r⟩
  · cases h
  · cases v <;> first | exact ⟨_, _, rfl, h⟩ | cases h
theorem pJ_inv {st : List Value} {k : Int64 → List Value → Res} {z : Out × St} (h : pJ st k = some z) : ∃ x r, st = .long x :: r ∧ k x r = some z := by
  rcases st with _ | ⟨v, r⟩
  · cases h
  · cases v <;> first | exact ⟨_, _, rfl, h⟩ | cases h
theorem pA_inv {st : List Value} {k : Nat → List Value → Res} {z : Out × St} (h : pA st k = some z) : ∃ x r, st = .ref x :: r ∧ k x r = some z := by
  rcases st with _ | ⟨v, r⟩
  · cases h
  · cases v <;> first | exact ⟨_, _, rfl, h⟩ | cases h
theorem pN_inv {st : List Value} {k : Nat → List Value → Res} {n : List Value → Res} {z : Out × St} (h : pN st k n = some z) : (∃ x r, st = .ref x :: r ∧ k x r = some z) ∨ (∃ r, st = .null :: r ∧ n r = some z) := by
  rcases st with _ | ⟨v, r⟩
  · cases h
  · cases v <;> first | exact Or.inl ⟨_, _, rfl, h⟩ | exact Or.inr ⟨_, rfl, h⟩ | cases h
theorem pII_inv {st : List Value} {k : Int32 → Int32 → List Value → Res} {z : Out × St} (h : pII st k = some z) : ∃ x y r, st = .int y :: .int x :: r ∧ k x y r = some z := by
  rcases st with _ | ⟨v, _ | ⟨w, r⟩⟩
  · cases h
  · cases v <;> cases h
  · cases v <;> cases w <;> first | exact ⟨_, _, _, rfl, h⟩ | cases h
theorem pJJ_inv {st : List Value} {k : Int64 → Int64 → List Value → Res} {z : Out × St} (h : pJJ st k = some z) : ∃ x y r, st = .long y :: .long x :: r ∧ k x y r = some z := by
  rcases st with _ | ⟨v, _ | ⟨w, r⟩⟩
  · cases h
  · cases v <;> cases h
  · cases v <;> cases w <;> first | exact ⟨_, _, _, rfl, h⟩ | cases h
theorem pJI_inv {st : List Value} {k : Int64 → Int32 → List Value → Res} {z : Out × St} (h : pJI st k = some z) : ∃ x y r, st = .int y :: .long x :: r ∧ k x y r = some z := by
  rcases st with _ | ⟨v, _ | ⟨w, r⟩⟩
  · cases h
  · cases v <;> cases h
  · cases v <;> cases w <;> first | exact ⟨_, _, _, rfl, h⟩ | cases h
theorem pAA_inv {st : List Value} {k : Nat → Nat → List Value → Res} {z : Out × St} (h : pAA st k = some z) : ∃ x y r, st = .ref y :: .ref x :: r ∧ k x y r = some z := by
  rcases st with _ | ⟨v, _ | ⟨w, r⟩⟩
  · cases h
  · cases v <;> cases h
  · cases v <;> cases w <;> first | exact ⟨_, _, _, rfl, h⟩ | cases h
theorem pV_inv {st : List Value} {k : Value → List Value → Res} {z : Out × St} (h : pV st k = some z) : ∃ x r, st = x :: r ∧ k x r = some z := by
  rcases st with _ | ⟨v, r⟩
  · cases h
  · exact ⟨_, _, rfl, h⟩
theorem pVV_inv {st : List Value} {k : Value → Value → List Value → Res} {z : Out × St} (h : pVV st k = some z) : ∃ x y r, st = x :: y :: r ∧ k x y r = some z := by
  rcases st with _ | ⟨v, _ | ⟨w, r⟩⟩
  · cases h
  · cases h
  · exact ⟨_, _, _, rfl, h⟩
theorem ldl_inv {n i : Nat} {ls : Lcs} {f : Value → Res} {z : Out × St} (h : ldl n i ls f = some z) : ∃ v, lkN i ls = some v ∧ f v = some z ∧ ((n = 0 ∧ ∃ x, v = .int x) ∨ (n = 1 ∧ ∃ x, v = .long x) ∨ (n = 2 ∧ ((∃ x, v = .ref x) ∨ v = .null))) := by
  obtain ⟨v, hv, h⟩ := ob_inv h
  refine ⟨v, hv, ?_⟩
  rcases n with _ | _ | _ | n <;> cases v <;> first | exact ⟨h, Or.inl ⟨rfl, _, rfl⟩⟩ | exact ⟨h, Or.inr (Or.inl ⟨rfl, _, rfl⟩)⟩ | exact ⟨h, Or.inr (Or.inr ⟨rfl, Or.inl ⟨_, rfl⟩⟩)⟩ | exact ⟨h, Or.inr (Or.inr ⟨rfl, Or.inr rfl⟩)⟩ | cases h
theorem lkN_mem {α : Type} {i : Nat} {l : List (Nat × α)} {v : α} (h : lkN i l = some v) : (i, v) ∈ l := by
  induction l with
  | nil => cases h
  | cons q t ih =>
    unfold lkN at h
    cases hb : Nat.beq q.1 i with
    | true =>
      rw [hb] at h
      obtain ⟨a, b⟩ := q
      have e1 : a = i := Nat.eq_of_beq_eq_true hb
      have e2 : b = v := Option.some.inj h
      subst e1; subst e2
      exact List.mem_cons_self
    | false =>
      rw [hb] at h
      exact List.mem_cons_of_mem _ (ih h)
theorem memN_mem {i : Nat} {l : List Nat} (h : memN i l = true) : i ∈ l := by
  induction l with
  | nil => cases h
  | cons q t ih =>
    simp only [memN, Bool.or_eq_true] at h
    rcases h with h | h
    · rw [Nat.eq_of_beq_eq_true h]; exact List.mem_cons_self
    · exact List.mem_cons_of_mem _ (ih h)
theorem seek_sub {p : Nat} {l : List Ent} : ∀ e ∈ seek p l, e ∈ l := by
  induction l with
  | nil => intro e h; exact h
  | cons q t ih =>
    intro e h
    unfold seek at h
    cases hb : Nat.beq q.1 p with
    | true => rw [hb] at h; exact h
    | false => rw [hb] at h; exact List.mem_cons_of_mem _ (ih e h)
theorem gath_get {lv : List Nat} {ls : Lcs} {vs : List Value} (h : gath lv ls = some vs) : vs.length = lv.length ∧ ∀ q ∈ lv.zip vs, q ∈ ls := by
  induction lv generalizing vs with
  | nil =>
    cases h
    exact ⟨rfl, fun q hq => by cases hq⟩
  | cons i t ih =>
    unfold gath at h
    cases h1 : lkN i ls with
    | none => rw [h1] at h; cases h
    | some v =>
      rw [h1] at h
      cases h2 : gath t ls with
      | none => rw [h2] at h; cases h
      | some r =>
        rw [h2] at h
        cases h
        obtain ⟨e1, e2⟩ := ih h2
        refine ⟨by simp [e1], fun q hq => ?_⟩
        rcases List.mem_cons.mp hq with e | e
        · rw [e]; exact lkN_mem h1
        · exact e2 q e
theorem cv_cat {X : Cx} (hV : xV X = .null ∨ ∃ q, xV X = .ref q) (v : Value) : (cv X v).category = v.category := by
  cases v with
  | ref a =>
    unfold cv
    cases hb : Nat.beq a 5 with
    | true =>
      simp only [hb, cond_true]
      rcases hV with h | ⟨q, h⟩ <;> rw [h] <;> rfl
    | false => simp only [hb, cond_false]; rfl
  | _ => rfl
theorem cats_eq {X : Cx} (hV : xV X = .null ∨ ∃ q, xV X = .ref q) (l : List Value) : ((l.map (cv X)).map fun v => v.category).sum = cats l := by
  induction l with
  | nil => rfl
  | cons v t ih =>
    simp only [List.map_cons, List.sum_cons, cats, cv_cat hV]
    simp only [List.map_map] at ih ⊢
    rw [ih]
theorem cvl_sto1 {X : Cx} (hV : xV X = .null ∨ ∃ q, xV X = .ref q) (i : Nat) (v : Value) (l : Lcs) : (i, cv X v) :: (cvl X l).filter (fun q => !(q.1 == i) && !(q.1 + 1 == i && q.2.category == 2)) = cvl X (sto1 i v l) := by
  unfold cvl sto1
  rw [List.map_cons, List.filter_map]
  congr 2
  congr 1
  funext q
  simp only [Function.comp, cv_cat hV]
theorem cvl_sto2 {X : Cx} (hV : xV X = .null ∨ ∃ q, xV X = .ref q) (i : Nat) (v : Value) (l : Lcs) : (i, cv X v) :: (cvl X l).filter (fun q => !(q.1 == i) && (!(q.1 == i + 1) && !(q.1 + 1 == i && q.2.category == 2))) = cvl X (sto2 i v l) := by
  unfold cvl sto2
  rw [List.map_cons, List.filter_map]
  congr 2
  congr 1
  funext q
  simp only [Function.comp, cv_cat hV]
theorem cvl_mem {X : Cx} {i : Nat} {v : Value} {l : Lcs} (h : lkN i l = some v) : (i, cv X v) ∈ cvl X l := List.mem_map.mpr ⟨(i, v), lkN_mem h, rfl⟩
theorem lv_get {X : Cx} {lsA : Array Slot} {n i : Nat} {v : Value} {l : Lcs} (hL : lv_has lsA n (cvl X l)) (h : lkN i l = some v) : lsA[i]? = some (.val (cv X v)) := hL.2.2 _ (cvl_mem h)
theorem cv_ref {X : Cx} {a : Nat} (h : a ≠ 5) : cv X (.ref a) = .ref (adr X a) := by
  have : Nat.beq a 5 = false := by rw [Bool.eq_false_iff, ne_eq, Nat.beq_eq]; exact h
  simp [cv, this]
/-- what is fixed in an invocation of the method M at depth d that ends with res -/
def Sc (X : Cx) (F : Fx) (p : Program) (e : Env) (R : Room) (s : State) (m : MethodId) (args : Array Value) (meth : Method) (c : Code) (M : MI) (d n0 m0 : Nat) (res : Out × St) : Prop :=
  p.tables.exec = Jvm.exec ∧ c.code = mB M ∧ meth.sig.returnType = mR M ∧ meth.locks = false ∧ c.maxLocals = mL M ∧ s.vm.findClass (mK M).1 = some m.cls ∧ (∀ w ∈ lw_all, w.before args s = true) ∧ KF X s ∧
  c.exceptionTable.toList.map (fun z => (z.startPc, z.endPc, z.handlerPc, z.catchType)) = mH M ∧ meth.name = (mY M).name ∧ e.platform.stackTraces = false ∧
  (R.frames = d + 8 ∧ R.locals = 64 * d + 512 ∧ R.cells = nx res.2 - n0 ∧ R.slots = sl res.2 - m0) ∧ (∀ e ∈ mC M, decode (mB M) e.1 = .ok (e.2.1, e.2.2.1)) ∧ (5 < F.1 ∧ F.2.1 5 = 255)
def cvOut (X : Cx) (o : Out) : Outcome := match o with
  | .inl v => .returned (v.map (cv X))
  | .inr a => .threw (adr X a)
def QcA (X : Cx) (F : Fx) (r : Out × St) : Array Value → State → Outcome → State → Prop := fun _ st o t =>
  o = cvOut X r.1 ∧ (∀ a, r.1 = .inr a → tg F r.2 a = 21) ∧ Wd X F r.2 t.heap ∧ st.heap.size ≤ t.heap.size ∧ ∀ q, q < st.heap.size → ¬ Aq X q → t.heap[q]? = st.heap[q]?
def PcA (X : Cx) (F : Fx) (vs : List Value) (σ : St) : Array Value → State → Prop := fun a U => a = (vs.map (cv X)).toArray ∧ Wd X F σ U.heap ∧ KF X U
/-- the machine, at an abstract frame, comes to the end res -/
def WA (X : Cx) (F : Fx) (p : Program) (l : Launch) (e : Env) (R : Room) (s : State) (m : MethodId) (args : Array Value) (below : List Frame) (meth : Method) (c : Code) (M : MI) (n0 m0 : Nat) (res : Out × St) (pc : Nat) (ls : Lcs) (st : List Value) (σ : St) : Prop :=
  ∀ (H : Heap) (locs : List Loc) (lsA : Array Slot), Wd X F σ H → va_S (Aq X) s.heap H locs → lv_has lsA (mL M) (cvl X ls) → n0 ≤ nx σ → m0 ≤ sl σ →
    W p l e R s m args below meth c H locs (nx σ - n0) (sl σ - m0) (mx_Q below (QcA X F res) args s (nx res.2 - n0) (sl res.2 - m0) (Aq X)) (F0 m pc lsA (st.map (cv X)))
section SND
variable {X : Cx} {F : Fx} {p : Program} {l : Launch} {e : Env} {R : Room} {s : State} {m : MethodId} {args : Array Value} {below : List Frame} {meth : Method} {c : Code} {M : MI} {d n0 m0 : Nat} {res : Out × St}
/-- rows that change neither heap nor locals -/
theorem wa_st {pc pc' : Nat} {ls : Lcs} {st st' : List Value} {σ : St}
    (h : ∀ (H : Heap) (locs : List Loc) (lsA : Array Slot) (cs ss : Nat), lv_has lsA (mL M) (cvl X ls) → W p l e R s m args below meth c H locs cs ss (mx_Q below (QcA X F res) args s (nx res.2 - n0) (sl res.2 - m0) (Aq X)) (F0 m pc' lsA (st'.map (cv X))) → W p l e R s m args below meth c H locs cs ss (mx_Q below (QcA X F res) args s (nx res.2 - n0) (sl res.2 - m0) (Aq X)) (F0 m pc lsA (st.map (cv X))))
    (k : WA X F p l e R s m args below meth c M n0 m0 res pc' ls st' σ) : WA X F p l e R s m args below meth c M n0 m0 res pc ls st σ :=
  fun H locs lsA hW hV hL h1 h2 => h H locs lsA _ _ hL (k H locs lsA hW hV hL h1 h2)
theorem wa_ret {pc : Nat} {ls : Lcs} {st : List Value} {σ : St} {v : Option Value} (hr : res = (.inl v, σ))
    (h : ∀ (H : Heap) (locs : List Loc) (lsA : Array Slot) (Qc : Array Value → State → Outcome → State → Prop), (∀ t : State, t.heap = H → s.WarmedH t.vm → Qc args s (.returned (v.map (cv X))) t) → (∀ q ∈ locs, Aq X q.base) →
      W p l e R s m args below meth c H locs (nx σ - n0) (sl σ - m0) (MQ below Qc args s (nx σ - n0) (sl σ - m0) (Aq X)) (F0 m pc lsA (st.map (cv X)))) :
    WA X F p l e R s m args below meth c M n0 m0 res pc ls st σ := by
  subst hr
  intro H locs lsA hW hV hL h1 h2
  refine mx_mono (mx_ofMQ (mc := nx σ - n0) (ms := sl σ - m0)) (h H locs lsA (QcA X F (.inl v, σ)) (fun t ht _ => ⟨rfl, fun a q => (by cases q), by rw [ht]; exact hW, by rw [ht]; exact hV.1, fun q h3 h4 => by rw [ht]; exact hV.2.1 q h3 h4⟩) hV.2.2)
end SND
