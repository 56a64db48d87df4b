/-! ===== soundness: fields ===== -/
def kty (k : Nat) (ty : FieldType) : Bool := match k, ty with
  | 0, .int => true
  | 1, .long => true
  | 2, .object _ => true
  | 2, .array _ => true
  | 3, .object _ => true
  | 3, .array _ => true
  | 4, .boolean => true
  | _, _ => false
/-- a field's row of the pool is right -/
def FOK (own : String) (i : Nat) (f : FInf) : Prop := ∀ t ∈ f.1,
  (t < 20 ∧ ∃ (q : vw_C) (ref : String) (ty : FieldType), clsL[t]? = some q ∧ f.2.1 < q.2.2 ∧ parseFieldDescriptor (q.2.1 f.2.1).2.2.1 = some ty ∧ kty f.2.2.1 ty = true ∧
    (Cond.fieldLink own i ref (q.2.1 f.2.1).2.1 (q.2.1 f.2.1).2.2.1 ∈ lw_all ∨ (f.2.2.2 = 0 ∧ ∃ host, Cond.fieldLinkNest own i ref (q.2.1 f.2.1).2.1 (q.2.1 f.2.1).2.2.1 host ∈ xtra)) ∧
    (ref = (q.2.1 f.2.1).1 ∨ Cond.sameField ref (q.2.1 f.2.1).1 (q.2.1 f.2.1).2.1 (q.2.1 f.2.1).2.2.1 ∈ lw_all) ∧
    (f.2.2.2 = 1 → (q.2.1 f.2.1).2.2.2 = false) ∧ (f.2.2.2 = 2 → (q.2.1 f.2.1).2.2.2 = true ∧ (q.2.1 f.2.1).1 = own)) ∨
  (t = 20 ∧ f.2.2.2 = 0 ∧ ((f.2.1 = 0 ∧ f.2.2.1 = 2 ∧ Cond.fieldLink own i "java/lang/String" "value" "[B" ∈ lw_all) ∨ (f.2.1 = 1 ∧ f.2.2.1 = 0 ∧ Cond.fieldLink own i "java/lang/String" "coder" "B" ∈ lw_all)))
section HPF
variable {p : Program} {l : Launch} {e : Env} {R : Room} {s : State} {m : MethodId} {args : Array Value} {below : List Frame} {meth : Method} {c : Code} {H : Heap} {locs : List Loc} {cells slots : Nat} {Q : State → Prop}
variable {cc : ByteArray} {pc : Nat} {ls : Array Slot} {rest : List Value}
theorem mx_getO (hexec : p.tables.exec = Jvm.exec) (hb : c.code = cc) (hts : ∀ w ∈ lw_all, w.before args s = true) {q : vw_C} (hcl : ClOK q) {own ref : String} (hown : s.vm.findClass own = some m.cls) {cC : ClassId} {iS : Nat → Nat} (hKn : u_Kn s q.1 q.2.1 q.2.2 cC iS) {a : Nat} {V : Nat → Value} (hO : t_OB a cC q.2.2 iS H V) {k index : Nat} (hk : k < q.2.2)
    (hlink : (Cond.fieldLink own index ref (q.2.1 k).2.1 (q.2.1 k).2.2.1).before args s = true ∨ ∃ host, (Cond.fieldLinkNest own index ref (q.2.1 k).2.1 (q.2.1 k).2.2.1 host).before args s = true)
    (hsame : ∀ x, s.fieldFound? (q.2.1 k).1 (q.2.1 k).2.1 (q.2.1 k).2.2.1 = some x → s.fieldFound? ref (q.2.1 k).2.1 (q.2.1 k).2.2.1 = some x) (hdg : decode cc pc = .ok (.getfield index, 3))
    (kk : W p l e R s m args below meth c H locs cells slots Q (F0 m (pc + 3) ls (V k :: rest))) : W p l e R s m args below meth c H locs cells slots Q (F0 m pc ls (.ref a :: rest)) := by
  obtain ⟨cell, q1, q2, q3, q4⟩ := hO
  obtain ⟨hS, hfc, kC, hkC, hkind⟩ := hKn
  obtain ⟨cf, kf, fi, f, hi, hsl⟩ := hS k hk
  have hst := (u_facts hfc hkC (u_lays hts hcl.1 hk) hi).1
  rcases hlink with hlink | ⟨host, hlink⟩
  · refine W.getf hexec hb hown hlink (hsame _ hi) hst q1 (by rw [q3]; exact fun h => by cases h) (v := V k) ?_ rfl rfl hdg kk
    rw [hsl, q4 k hk]
  · refine va_Wgetf hexec hb hown hlink (hsame _ hi) hst q1 (by rw [q3]; exact fun h => by cases h) (v := V k) ?_ rfl rfl hdg kk
    rw [hsl, q4 k hk]
theorem mx_putO (hexec : p.tables.exec = Jvm.exec) (hb : c.code = cc) (hts : ∀ w ∈ lw_all, w.before args s = true) {q : vw_C} (hcl : ClOK q) {own ref : String} (hown : s.vm.findClass own = some m.cls) {cC : ClassId} {iS : Nat → Nat} (hKn : u_Kn s q.1 q.2.1 q.2.2 cC iS) {a : Nat} {V : Nat → Value} (hO : t_OB a cC q.2.2 iS H V) {k index : Nat} (hk : k < q.2.2)
    (hlink : (Cond.fieldLink own index ref (q.2.1 k).2.1 (q.2.1 k).2.2.1).before args s = true)
    (hsame : ∀ x, s.fieldFound? (q.2.1 k).1 (q.2.1 k).2.1 (q.2.1 k).2.2.1 = some x → s.fieldFound? ref (q.2.1 k).2.1 (q.2.1 k).2.2.1 = some x)
    (hw : (q.2.1 k).2.2.2 = false ∨ ((q.2.1 k).2.2.2 = true ∧ (q.2.1 k).1 = own ∧ meth.name = "<init>")) {ty : FieldType} {v : Value} (hd : parseFieldDescriptor (q.2.1 k).2.2.1 = some ty) (hn : narrow ty v = v) (hfit : fits ty v = true) (hdg : decode cc pc = .ok (.putfield index, 3))
    (kk : ∀ (H1 : Heap) (b : Loc), b.base = a → t_OB a cC q.2.2 iS H1 (updV V k v) → H1.size = H.size → (∀ x, x ≠ a → H1[x]? = H[x]?) → W p l e R s m args below meth c H1 (locs ++ [b]) cells slots Q (F0 m (pc + 3) ls rest)) : W p l e R s m args below meth c H locs cells slots Q (F0 m pc ls (v :: .ref a :: rest)) := by
  obtain ⟨cell, q1, q2, q3, q4⟩ := hO
  obtain ⟨hS, hfc, kC, hkC, hkind⟩ := hKn
  obtain ⟨hin, ⟨ty0, hty⟩, hnm⟩ := hcl
  have hap : ∀ x y, x < q.2.2 → y < q.2.2 → x ≠ y → iS x ≠ iS y := by
    intro x y hx hy hne
    obtain ⟨_, _, _, fa, hia, ea⟩ := hS x hx
    obtain ⟨_, _, _, fb, hib, eb⟩ := hS y hy
    rw [← ea, ← eb]
    refine u_apart (u_lays hts hin hx) (u_lays hts hin hy) hia hib ?_
    rw [(State.fieldFound?_type hia (hty x hx)).1, (State.fieldFound?_type hib (hty y hy)).1]
    exact hnm x hx y hy hne
  obtain ⟨cf, kf, fi, f, hi, hsl⟩ := hS k hk
  have hst := (u_facts hfc hkC (u_lays hts hin hk) hi).1
  have hlay := hts _ (hin _ (u_in_lay hk))
  unfold u_lay at hlay
  rcases hw with hfin | ⟨hfin, hdecl, hin2⟩
  · rw [if_neg (by rw [hfin]; decide)] at hlay
    have h6 := u_store hfc hkC hkind hlay hi hd hn hfit
    refine W.putK hexec hb (f := f) ⟨hown, hlink, ⟨_, _, _, hsame _ hi⟩, hst⟩ (by rw [q2]; exact h6) q1 q3 (by rw [hsl]; exact k2_hasslot (q4 k hk)) rfl rfl hdg fun H' e1 e2 e3 => ?_
    rw [hsl] at e1 ⊢
    exact kk H' _ rfl ⟨_, e1, q2, q3, t_set q4 hap hk v⟩ e2 e3
  · rw [if_pos hfin] at hlay
    have hcf : m.cls = cf := by
      obtain ⟨_, _, c', _, _, _, -, -, hf', -, -, -, hown2, -⟩ := Cond.laysFinal_spec hlay
      have e1 : c' = cf := by have := hi.symm.trans hf'; simp at this; exact this.1.symm
      rw [hdecl] at hown2
      rw [← e1]; exact Option.some.inj (hown.symm.trans hown2)
    have h6 := u_fits hfc hkC hkind (Or.inr hlay) hi hd hn hfit
    refine W.putFinK hexec hb hown hlink (hsame _ hi) hst hcf hin2 (by rw [q2]; exact h6) q1 q3 (by rw [hsl]; exact k2_hasslot (q4 k hk)) rfl rfl hdg fun H' e1 e2 e3 => ?_
    rw [hsl] at e1 ⊢
    exact kk H' _ rfl ⟨_, e1, q2, q3, t_set q4 hap hk v⟩ e2 e3
end HPF
theorem fval_int {X : Cx} {F : Fx} {σ : St} {ty : FieldType} (h : kty 0 ty = true ∨ kty 4 ty = true) (a k : Nat) : fval X F σ (some ty) a k = .int (rI σ a k) := by
  rcases h with h | h <;> cases ty <;> first | rfl | cases h
theorem fval_long {X : Cx} {F : Fx} {σ : St} {ty : FieldType} (h : kty 1 ty = true) (a k : Nat) : fval X F σ (some ty) a k = .long (rJ σ a k) := by
  cases ty <;> first | rfl | cases h
theorem fval_ref {X : Cx} {F : Fx} {σ : St} {ty : FieldType} (h : kty 2 ty = true ∨ kty 3 ty = true) (a k : Nat) : fval X F σ (some ty) a k = cvo X (rR F σ a k) := by
  rcases h with h | h <;> cases ty <;> first | rfl | cases h
theorem rI_wI_ne {σ : St} {a b k j : Nat} {v : Int32} (h : b ≠ a ∨ j ≠ k) : rI (wI σ a k v) b j = rI σ b j := by
  rcases h with h | h
  · exact congrFun (up2_ne σ.2.2.1 k v h) j
  · exact up2_ne2 σ.2.2.1 v h
theorem rI_wI_same {σ : St} {a k : Nat} {v : Int32} : rI (wI σ a k v) a k = v := up2_same _ _ _ _
theorem rJ_wJ_ne {σ : St} {a b k j : Nat} {v : Int64} (h : b ≠ a ∨ j ≠ k) : rJ (wJ σ a k v) b j = rJ σ b j := by
  rcases h with h | h
  · exact congrFun (up2_ne σ.2.2.2.1 k v h) j
  · exact up2_ne2 σ.2.2.2.1 v h
theorem rJ_wJ_same {σ : St} {a k : Nat} {v : Int64} : rJ (wJ σ a k v) a k = v := up2_same _ _ _ _
theorem rR_wR_ne {F : Fx} {σ : St} {a b k j : Nat} {v : Option Nat} (h : b ≠ a ∨ j ≠ k) : rR F (wR σ a k v) b j = rR F σ b j := by
  unfold rR
  congr 1
  rcases h with h | h
  · exact congrFun (up2_ne σ.2.2.2.2.1 k v h) j
  · exact up2_ne2 σ.2.2.2.2.1 v h
theorem rR_wR_same {F : Fx} {σ : St} {a k : Nat} {v : Option Nat} (h : (fR F a k).isNone = true) : rR F (wR σ a k v) a k = v := by
  unfold rR
  cases hf : fR F a k with
  | none => exact up2_same _ _ _ _
  | some b => rw [hf] at h; cases h
theorem up_wI {X : Cx} {F : Fx} {σ : St} {ft : Nat → Option FieldType} {ty : FieldType} {a k : Nat} {v : Int32} (hk : ft k = some ty) (h : kty 0 ty = true ∨ kty 4 ty = true) (j : Nat) :
    updV (fun j => fval X F σ (ft j) a j) k (.int v) j = fval X F (wI σ a k v) (ft j) a j := by
  unfold updV
  by_cases hj : j = k
  · subst hj
    rw [if_pos rfl, hk, fval_int h, rI_wI_same]
  · rw [if_neg hj]
    unfold fval
    rw [rI_wI_ne (Or.inr hj)]
    rfl
theorem up_wJ {X : Cx} {F : Fx} {σ : St} {ft : Nat → Option FieldType} {ty : FieldType} {a k : Nat} {v : Int64} (hk : ft k = some ty) (h : kty 1 ty = true) (j : Nat) :
    updV (fun j => fval X F σ (ft j) a j) k (.long v) j = fval X F (wJ σ a k v) (ft j) a j := by
  unfold updV
  by_cases hj : j = k
  · subst hj
    rw [if_pos rfl, hk, fval_long h, rJ_wJ_same]
  · rw [if_neg hj]
    unfold fval
    rw [rJ_wJ_ne (Or.inr hj)]
    rfl
theorem up_wR {X : Cx} {F : Fx} {σ : St} {ft : Nat → Option FieldType} {ty : FieldType} {a k : Nat} {v : Option Nat} (hk : ft k = some ty) (h : kty 2 ty = true ∨ kty 3 ty = true) (hf : (fR F a k).isNone = true) (j : Nat) :
    updV (fun j => fval X F σ (ft j) a j) k (cvo X v) j = fval X F (wR σ a k v) (ft j) a j := by
  unfold updV
  by_cases hj : j = k
  · subst hj
    rw [if_pos rfl, hk, fval_ref h, rR_wR_same hf]
  · rw [if_neg hj]
    unfold fval
    rw [rR_wR_ne (Or.inr hj)]
    rfl
