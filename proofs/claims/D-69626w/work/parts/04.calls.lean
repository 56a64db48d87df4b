/-! ===== calls that may throw, at the level of W ===== -/
def mx_Inv (p : Program) (l : Launch) (e : Env) (R : Room) (s : State) (m : MethodId) (args : Array Value) (below : List Frame) (meth : Method) (c : Code) (y : MethodName) (T : State) (locs : List Loc) (cells slots : Nat) (g : JFrame) (rest : List Value) (vs : Array Value) : Prop :=
  ∃ (vm₁ : Vm) (mk : MethodId), Stand p l e R s m args below meth c (T.setVm vm₁) locs cells slots ∧ (T.setVm vm₁).methodNamed? y = some mk ∧
    ∀ target, Steps p.tables e below (doInvoke e ((T.setVm vm₁).setTop { g with stack := rest }) [] mk vs).1 target → Steps p.tables e below (T.setTop g) target
/-- an exception is on its way through the frame g -/
def WT (p : Program) (l : Launch) (e : Env) (R : Room) (s : State) (m : MethodId) (args : Array Value) (below : List Frame) (meth : Method) (c : Code) (H : Heap) (locs : List Loc) (cells slots : Nat) (Q : State → Prop) (g : JFrame) (x : Addr) : Prop :=
  ∀ T : State, T.heap = H → Stand p l e R s m args below meth c T locs cells slots → ∃ t, Steps p.tables e below ((T.setTop g).pushFrame (.throwing x)) t ∧ Q t
section MXC
variable {p : Program} {l : Launch} {e : Env} {R : Room} {s : State} {m : MethodId} {args : Array Value} {below : List Frame} {meth : Method} {c : Code} {H : Heap} {locs : List Loc} {cells slots : Nat} {Q : State → Prop} {pc : Nat} {ls : Array Slot} {cc : ByteArray}
theorem mx_call {y : MethodName} {ws : List Cond} {rm : Room} {Pc : Array Value → State → Prop} {Qc : Array Value → State → Outcome → State → Prop} {mc ms maxL len Wd : Nat} {free : Addr → Prop} {st rest : List Value} {vs : Array Value} {ig : Instr}
    (hM : MetX l y ws rm Pc Qc mc ms free) (hb : c.code = cc)
    (hI : ∀ T : State, T.heap = H → Stand p l e R s m args below meth c T locs cells slots → mx_Inv p l e R s m args below meth c y T locs cells slots (F0 m pc ls st) rest vs)
    (hsize : ls.size = c.maxLocals) (hdg : decode cc pc = .ok (ig, len)) (hW : 2 * (F0 m pc ls rest).monitorRoom + (rest.map fun v => v.category).sum ≤ Wd) (hframes : rm.frames + 1 ≤ R.frames) (hlocals : Wd + (maxL + 11) + rm.locals ≤ R.locals)
    (hws : ∀ w ∈ ws, ∀ (a' : Array Value) (U : State), s.WarmedH U.vm → w.before a' U = true)
    (hcode : ∀ (U : State) (mk : MethodId), s.WarmedH U.vm → U.methodNamed? y = some mk → ∃ methY cY, U.vm.method? mk = some methY ∧ methY.code = some cY ∧ cY.maxLocals = maxL)
    (hinit : ∀ (a' : Array Value) (U : State), s.WarmedH U.vm → (Cond.initialized y.cls).before a' U = true)
    (hrc : rm.cells = mc) (hrs : rm.slots = ms) (hc : cells + mc ≤ R.cells) (hs : slots + ms ≤ R.slots)
    (hP : ∀ (U : State) (g' : JFrame) (mk : MethodId), U.heap = H → s.WarmedH U.vm → Pc vs (U.calling g' mk vs))
    (kr : ∀ (v : Option Value) (st0 t : State) (L : List Loc), st0.heap = H → Qc vs st0 (.returned v) t → (∀ q ∈ L, free q.base) → s.WarmedH t.vm →
      W p l e R s m args below meth c t.heap (locs ++ L) (cells + mc) (slots + ms) Q (F0 m (pc + len) ls (v.toList ++ rest)))
    (kt : ∀ (x : Addr) (st0 t : State) (L : List Loc), st0.heap = H → Qc vs st0 (.threw x) t → (∀ q ∈ L, free q.base) → s.WarmedH t.vm →
      WT p l e R s m args below meth c t.heap (locs ++ L) (cells + mc) (slots + ms) Q (F0 m pc ls rest) x) :
    W p l e R s m args below meth c H locs cells slots Q (F0 m pc ls st) := by
  intro T hT X
  obtain ⟨vm₁, mk, X₁, hn, hstep⟩ := hI T hT X
  subst hrc; subst hrs
  obtain ⟨o, t, hq, hrest⟩ := mx_back (P := Pc) (S := headSpec ws rm) (maxL := maxL) (len := len) (Wd := Wd) hM hframes hlocals X₁ (g := F0 m pc ls rest) rfl hsize (ig := ig) (by rw [hb]; exact hdg) hW hn (a := vs)
    (atoms_intro fun w hw => hws w hw _ _ X₁.warmed) (hcode _ _ X₁.warmed hn) (hinit _ _ X₁.warmed) hc hs (hP _ _ _ hT X₁.warmed)
  obtain ⟨hqc, L, hfe, hL⟩ := hq
  obtain ⟨X₂, hr, hx⟩ := hrest L _ _ hfe
  have hwt : s.WarmedH t.vm := X₂.warmed
  cases o with
  | returned v =>
    obtain ⟨u, a1, b1⟩ := kr v _ t L (by exact hT) hqc hL hwt (({ T.setVm vm₁ with heap := t.heap, slotsUsed := t.slotsUsed } : State).setVm t.vm) rfl X₂
    exact ⟨u, hstep _ ((hr v rfl).trans a1), b1⟩
  | threw x =>
    obtain ⟨u, a1, b1⟩ := kt x _ t L (by exact hT) hqc hL hwt (({ T.setVm vm₁ with heap := t.heap, slotsUsed := t.slotsUsed } : State).setVm t.vm) rfl X₂
    exact ⟨u, hstep _ ((hx x rfl).trans a1), b1⟩
/-- nobody catches: the method throws -/
theorem WT.leave {Qc : Array Value → State → Outcome → State → Prop} {free : Addr → Prop} {rest : List Value} {x : Addr} (hout : ∀ z ∈ c.exceptionTable.toList, covers z pc = false) (hlocks : meth.locks = false)
    (hq : ∀ t : State, t.heap = H → s.WarmedH t.vm → Qc args s (.threw x) t) (hf : ∀ q ∈ locs, free q.base) :
    WT p l e R s m args below meth c H locs cells slots (mx_Q below Qc args s cells slots free) (F0 m pc ls rest) x := by
  intro T hT X
  obtain ⟨h1, h2, h3, h4, h5⟩ := X.leaveThrown x (g := F0 m pc ls rest) rfl rfl rfl hout hlocks
  exact ⟨_, h1, .threw x, h2, h3, hq _ hT h4, locs, ⟨h4, h5⟩, hf⟩
theorem WT.athrow (hexec : p.tables.exec = Jvm.exec) (hb : c.code = cc) {x : Addr} {rest : List Value} (hdg : decode cc pc = .ok (.athrow, 1))
    (k : WT p l e R s m args below meth c H locs cells slots Q (F0 m pc ls rest) x) : W p l e R s m args below meth c H locs cells slots Q (F0 m pc ls (.ref x :: rest)) := by
  intro T hT X
  obtain ⟨t, a, b⟩ := k T hT X
  refine ⟨t, ?_, b⟩
  jvm_step X.here [hexec, hb, hdg, athrow.wp_sem]
  exact a
theorem mx_find {f : JFrame} {a : Addr} {e : Env} {u : State} {Qh : Handler → Pre} {E : CtlPost} {d : Bool} {acts : List Action} {z : ExceptionTableEntry} {t : List ExceptionTableEntry} {k : ClassId} {cell : Cell} (hz : covers z f.pc = true) (h0 : z.catchType ≠ 0)
    (hl : u.vm.ClassLinks e.platform f.method.cls z.catchType k) (hcell : u.heap[a]? = some cell) (hobj : ∀ k, cell.vm ≠ .statics k) (h1 : ∃ q, u.vm.classes[cell.cls]? = some q) (h2 : ∃ q, u.vm.classes[k]? = some q) (hfit : u.vm.assignable cell.cls k = true) :
    wp (findHandler.go f a (z :: t)) Qh E e d acts u ↔ Qh (.found z.handlerPc) d acts (u.setVm (u.vm.noted f.method.cls z.catchType (.cls k))) := by
  simp only [covers] at hz
  obtain ⟨ha, ht⟩ := (resolveClass_links e.toSetting hl).op (op := VmOp.resolveClass f.method.cls z.catchType) rfl
  have hal : u.vm.Alike (u.vm.noted f.method.cls z.catchType (.cls k)) := (Vm.Alike.refl u.vm).noted _ _ _
  obtain ⟨q1, hq1⟩ := h1
  obtain ⟨q2, hq2⟩ := h2
  obtain ⟨r1, hr1, -⟩ := hal.2.2 _ _ hq1
  obtain ⟨r2, hr2, -⟩ := hal.2.2 _ _ hq2
  have hfit' : (u.vm.noted f.method.cls z.catchType (.cls k)).assignable cell.cls k = true := by rw [hal.assignable]; exact hfit
  simp [findHandler.go, hz, h0, ha, ht, hcell, hobj, hr1, hr2, hfit', VmOp.dirties, VmOp.acts]
def mx_FT (e : Env) (u : State) (f : JFrame) (a : Addr) (h : Handler) (vm' : Vm) : Prop :=
  ∀ (Qh : Handler → Pre) (E : CtlPost) (d : Bool) (acts : List Action), wp (findHandler f a) Qh E e d acts u ↔ Qh h d acts (u.setVm vm')
theorem mx_catchStep {e : Env} {u : State} {a : Addr} {f : JFrame} {r : List Frame} {pc' : Nat} {vm' : Vm} (hfind : mx_FT e u f a (.found pc') vm') :
    (stepThrowing e u a (.java f :: r)).Is ((u.setVm vm').setFrames (.java { f with pc := pc', stack := [.ref a] } :: r)) [] := by
  simp only [stepThrowing, searchFrame, vmDo]
  generalize hr : Sem.go _ e false [] u = res
  obtain ⟨as, rfl, ha⟩ := Sem.eq_ok_of hr (a := Handler.found pc') (s' := u.setVm vm') (acts' := []) (by simp [hfind _ _ _ _])
  exact ⟨rfl, ha⟩
theorem mx_sfv (u : State) (vm' : Vm) (F G : List Frame) : ((u.setFrames F).setVm vm').setFrames G = (u.setVm vm').setFrames G := by
  have h1 : (u.setFrames F).setVm vm' = (u.setVm vm').setFrames F := rfl
  rw [h1, State.setFrames_setFrames]
theorem mx_caught {tb : Tables} {e : Env} {u target : State} {g : JFrame} {c : Code} {below : List Frame} {a : Addr} (h : At u g.method c below) {pc' : Nat} {vm' : Vm}
    (hfind : mx_FT e ((u.setTop g).pushFrame (.throwing a)) g a (.found pc') vm') (hrest : Steps tb e below ((u.setVm vm').setTop { g with pc := pc', stack := [.ref a] }) target) :
    Steps tb e below ((u.setTop g).pushFrame (.throwing a)) target := by
  obtain ⟨hgo, hw⟩ := h.throwing a
  refine Steps.head hgo hw ?_
  rw [stepThread_throwing (frames_entered h.top _), (mx_catchStep (u := (u.setTop g).pushFrame (.throwing a)) hfind).1]
  obtain ⟨g₀, hg⟩ := Option.isSome_iff_exists.mp h.top
  obtain ⟨r, hr⟩ := State.topJava?_eq_some.mp hg
  have hr' : (u.setVm vm').frames = .java g₀ :: r := hr
  rw [State.setTop_of_frames _ hr'] at hrest
  rw [hr, List.tail_cons, State.pushFrame, mx_sfv, State.setTop_of_frames _ hr, mx_sfv]
  exact hrest
/-- the method's one handler catches: it goes on there -/
theorem WT.caught {own C : String} {z : ExceptionTableEntry} {rest : List Value} {x : Addr} {cell : Cell} (hown : s.vm.findClass own = some m.cls) (hlink : (Cond.classLink own z.catchType C).before args s = true)
    (htab : c.exceptionTable.toList = [z]) (hz : covers z pc = true) (h0 : z.catchType ≠ 0) (hcell : H[x]? = some cell) (hobj : cell.vm = .none) (hcls : s.vm.findClass C = some cell.cls)
    (k : W p l e R s m args below meth c H locs cells slots Q (F0 m z.handlerPc ls [.ref x])) : WT p l e R s m args below meth c H locs cells slots Q (F0 m pc ls rest) x := by
  intro T hT X
  have hpl : e.platform.magicAccessors = ({} : Platform).magicAccessors := by rw [X.admits.platform]
  obtain ⟨kC, hkC, hl⟩ := Cond.classLink_spec hown hlink e.platform hpl
  obtain rfl : cell.cls = kC := Option.some.inj (hcls.symm.trans hkC)
  obtain ⟨-, hwarm, -⟩ := State.classEntry (e := e) X.warmed hl
  have hlT : T.vm.ClassLinks e.platform m.cls z.catchType cell.cls := State.WarmedH.classLinks X.warmed hl
  obtain ⟨q, hq⟩ := Vm.classAt_of_findClass hkC
  obtain ⟨q', hq', -⟩ := X.warmed.alike.2.2 _ _ hq
  obtain ⟨t, a1, b1⟩ := k (T.setVm (T.vm.noted m.cls z.catchType (.cls cell.cls))) hT (X.noted hwarm)
  refine ⟨t, ?_, b1⟩
  refine mx_caught (vm' := T.vm.noted m.cls z.catchType (.cls cell.cls)) (pc' := z.handlerPc) (g := F0 m pc ls rest) X.here ?_ a1
  intro Qh E d acts
  rw [W.findHandler_eq (meth := meth) (code := c) X.method' X.code, htab]
  exact mx_find hz h0 hlT (by show T.heap[x]? = _; rw [hT]; exact hcell) (fun k h => by rw [hobj] at h; cases h) ⟨q', hq'⟩ ⟨q', hq'⟩ (by show T.vm.assignableAux (255 + 1) cell.cls cell.cls = true; rw [Vm.assignableAux, beq_self_eq_true, Bool.true_or])
end MXC
