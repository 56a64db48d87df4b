/-! ===== soundness: an IllegalStateException is made ===== -/
abbrev tISE : String := "java/lang/IllegalStateException"
abbrev tTHR : String := "java/lang/Throwable"
theorem thr_atoms {X : Cx} {args : Array Value} {s : State} (hts : ∀ w ∈ lw_all, w.before args s = true) (hKF : KF X s) : ∀ w ∈ Bundle.throwableAtoms, w.before args s = true := by
  obtain ⟨u0, sen, -, -, h3, h4⟩ := hKF.2.2.2.2.2.2.2.2.2.2.2.2.2
  have l3 : (Cond.laysStatic tTHR "UNASSIGNED_STACK" "[Ljava/lang/StackTraceElement;").before args s = true := by
    obtain ⟨c, k, i, f, a, cell, hc, hi, hst, ha, hcell, hs, hcls, hlt, hty⟩ := Cond.laysStatic_spec h3
    exact Cond.laysStatic_of hc hi hst ha hcell hs hcls hlt hty
  have l4 : (Cond.laysStatic tTHR "SUPPRESSED_SENTINEL" "Ljava/util/List;").before args s = true := by
    obtain ⟨c, k, i, f, a, cell, hc, hi, hst, ha, hcell, hs, hcls, hlt, hty⟩ := Cond.laysStatic_spec h4
    exact Cond.laysStatic_of hc hi hst ha hcell hs hcls hlt hty
  exact List.forall_mem_cons.mpr ⟨hts _ q194, List.forall_mem_cons.mpr ⟨hts _ q434, List.forall_mem_cons.mpr ⟨hts _ q443, List.forall_mem_cons.mpr ⟨hts _ q445, List.forall_mem_cons.mpr ⟨hts _ q448, List.forall_mem_cons.mpr ⟨hts _ q450, List.forall_mem_cons.mpr ⟨hts _ q435, List.forall_mem_cons.mpr ⟨hts _ q436, List.forall_mem_cons.mpr ⟨hts _ q227, List.forall_mem_cons.mpr ⟨hts _ q228, List.forall_mem_cons.mpr ⟨hts _ q437, List.forall_mem_cons.mpr ⟨hts _ q442, List.forall_mem_cons.mpr ⟨hts _ q446, List.forall_mem_cons.mpr ⟨hts _ q462, List.forall_mem_cons.mpr ⟨hts _ q424, List.forall_mem_cons.mpr ⟨hts _ q463, List.forall_mem_cons.mpr ⟨hts _ q426, List.forall_mem_cons.mpr ⟨hts _ q464, List.forall_mem_cons.mpr ⟨hts _ q428, List.forall_mem_cons.mpr ⟨hts _ q438, List.forall_mem_cons.mpr ⟨l3, List.forall_mem_cons.mpr ⟨hts _ q440, List.forall_mem_cons.mpr ⟨l4, List.forall_mem_cons.mpr ⟨hts _ q430, fun _ h => absurd h List.not_mem_nil⟩⟩⟩⟩⟩⟩⟩⟩⟩⟩⟩⟩⟩⟩⟩⟩⟩⟩⟩⟩⟩⟩⟩⟩
theorem chn_atoms {X : Cx} {args : Array Value} {s : State} (hts : ∀ w ∈ lw_all, w.before args s = true) (hKF : KF X s) : ∀ w ∈ Bundle.chain0Atoms tISE ["java/lang/RuntimeException", "java/lang/Exception"], w.before args s = true := by
  have hd : ∀ {w : Cond} {i : Nat}, xtra[i]? = some w → w.before args s = true := fun {w i} h =>
    va_Nw.use (xtra_t (xtra_k w (List.mem_of_getElem? h))) (hKF.2.2.2.2.2.2.2.2.2.2.1 _ (List.mem_of_getElem? h))
  exact List.forall_mem_cons.mpr ⟨hts _ q452, List.forall_mem_cons.mpr ⟨hts _ q453, List.forall_mem_cons.mpr ⟨hts _ q454, List.forall_mem_cons.mpr ⟨hts _ q455, List.forall_mem_cons.mpr ⟨hd (i := 35) rfl, List.forall_mem_cons.mpr ⟨hts _ q455, List.forall_mem_cons.mpr ⟨hts _ q456, List.forall_mem_cons.mpr ⟨hts _ q457, List.forall_mem_cons.mpr ⟨hts _ q458, List.forall_mem_cons.mpr ⟨hd (i := 36) rfl, List.forall_mem_cons.mpr ⟨hts _ q458, List.forall_mem_cons.mpr ⟨hts _ q459, List.forall_mem_cons.mpr ⟨hts _ q460, List.forall_mem_cons.mpr ⟨hts _ q435, List.forall_mem_cons.mpr ⟨hd (i := 37) rfl, fun _ h => absurd h List.not_mem_nil⟩⟩⟩⟩⟩⟩⟩⟩⟩⟩⟩⟩⟩⟩⟩
section ISE
variable {p : Program} {l : Launch} {e : Env} {R : Room} {s : State} {m₀ : MethodId} {args : Array Value} {below : List Frame} {meth : Method} {c : Code} {W0 : State} {locs : List Loc} {cells slots : Nat}
set_option maxHeartbeats 4000000 in
theorem mx_ise0 (XX : Stand p l e R s m₀ args below meth c W0 locs cells slots) (hexec : p.tables.exec = Jvm.exec) (htr : e.platform.stackTraces = false) {own : String} {ic : Nat} (hts : ∀ w ∈ lw_all, w.before args s = true) {X : Cx} (hKF : KF X s)
    (hown : s.vm.findClass own = some m₀.cls) (hlink : (Cond.methodLink own ic iseInit).before args s = true) (hold : ∀ q, q < s.heap.size → ¬ Aq X q → W0.heap[q]? = s.heap[q]?)
    {a : Addr} {cX : ClassId} {kX : Class} (hfoundX : s.vm.findClass tISE = some cX) (hkX : s.vm.classes[cX]? = some kX) (hcell : W0.heap[a]? = some (freshCell cX kX)) (hnew : Aq X a)
    {g : JFrame} (hg : g.method = m₀) (hsize : g.locals.size = c.maxLocals) {rest : List Value} (hstack : g.stack = .ref a :: rest)
    (hd6 : decode c.code g.pc = .ok (.invokespecial ic, 3))
    (hRframes : 5 < R.frames) (hRlocals : 2 * g.monitorRoom + (rest.map fun v => v.category).sum + 80 ≤ R.locals) :
    ∃ (vm' : Vm) (cl : Cell) (L : List Loc), cl.cls = cX ∧ cl.vm = .none ∧ (∀ q ∈ L, q.base = a) ∧ Stand p l e R s m₀ args below meth c ((W0.setVm vm').setCell a cl) (locs ++ L) cells slots ∧
      ∀ target, Steps p.tables e below (((W0.setVm vm').setCell a cl).setTop { g with pc := g.pc + 3, stack := rest }) target → Steps p.tables e below (W0.setTop g) target := by
  have howns : e.platform.frameOwnsMonitors = true := by rw [XX.admits.platform]
  have hfin : e.platform.finalization = false := by rw [XX.admits.platform]
  have hpl : e.platform.magicAccessors = ({} : Platform).magicAccessors := by rw [XX.admits.platform]
  obtain ⟨T, Z, L, LZ, Y⟩ := ThrowableC.of_atoms (args := args) howns hfin hpl (thr_atoms hts hKF)
  obtain ⟨P1, Ps, hlen, L1, hL, hP1m, hlink1, hlink2⟩ := Bundle.chain0 (args := args) hpl Y.init0 ["java/lang/RuntimeException", "java/lang/Exception"] tISE (by decide +kernel) (by decide +kernel) (chn_atoms hts hKF)
  have hfound : s.vm.findClass tISE = some P1.m.cls := findClass_of_methodNamed hP1m
  cases Option.some.inj (hfoundX.symm.trans hfound)
  obtain ⟨c1, kX', hc1, hk, hord, -, -, hn6⟩ := Cond.instantiable_spec (hts _ q413)
  cases Option.some.inj (hc1.symm.trans hfound)
  cases Option.some.inj (hkX.symm.trans hk)
  have hsel0 : selectMethod e.platform s.vm P1.m.cls T.fill0 = .method T.fill0 := by
    obtain ⟨c2, r2, m2, q1, q2, q3, q4, -⟩ := Cond.selects_spec (hts _ q421)
    cases Option.some.inj (q1.symm.trans hfound)
    cases Option.some.inj (q2.symm.trans (State.methodFound?_of_named Y.fill0 (by decide)))
    cases Option.some.inj (q3.symm.trans Y.fill0)
    rw [Launch.admits_selectMethod XX.admits]; exact q4
  have hselF : selectMethod e.platform s.vm P1.m.cls T.fill = .method T.fill := by
    obtain ⟨c2, r2, m2, q1, q2, q3, q4, -⟩ := Cond.selects_spec (hts _ q422)
    cases Option.some.inj (q1.symm.trans hfound)
    cases Option.some.inj (q2.symm.trans (State.methodFound?_of_named Y.fill (by decide)))
    cases Option.some.inj (q3.symm.trans Y.fill)
    rw [Launch.admits_selectMethod XX.admits]; exact q4
  obtain ⟨u0, sen, ⟨_, _, _, _, aS, cellS, z1, z2, z3, z4, z5, z6, z7, z8⟩, ⟨_, _, _, _, aS', cellS', y1, y2, y3, y4, y5, y6, y7, y8⟩, -, -⟩ := hKF.2.2.2.2.2.2.2.2.2.2.2.2.2
  cases Y.unassigned.symm.trans z1
  cases Y.sentinel.symm.trans y1
  cases L.statics.symm.trans z4
  cases L.statics.symm.trans y4
  cases z5.symm.trans y5
  have hcellS : W0.heap[T.aS]? = some cellS := by
    rw [hold _ (Array.getElem?_eq_some_iff.mp z5).1 z8]
    exact z5
  have hknownS : cellS.vm ≠ .unknown := fun hu => by rw [hu] at z6; cases z6
  have hneS : T.aS ≠ a := fun e0 => z8 (by rw [e0]; exact hnew)
  obtain ⟨ci198, i198, fB, hk198, hg198, ha198, hsB, -, hnB, htB, hffB⟩ := Cond.ownField (t := .object "java/lang/Object") Y.found L.cls (by decide +kernel) (hts _ q433) (hts _ q432) e.platform hpl
  obtain ⟨tyC, dC, hdC, hdnC⟩ := Cond.laysAt hfound hk Y.cause (hts _ q423)
  obtain ⟨tyS, dS, hdS, hdnS⟩ := Cond.laysAt hfound hk Y.stack (hts _ q425)
  obtain ⟨tyP, dP, hdP, hdnP⟩ := Cond.laysAt hfound hk Y.supp (hts _ q427)
  obtain ⟨tyB, dB, hdB, hdnB⟩ := Cond.laysAt hfound hk hffB (hts _ q431)
  have bC := Cond.laysApart hdB hdC hdnB hdnC (by rw [hnB, Y.causeName]; decide)
  have bS := Cond.laysApart hdB hdS hdnB hdnS (by rw [hnB, Y.stackName]; decide)
  have bP := Cond.laysApart hdB hdP hdnB hdnP (by rw [hnB, Y.suppName]; decide)
  have hskip : SkipFacts T e.platform s (fun u => u) u0 ((preparedCellV T.toThrowableT (freshCell P1.m.cls kX) a u0 sen).withEntry W0.cur) :=
    ⟨{ ci198 := ci198, i198 := i198, fBack := fB }, ⟨hk198, hg198, ha198, hsB⟩, by
      have := fresh_default (c := P1.m.cls) tyB
      rw [htB] at this
      simpa [preparedCellV, Cell.setSlot, Cell.withEntry, Array.getElem?_setIfInBounds, bC, bS, bP, bC.symm, bS.symm, bP.symm, defaultValue] using this, fun _ _ => rfl⟩
  obtain ⟨tm, methC, cdC, kC, vm₁, hnC, -, -, -, -, -, -, -, hW₁, st1⟩ := Steps.initCold (tb := p.tables) (e := e) (below := below) (s := s) (U := W0) XX.here hexec XX.warmed hpl hown (t := Bundle.init0 tISE) rfl rfl (by decide)
    hlink (hts _ q452) (bytes := Bundle.five) (maxL := 1) (hts _ q453)
    (f := g) hg (a := a) (rest := rest) hstack hd6
  cases Option.some.inj (hnC.symm.trans hP1m)
  have X₁ := XX.noted hW₁
  have hlen2 : (P1 :: Ps).length = 3 := by simp [hlen]
  obtain ⟨vm₂, X₂, st2⟩ := X₁.ctorPlainOffV hexec (g := { g with stack := rest }) hg hsize T L Z LZ (P1 :: Ps)
    (fun P hP => by rcases List.mem_cons.mp hP with rfl | hP; exact L1; exact hL P hP) ⟨hlink1, hlink2⟩ (u0 := u0) (sen := sen) (self := a) (cell := freshCell P1.m.cls kX) (cellS := cellS)
    hcell (fun _ => by simp) (by simp) rfl rfl hsel0 hselF hcellS hneS hknownS z7 y7
    (Takes.of_laid hk hord tyC (by rw [Y.causeType]; rfl)) (Takes.of_laid hk hord tyS (by rw [Y.stackType]; exact fits_refV_array _ u0)) (Takes.of_laid hk hord tyP (by rw [Y.suppType]; exact fits_refV_object _ sen)) Y.objLocals hskip htr [] hd6
    (by rw [hlen2]; omega) (by rw [hlen2]; exact hRlocals)
  refine ⟨vm₂, _, _, ?_, ?_, ?_, X₂, fun target hrest => st1 _ (fun acts => ?_)⟩
  · rfl
  · rfl
  · intro q hq
    simp only [List.mem_cons, List.not_mem_nil, or_false] at hq
    rcases hq with rfl | rfl | rfl | rfl <;> rfl
  · rw [doInvoke_state]
    exact st2 _ hrest
end ISE
