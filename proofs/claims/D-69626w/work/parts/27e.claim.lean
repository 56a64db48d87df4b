/-! ===== the claim out of the law's run in plain Lean ===== -/
def R_law : String := "MakingHouseLaw"
def lw_P (b : Addr) (xs : List Int32) (args : Array Value) (s : State) : Prop := args = #[.ref b] ∧ s.IntsAt b xs ∧ xs.length ≤ 448 ∧ (Jvm.Cond.and given_1 narrow_1).before args s = true
def lw_Q (_ : Array Value) (s : State) (o : Outcome) (t : State) : Prop := o = .returned (some (.int 1)) ∧ Framed s o t [] 601024 7293034
def lw_Z (below : List Frame) (a : Array Value) (s : State) : State → Prop := fun t => ∃ o, t.status = .running ∧ Ended t below o ∧ lw_Q a s o t
def lw_At (p : Program) (s : State) (m : MethodId) (meth : Method) (c : Code) (b L : Nat) (xs : Nat → Int32) : Prop :=
  p.tables.exec = Jvm.exec ∧ c.code = code ∧ meth.sig.returnType = ret ∧ c.maxLocals = 4 ∧ s.vm.findClass R_law = some m.cls ∧ (∀ w ∈ lw_tbl, w.before #[Value.ref b] s = true) ∧ va_X b L xs s s.heap ∧ b < s.heap.size ∧ meth.locks = false ∧ (Jvm.Cond.and given_1 narrow_1).before #[Value.ref b] s = true
/-- what is left: the law's loop, from the two objects made, in plain Lean -/
def PlainLaw : Prop := ∀ (L : Nat) (xs : Nat → Int32), L ≤ 448 → ∃ τ, DD L 1000 21 18 [.ref 0, .ref 16, .ref 714, .int 0] (sw xs fin2) = some (.inl (some (.int 1)), τ) ∧ nx τ ≤ 601040 ∧ sl τ ≤ 7293034
theorem start_run {p : Program} {e : Env} {s : State} {m : MethodId} {below : List Frame} {meth : Method} {c : Code} (l : Launch) (hfl : l.flags = pinnedFlags ++ [noTraceFlag]) {b L : Nat} {xs : Nat → Int32} (C0 : lw_At p s m meth c b L xs)
    (hex : c.exceptionTable.toList.map (fun z => (z.startPc, z.endPc, z.handlerPc, z.catchType)) = mH ML_law) (hnm : meth.name = (mY ML_law).name) (htr : e.platform.stackTraces = false) {n : Nat} {τ : St}
    (hr : Sem (FF L) MT n 1000 21 18 [.ref 0, .ref 16, .ref 714, .int 0] (sw xs fin2) = some (.inl (some (.int 1)), τ)) (h1 : nx τ ≤ 601040) (h2 : sl τ ≤ 7293034) :
    W p l e room_1 s m #[Value.ref b] below meth c s.heap [] 0 0 (lw_Z below #[Value.ref b] s) (entryFrame m ([Value.ref b] : List Value).toArray 4) := by
  obtain ⟨c1, c2, c3, c4, c5, c6, c7, c8, c9, c10⟩ := C0
  obtain ⟨X, hB, hK, hW, hb0, o0, o3⟩ := start_X c6 c7 c8 c10
  obtain ⟨e0, t, hsk, hpc, hgo⟩ := law_go (n := n) hr
  have hS : Sc X FI p e { frames := 1008, cells := nx τ - 16, slots := sl τ - 0, locals := 64512 } s m #[Value.ref b] meth c ML_law 1000 16 0 (.inl (some (.int 1)), unfix L τ) :=
    ⟨c1, c2, c3, c9, c4, c5, fun w hw => c6 w (lw_all_tbl hw), hK, hex, hnm, htr, ⟨rfl, rfl, rfl, rfl⟩, okL_law.2.2.1, (by decide), rfl⟩
  obtain ⟨-, q2⟩ := run_ok (below := below) hS okL_law (cutL (n := n) hfl hS hB o0 o3) (clL hfl) _ e0 t _ _ _ (fun z hz => seek_sub z (by rw [hsk]; exact hz)) hgo
  have hcv : cv X (.ref 0) = .ref b := by
    rw [cv_ref (by decide), adr_lo X (by decide), hb0]
  have hl := lv_entry ([Value.ref b] : List Value) (n := 4) (show (1 : Nat) ≤ 4 by decide)
  have hWW := q2 s.heap [] _ hW ⟨Nat.le_refl _, fun _ _ _ => rfl, fun _ h => by cases h⟩ (by
    show lv_has _ 4 [(0, cv X (.ref 0))]
    rw [hcv]
    exact hl) (Nat.le_refl _) (Nat.le_refl _)
  intro T hT XT
  have hroom : s.hasRoom e.platform { frames := 1008, cells := nx τ - 16, slots := sl τ - 0, locals := 64512 } = true := by
    have h := XT.room
    unfold State.hasRoom at h ⊢
    rw [Bool.and_eq_true, Bool.and_eq_true, Bool.and_eq_true, Bool.and_eq_true] at h ⊢
    obtain ⟨⟨⟨⟨A, B⟩, C⟩, D⟩, E⟩ := h
    have A := of_decide_eq_true A
    have B := of_decide_eq_true B
    have C := of_decide_eq_true C
    have D := of_decide_eq_true D
    obtain ⟨b1, b2, b3, b4, b5⟩ := B
    simp only [room_1] at A b1 b2 b3 b4 C D
    refine ⟨⟨⟨⟨decide_eq_true ?_, decide_eq_true ⟨?_, ?_, ?_, ?_, b5⟩⟩, decide_eq_true ?_⟩, decide_eq_true ?_⟩, E⟩ <;> dsimp only <;> omega
  obtain ⟨u, a1, o, b1, b2, ⟨d1, -, -, -, -⟩, LL, ⟨f1, f2⟩, g2⟩ := hWW T hT ⟨XT.admits, XT.cas, XT.clock, XT.frames, hroom, XT.hears, XT.method, XT.code, XT.here, XT.tail, XT.warmed, XT.limits, XT.bytes, XT.same⟩
  have hent : entryFrame m ([Value.ref b] : List Value).toArray 4 = F0 m 0 ((lg_sl [Value.ref b] ++ List.replicate (4 - (lg_sl [Value.ref b]).length) Slot.unset).toArray) [] := lg_entry_eq m _ _
  rw [List.map_nil, hpc, ← hent] at a1
  have hn : nx (unfix L τ) = nx τ := rfl
  have hs : sl (unfix L τ) = sl τ := rfl
  refine ⟨u, a1, o, b1, b2, d1, ⟨_, d1⟩, f1, f2.weaken (fun x hx hlt => ?_) (by show nx (unfix L τ) - 16 ≤ 601024; omega) (by show sl (unfix L τ) - 0 ≤ 7293034; omega)⟩
  exact absurd (show x.base < xB X by rw [hB]; exact hlt) (Nat.not_lt.mpr (g2 x hx))
theorem whole_start (hpl : PlainLaw) {p : Program} {e : Env} {s : State} {m : MethodId} {below : List Frame} {meth : Method} {c : Code} (l : Launch) (hfl : l.flags = pinnedFlags ++ [noTraceFlag]) {b L : Nat} {xs : Nat → Int32} (hL : L ≤ 448) (C0 : lw_At p s m meth c b L xs)
    (hex : c.exceptionTable.toList.map (fun z => (z.startPc, z.endPc, z.handlerPc, z.catchType)) = mH ML_law) (hnm : meth.name = (mY ML_law).name) (htr : e.platform.stackTraces = false) :
    W p l e room_1 s m #[Value.ref b] below meth c s.heap [] 0 0 (lw_Z below #[Value.ref b] s) (entryFrame m ([Value.ref b] : List Value).toArray 4) := by
  obtain ⟨τ, hτ, h1, h2⟩ := hpl L xs hL
  obtain ⟨n, hn⟩ := D_lim hτ
  exact start_run l hfl C0 hex hnm htr hn h1 h2
set_option maxHeartbeats 4000000 in
theorem lw_walk (hpl : PlainLaw) (l : Launch) (hfl : l.flags = pinnedFlags ++ [noTraceFlag]) (b : Addr) (xs : List Int32) : MetFree l x (headSpec (Jvm.Cond.code x code maxLocals ret :: tables_1) room_1) (lw_P b xs) (fun _ _ _ _ _ => True) lw_Q := by
  refine MetFree.of_bodyS (code := code) (maxLocals := maxLocals) (ret := ret) (by decide) ?_ ?_
  · intro args s m h hn
    obtain ⟨meth, c, h1, h2, h3, h4, h5, h6, -, -⟩ := Cond.code_spec hn (atoms_spec (ws := Jvm.Cond.code x code maxLocals ret :: tables_1) h _ List.mem_cons_self)
    exact ⟨meth, c, h1, h2, h3, h4, h5, h6⟩
  · intro p e s m args below meth c s₁ B hml0 hP _
    obtain ⟨rfl, hx, hbd, hgv⟩ := hP
    obtain ⟨scr, harrAt, hlist, hof, hsmall⟩ := hx
    obtain ⟨hcb, hkn, -, -⟩ := State.arrayAt?_spec harrAt
    have hown : s.vm.findClass R_law = some m.cls := findClass_of_methodNamed B.named
    have hts0 : ∀ c ∈ (Jvm.Cond.code x code maxLocals ret :: tables_1), c.before #[Value.ref b] s = true := atoms_spec (ws := Jvm.Cond.code x code maxLocals ret :: tables_1) B.pre
    have hts : ∀ w ∈ lw_tbl, w.before #[Value.ref b] s = true := k2_hts_sels lw_privs (fun w hw => hts0 w (List.mem_cons_of_mem _ hw)) lw_privs_ok
    have hml : c.maxLocals = 4 := B.maxLocals_eq (hts0 _ List.mem_cons_self)
    have X₀ : Stand p l e room_1 s m #[Value.ref b] below meth c s₁ [] 0 0 := Stand.of_body B
    have hh0 : s₁.heap = s.heap := by rw [B.state]; rfl
    have hsz : scr.slots.size = xs.length := by rw [← Array.length_toList, hlist, List.length_map]
    have hval : ∀ j : Nat, j < xs.length → scr.slots[j]? = some (.int (xs.getD j 0)) := fun j hj => by
      rw [← Array.getElem?_toList, hlist]
      simp [hj]
    have hbl : b < s.heap.size := (Array.getElem?_eq_some_iff.mp hcb).1
    have hX : va_X b xs.length (fun j => xs.getD j 0) s s.heap := ⟨scr, hcb, hof, hkn, hsz, hval⟩
    obtain ⟨mk, meth', c', hn', h1, h2, h3, h4, hex, -, -, -⟩ := word_code (M := ML_law) (hts0 _ List.mem_cons_self)
    cases B.named.symm.trans hn'
    cases B.method.symm.trans h1
    have hcc : c' = c := by
      have hh := B.here.code
      have e1 : s₁.code? m = s.code? m := by rw [B.state]; rfl
      rw [e1] at hh
      have e2 : s.code? m = some c' := by
        rw [State.code?_eq, B.method]
        exact h2
      exact Option.some.inj (e2.symm.trans hh)
    subst hcc
    have K : W p l e room_1 s m #[Value.ref b] below meth c' s₁.heap [] 0 0 (lw_Z below #[Value.ref b] s) (entryFrame m ([Value.ref b] : List Value).toArray 4) := by
      rw [hh0]
      exact whole_start hpl l hfl hbd ⟨B.exec, B.bytes, B.returns, hml, hown, hts, hX, hbl, B.notSynchronized, hgv⟩ hex (name_of_methodNamed B.named B.method).1 (Launch.traces_off hfl B.admits)
    obtain ⟨t, a1, o, b1, b2, b3⟩ := K s₁ rfl X₀
    exact ⟨t, o, a1, b1, b2, b3⟩
theorem lw_pre_spec {args : Array Value} {s : State} (h : (Jvm.Cond.and given_1 narrow_1).before args s = true) (hr : rest_1_c.before args s = true) : ∃ (b : Addr) (xs : List Int32), lw_P b xs args s := by
  have hs := flat_of_before _ h
  have hq := flat_of_before _ hr
  have hc : (Cond.count 1).before args s = true := hs _ (by decide +kernel)
  have harr : (Cond.arrayOf (.arg 0) .int).before args s = true := hs _ (by decide +kernel)
  have hle : (Cond.le (.length (.arg 0)) (.int 448)).before args s = true := hs _ (by decide +kernel)
  have hlen : (Cond.isInt (.length (.arg 0))).before args s = true := hq _ (by decide +kernel)
  have hall : (Cond.all (.arg 0) (.isInt (.elem (.arg 0) (.index 0)))).before args s = true := hq _ (by decide +kernel)
  obtain ⟨b, xs, hb, hx⟩ := State.ints_of_pre rfl harr hlen hall
  have hsm : xs.length < 2 ^ 31 := hx.choose_spec.2.2.2
  have hev : (Term.length (.arg 0)).eval args s none [] s = some (.int xs.length.toInt32) := hx.length_eval hb
  have hv := Cond.le_ints hev (show (Term.int 448).eval args s none [] s = some (.int 448) from rfl)
  have hd : xs.length.toInt32 ≤ 448 := by
    simpa [Cond.before, Cond.holds, hv] using hle
  have hN : xs.length ≤ 448 := (Int32.ofNat_le_ofNat hsm (by decide)).mp (show Int32.ofNat xs.length ≤ Int32.ofNat 448 from hd)
  exact ⟨b, xs, Cond.one_arg hc (show args[0]? = some (.ref b) from hb), hx, hN, h⟩
theorem lw_comes (hpl : PlainLaw) (l : Launch) (hfl : l.flags = pinnedFlags ++ [noTraceFlag]) : Comes l x (Jvm.Cond.code x code maxLocals ret :: tables_1) room_1 (fun tb e args s => Calls_1 tb e args s ∧ rest_1 tb e args s ∧ Pre_1 tb e args s)
    (fun _ _ args s o t => lw_Q args s o t) := by
  intro p e ha hc hk s m args below hf hfit hheap happ hpre
  obtain ⟨b, xs, hP⟩ := lw_pre_spec hpre.2.2 hpre.2.1
  obtain ⟨k, o, h1, h2, h3, hQ⟩ := lw_walk hpl l hfl b xs p e ha hc hk s m args below hf ((Spec.applies_iff_loose hf).mp happ).1 hP trivial
  exact ⟨k, o, h1, h2, h3, hQ⟩
theorem lw_frame {s t : State} {o : Outcome} {args : Array Value} (h : Framed s o t [] 601024 7293034) :
    Framed s o t (fieldLocs frame_1_writes args s ++ arrayLocs frame_1_arrays args s ++ staticLocs frame_1_statics s) 601024 7293034 := h
theorem lw_limb (hpl : PlainLaw) (L : Cond) (hL : ∀ (args : Array Value) (s t : State), L.after args s (.returned (some (.int 1))) t = true) :
    ArmFor flags0 classFile x code maxLocals ret World_1 tables_1 room_1 Calls_1 rest_1 Pre_1
      (fun tb e a s o t => postC L tb e a s o t ∧ Framed s o t (fieldLocs frame_1_writes a s ++ arrayLocs frame_1_arrays a s ++ staticLocs frame_1_statics s) 601024 7293034) := by
  intro l hfl _ _ p e ha hc hk s m args below hf hfit hheap happ hpre
  obtain ⟨k, o, h1, h2, h3, rfl, hF⟩ := lw_comes hpl l hfl p e ha hc hk s m args below hf hfit hheap happ hpre
  exact ⟨k, _, h1, h2, h3, hL args s _, lw_frame hF⟩
theorem i_vc_of (hpl : PlainLaw) : Claimed_1_1 ∧ Claimed_1_2 := ⟨lw_limb hpl limb_1_1 (fun args s t => by simp [limb_1_1, Cond.after, Cond.holds, Cond.value]), lw_limb hpl limb_1_2 (fun args s t => Cond.after_iff.mpr (by
  first | (rw [show limb_1_2 = Cond.eq .result (.int 1) from rfl, Cond.eq_ints (x := 1) (y := 1) rfl rfl]; simp; done) | (simp [limb_1_2, Cond.value, Term.eval]; done)))⟩
