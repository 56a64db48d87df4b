/-! ===== soundness: runs ===== -/
/-- a method's table is right -/
def MIok (mt : Nat → Option MI) (M : MI) : Prop :=
  (mK M).1 = (mY M).cls ∧ plainName (mY M).cls = true ∧ (∀ e ∈ mC M, decode (mB M) e.1 = .ok (e.2.1, e.2.2.1)) ∧ (∀ e ∈ mC M, (seek e.1 (mC M)).head?.map (fun e' => (e'.1, e'.2.2.2)) = some (e.1, e.2.2.2)) ∧ CPok mt M
theorem sl_len (vs : List Value) : (lg_sl vs).length = cats vs := by
  induction vs with
  | nil => rfl
  | cons v t ih =>
    have hcat : v.category = 1 ∨ v.category = 2 := by cases v <;> first | exact Or.inl rfl | exact Or.inr rfl
    show (List.flatMap _ (v :: t)).length = v.category + cats t
    rw [List.flatMap_cons, List.length_append]
    have ih' : (List.flatMap (fun v : Value => if v.category = 2 then [Slot.val v, .second] else [.val v]) t).length = cats t := ih
    rw [ih']
    rcases hcat with h | h <;> simp [h]
theorem args_cv {X : Cx} (hV : xV X = .null ∨ ∃ q, xV X = .ref q) : ∀ (vs : List Value) (i : Nat), lv_args i (vs.map (cv X)) = cvl X (lv_args i vs) := by
  intro vs
  induction vs with
  | nil => intro i; rfl
  | cons v t ih =>
    intro i
    simp only [List.map_cons, lv_args, cv_cat hV, ih]
    rfl
theorem cats_map {X : Cx} (hV : xV X = .null ∨ ∃ q, xV X = .ref q) (vs : List Value) : cats (vs.map (cv X)) = cats vs := by
  induction vs with
  | nil => rfl
  | cons v t ih =>
    show (cv X v).category + cats (t.map (cv X)) = v.category + cats t
    rw [cv_cat hV, ih]
theorem zip_app {α β : Type} : ∀ (a : List α) (b c : List β), b.length = a.length → a.zip (b ++ c) = a.zip b := by
  intro a
  induction a with
  | nil => intro b c h; simp
  | cons x t ih =>
    intro b c h
    cases b with
    | nil => cases h
    | cons y u =>
      simp only [List.cons_append, List.zip_cons_cons]
      rw [ih u c (by simpa using h)]
section RUN
variable {X : Cx} {F : Fx} {l : Launch} {mt : Nat → Option MI}
variable {p : Program} {e : Env} {R : Room} {s : State} {m : MethodId} {args : Array Value} {below : List Frame} {meth : Method} {c : Code} {M : MI} {d n0 m0 : Nat} {res : Out × St}
theorem WA.sub {pc : Nat} {ls ls' : Lcs} {st : List Value} {σ : St} (h : WA X F p l e R s m args below meth c M n0 m0 res pc ls' st σ) (hs : ∀ q ∈ ls', q ∈ ls) : WA X F p l e R s m args below meth c M n0 m0 res pc ls st σ :=
  fun H locs lsA hW hV hL g1 g2 => h H locs lsA hW hV ⟨hL.1, hL.2.1, fun q hq => by
    obtain ⟨z, hz, e1⟩ := List.mem_map.mp hq
    exact hL.2.2 q (List.mem_map.mpr ⟨z, hs z hz, e1⟩)⟩ g1 g2
/-- a run from a cut on -/
def CutOK (X : Cx) (F : Fx) (p : Program) (l : Launch) (e : Env) (R : Room) (s : State) (m : MethodId) (args : Array Value) (below : List Frame) (meth : Method) (c : Code) (M : MI) (d j n0 m0 : Nat) (res : Out × St) (rec : Rec) : Prop :=
  ∀ (pc : Nat) (vs : List Value) (σ : St), rec d j pc vs σ = some res → ∀ lv, (seek pc (mC M)).head?.map (fun e' => (e'.1, e'.2.2.2)) = some (pc, some lv) → Le σ res.2 ∧ WA X F p l e R s m args below meth c M n0 m0 res pc (lv.zip vs) (vs.drop lv.length) σ
theorem run_ok (hS : Sc X F p e R s m args meth c M d n0 m0 res) (hM : MIok mt M) {rec : Rec} {j : Nat} (hrec : CutOK X F p l e R s m args below meth c M d j n0 m0 res rec) (hcl : ClSnd X F l mt d (callD rec d)) :
    ∀ (n : Nat) (e0 : Ent) (t : List Ent) (ls : Lcs) (st : List Value) (σ : St), (∀ z ∈ e0 :: t, z ∈ mC M) → interp F rec d j M n (e0 :: t) ls st σ = some res → Le σ res.2 ∧ WA X F p l e R s m args below meth c M n0 m0 res e0.1 ls st σ := by
  obtain ⟨-, -, hdec, hcut, hcp⟩ := hM
  intro n
  induction n with
  | zero => intro e0 t ls st σ _ h; cases h
  | succ n ih =>
    intro e0 t ls st σ hsub h
    have h : (bif lenok e0 then stepI F M (goA rec d j (interp F rec d j M n)) (callD rec d) e0 t ls st σ else none) = some res := h
    obtain ⟨hlen, h⟩ := bif_inv h
    have hgo : GoOK X F p l e R s m args below meth c M n0 m0 res (goA rec d j (interp F rec d j M n)) := by
      intro q t2 ls2 st2 σ2 hs2 h2
      cases t2 with
      | nil => cases h2
      | cons e2 t3 =>
        have h2 : (bif Nat.beq e2.1 q then (match e2.2.2.2 with
          | none => interp F rec d j M n (e2 :: t3) ls2 st2 σ2
          | some lv => ob (gath lv ls2) fun vs => rec d j q (vs ++ st2) σ2) else none) = some res := h2
        obtain ⟨hq, h2⟩ := bif_inv h2
        have hq := Nat.eq_of_beq_eq_true hq
        subst hq
        cases hc : e2.2.2.2 with
        | none =>
          rw [hc] at h2
          exact ih e2 t3 ls2 st2 σ2 hs2 h2
        | some lv =>
          rw [hc] at h2
          obtain ⟨vs, hv, h2⟩ := ob_inv h2
          obtain ⟨g1, g2⟩ := gath_get hv
          have hcc := hcut e2 (hs2 e2 List.mem_cons_self)
          rw [hc] at hcc
          obtain ⟨q1, q2⟩ := hrec _ _ _ h2 lv hcc
          rw [zip_app _ _ _ g1] at q2
          have e3 : (vs ++ st2).drop lv.length = st2 := by rw [← g1]; simp
          rw [e3] at q2
          exact ⟨q1, q2.sub g2⟩
    obtain ⟨pc, i, len, cut⟩ := e0
    exact snd_all hS hgo hcl hcp (hdec _ (hsub _ List.mem_cons_self)) hlen (fun z hz => hsub z (List.mem_cons_of_mem _ hz)) h
theorem sem_ok (hfl : l.flags = pinnedFlags ++ [noTraceFlag]) (hF5 : 5 < F.1 ∧ F.2.1 5 = 255) (hmt : ∀ j M, mt j = some M → MIok mt M) : ∀ n : Nat,
    (∀ (d j : Nat) (vs : List Value) (σ : St) (r : Out × St), Sem F mt n d j 0 vs σ = some r → ∀ M', mt j = some M' → (∀ e0 t, seek 0 (mC M') = e0 :: t → e0.2.2.2 = none) → MetA X F l M' d vs σ r) ∧
    (∀ (p : Program) (e : Env) (R : Room) (s : State) (m : MethodId) (args : Array Value) (below : List Frame) (meth : Method) (c : Code) (M : MI) (d n0 m0 j : Nat) (res : Out × St), Sc X F p e R s m args meth c M d n0 m0 res → mt j = some M → CutOK X F p l e R s m args below meth c M d j n0 m0 res (Sem F mt n)) := by
  intro n
  induction n with
  | zero =>
    exact ⟨(fun d j vs σ r h => by cases h), (fun p e R s m args below meth c M d n0 m0 j res hS hj pc vs σ h => by cases h)⟩
  | succ n ih =>
    obtain ⟨ihA, ihB⟩ := ih
    have hcl : ∀ d, ClSnd X F l mt d (callD (Sem F mt n) d) := by
      intro d j vs σ r h
      cases d with
      | zero => cases h
      | succ d =>
        have h : Sem F mt n d j 0 vs σ = some r := h
        refine ⟨mo_sem F mt n d j 0 vs σ r h, d, rfl, fun M' hM' => ihA d j vs σ r h M' hM' ?_⟩
        intro e0 t hs
        cases n with
        | zero => cases h
        | succ n =>
          obtain ⟨M2, hM2, h⟩ := ob_inv h
          cases hM'.symm.trans hM2
          rw [hs] at h
          dsimp only at h
          cases hc : e0.2.2.2 with
          | none => rfl
          | some lv => rw [hc] at h; cases h
    refine ⟨?_, ?_⟩
    · intro d j vs σ r h M' hM' hcut0
      have hMI := hmt j M' hM'
      obtain ⟨M2, hM2, h⟩ := ob_inv h
      cases hM'.symm.trans hM2
      cases hsk : seek 0 (mC M') with
      | nil => rw [hsk] at h; cases h
      | cons e0 t =>
        rw [hsk] at h
        have hc := hcut0 e0 t hsk
        dsimp only at h
        rw [hc] at h
        obtain ⟨hb, h⟩ := bif_inv h
        rw [Bool.and_eq_true] at hb
        have hcats := Nat.le_of_ble_eq_true hb.2
        have hle := mo_interp (F := F) (M := M') (fun d j pc vs σ => mo_sem F mt n d j pc vs σ) d j _ _ _ _ _ r h
        have hpc : e0.1 = 0 := by
          have : ∀ L : List Ent, seek 0 L = e0 :: t → e0.1 = 0 := by
            intro L
            induction L with
            | nil => intro h; cases h
            | cons a b ih =>
              intro h
              unfold seek at h
              cases hq : Nat.beq a.1 0 with
              | true =>
                rw [hq] at h
                cases h
                exact Nat.eq_of_beq_eq_true hq
              | false => rw [hq] at h; exact ih h
          exact this _ hsk
        unfold MetA MetX
        refine MetFree.of_bodyS (code := mB M') (maxLocals := mL M') (ret := mR M') hMI.2.1 ?_ ?_
        · intro args s m h hn
          obtain ⟨mk, meth, c, hn', h1, h2, h3, h4, -, h5, h6, -⟩ := word_code (atoms_spec (ws := wsM M') h _ List.mem_cons_self)
          cases hn.symm.trans hn'
          exact ⟨meth, c, h1, h2, h3, h4, h5, h6⟩
        · intro p e s m args below meth c s₁ B hml hP _
          have hh0 : s₁.heap = s.heap := by rw [B.state]; rfl
          have hts : ∀ w ∈ wsM M', w.before args s = true := atoms_spec (ws := wsM M') B.pre
          obtain ⟨hargs, hW, hKF⟩ := hP
          have hVV := hKF.2.1
          obtain ⟨mk, meth', c', hn', h1, h2, h3, h4, hex, -, -, -⟩ := word_code (hts _ List.mem_cons_self)
          cases B.named.symm.trans hn'
          cases B.method.symm.trans h1
          have hcc : c' = c := by
            have hh := B.here.code
            have e1 : s₁.code? m = s.code? m := by rw [B.state]; rfl
            rw [e1] at hh
            have e2 : s.code? m = some c' := by
              rw [State.code?_eq, B.method]
              exact h2
            exact Option.some.inj (e2.symm.trans hh)
          subst hcc
          have hS : Sc X F p e (headSpec (wsM M') (rmM d (nx r.2 - nx σ) (sl r.2 - sl σ))).room s m args meth c' M' d (nx σ) (sl σ) r := by
            refine ⟨B.exec, B.bytes, B.returns, B.notSynchronized, hml, ?_, fun w hw => hts w (List.mem_cons_of_mem _ hw), hKF, hex, (name_of_methodNamed B.named B.method).1, Launch.traces_off hfl B.admits, ⟨rfl, rfl, rfl, rfl⟩, hMI.2.2.1, hF5⟩
            rw [hMI.1]
            exact findClass_of_methodNamed B.named
          obtain ⟨-, q2⟩ := run_ok (below := below) hS hMI (ihB p e _ s m args below meth c' M' d (nx σ) (sl σ) j r hS hM') (hcl d) _ e0 t _ _ _ (fun z hz => seek_sub z (by rw [hsk]; exact hz)) h
          have hl := lv_entry (vs.map (cv X)) (n := mL M') (by rw [sl_len, cats_map hVV]; exact hcats)
          have hWW := q2 s.heap [] _ hW ⟨Nat.le_refl _, fun _ _ _ => rfl, fun _ h => by cases h⟩ (by rw [← args_cv hVV]; exact hl) (Nat.le_refl _) (Nat.le_refl _)
          rw [hpc, Nat.sub_self, Nat.sub_self] at hWW
          have hent : entryFrame m args (mL M') = F0 m 0 ((lg_sl (vs.map (cv X)) ++ List.replicate (mL M' - (lg_sl (vs.map (cv X))).length) Slot.unset).toArray) [] := by
            rw [hargs]
            exact lg_entry_eq m _ _
          obtain ⟨tt, a1, o, b1, b2, b3, b4⟩ := hWW s₁ hh0 (Stand.of_body B)
          rw [List.map_nil, ← hent] at a1
          exact ⟨tt, o, a1, b1, b2, b3, b4⟩
    · intro p e R s m args below meth c M d n0 m0 j res hS hj pc vs σ h lv hlv
      obtain ⟨M2, hM2, h⟩ := ob_inv h
      cases hj.symm.trans hM2
      cases hsk : seek pc (mC M) with
      | nil => rw [hsk] at h; cases h
      | cons e0 t =>
        rw [hsk] at h hlv
        have hlv : (e0.1, e0.2.2.2) = (pc, some lv) := Option.some.inj hlv
        have hc : e0.2.2.2 = some lv := congrArg Prod.snd hlv
        have hpc : e0.1 = pc := congrArg Prod.fst hlv
        dsimp only at h
        rw [hc] at h
        have h : (bif Nat.beq pc 0 then none else interp F (Sem F mt n) d j M (mC M).length (e0 :: t) (lv.zip vs) (vs.drop lv.length) σ) = some res := h
        cases hb : Nat.beq pc 0 with
        | true => rw [hb] at h; cases h
        | false =>
          rw [hb] at h
          have := run_ok (below := below) hS (hmt j M hj) (ihB p e R s m args below meth c M d n0 m0 j res hS hj) (hcl d) _ e0 t _ _ _ (fun z hz => seek_sub z (by rw [hsk]; exact hz)) h
          rw [hpc] at this
          exact this
end RUN
