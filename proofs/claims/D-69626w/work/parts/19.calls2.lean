/-! ===== soundness: calls ===== -/
def wordM (M : MI) : Cond := match mH M with
  | [] => .code (mY M) (mB M) (mL M) (mR M)
  | q :: t => .codeWith (mY M) (mB M) (mL M) (mR M) (q :: t)
def wsM (M : MI) : List Cond := wordM M :: lw_all
def rmM (d n k : Nat) : Room := { frames := d + 8, cells := n, slots := k, locals := 64 * d + 512 }
/-- the contract of a method that comes to r -/
def MetA (X : Cx) (F : Fx) (l : Launch) (M : MI) (d : Nat) (vs : List Value) (σ : St) (r : Out × St) : Prop :=
  MetX l (mY M) (wsM M) (rmM d (nx r.2 - nx σ) (sl r.2 - sl σ)) (PcA X F vs σ) (QcA X F r) (nx r.2 - nx σ) (sl r.2 - sl σ) (Aq X)
def ClSnd (X : Cx) (F : Fx) (l : Launch) (mt : Nat → Option MI) (d : Nat) (cl : Cl) : Prop :=
  ∀ (j : Nat) (vs : List Value) (σ : St) (r : Out × St), cl j vs σ = some r → Le σ r.2 ∧ ∃ d', d = d' + 1 ∧ ∀ M', mt j = some M' → MetA X F l M' d' vs σ r
theorem splA_spec : ∀ (n : Nat) (st acc : List Value) (z : List Value × List Value), splA n st acc = some z → ∃ p, st = p ++ z.2 ∧ z.1 = p.reverse ++ acc ∧ p.length = n := by
  intro n
  induction n with
  | zero =>
    intro st acc z h
    cases h
    exact ⟨[], rfl, rfl, rfl⟩
  | succ n ih =>
    intro st acc z h
    cases st with
    | nil => cases h
    | cons v r =>
      obtain ⟨p, e1, e2, e3⟩ := ih r (v :: acc) z h
      exact ⟨v :: p, by rw [e1]; rfl, by rw [e2]; simp, by simp [e3]⟩
theorem word_warm {args : Array Value} {s U : State} (hts : ∀ w ∈ lw_all, w.before args s = true) (hW : s.WarmedH U.vm) {w : Cond} (h : w ∈ lw_all) (a' : Array Value) : w.before a' U = true :=
  pay_in hts (lw_good (ws := lw_all) fun _ h => h) w h a' U hW
theorem word_code {args : Array Value} {s : State} {M : MI} (h : (wordM M).before args s = true) : ∃ mk meth c, s.methodNamed? (mY M) = some mk ∧ s.vm.method? mk = some meth ∧ meth.code = some c ∧ c.code = mB M ∧ c.maxLocals = mL M ∧
    c.exceptionTable.toList.map (fun z => (z.startPc, z.endPc, z.handlerPc, z.catchType)) = mH M ∧ meth.sig.returnType = mR M ∧ meth.locks = false ∧ parseMethodDescriptor (mY M).desc = some meth.sig := by
  unfold wordM at h
  cases hH : mH M with
  | nil =>
    rw [hH] at h
    obtain ⟨mk, hn⟩ := Cond.code_named h
    obtain ⟨meth, c, h1, h2, h3, h4, h5, h6, h7, h8⟩ := Cond.code_spec hn h
    have h7' : c.exceptionTable = #[] := by simpa using h7
    exact ⟨mk, meth, c, hn, h1, h2, h3, h4, by rw [h7']; rfl, h5, h6, h8⟩
  | cons q t =>
    rw [hH] at h
    obtain ⟨mk, meth, c, hn, h1, h2, h3, h4, h5, h6, h7, h8⟩ := Cond.codeWith_spec h
    exact ⟨mk, meth, c, hn, h1, h2, h3, h4, h5, h6, h7, h8⟩
theorem decl_of {args : Array Value} {s : State} {M : MI} (h : (wordM M).before args s = true) (hi : (Cond.instanceMethod (mY M)).before args s = true) : va_Decl s (mY M) := by
  obtain ⟨mk, meth, c, hn, h1, -, -, -, -, -, -, h8⟩ := word_code h
  obtain ⟨mk', methM, hn', hm', hst, -⟩ := Cond.instanceMethod_spec hi
  cases hn.symm.trans hn'
  cases h1.symm.trans hm'
  exact ⟨mk, meth, hn, h1, hst, h8⟩
section SND7
variable {X : Cx} {F : Fx} {p : Program} {l : Launch} {e : Env} {R : Room} {s : State} {m : MethodId} {args : Array Value} {below : List Frame} {meth : Method} {c : Code} {M : MI} {d n0 m0 : Nat} {res : Out × St}
variable {go : Go} {cl : Cl} {pc len : Nat} {cut : Option (List Nat)} {t : List Ent} {ls : Lcs} {st : List Value} {σ : St} {mt : Nat → Option MI}
/-- the handler's row is right -/
def HOK (M : MI) : Prop := mH M = [] ∨ ∃ q, mH M = [q] ∧ q.2.2.2 ≠ 0 ∧ Cond.classLink (mK M).1 q.2.2.2 "java/lang/IllegalStateException" ∈ lw_all
theorem hnd_le (hg : GoOK X F p l e R s m args below meth c M n0 m0 res go) {a : Nat} (h : hnd F M go pc ls a σ = some res) : Le σ res.2 := by
  unfold hnd at h
  cases hmh : mH M with
  | nil =>
    rw [hmh] at h
    rw [← Option.some.inj h]
    exact Le.rfl' _
  | cons q tt =>
    rw [hmh] at h
    dsimp only at h
    cases hbb : (Nat.ble q.1 pc && Nat.blt pc q.2.1) with
    | false =>
      rw [hbb] at h
      rw [← Option.some.inj h]
      exact Le.rfl' _
    | true =>
      rw [hbb] at h
      obtain ⟨g1, g2⟩ := bif_inv h
      exact (hg _ _ _ _ _ seek_sub g2).1
theorem snd_hnd (hS : Sc X F p e R s m args meth c M d n0 m0 res) (hg : GoOK X F p l e R s m args below meth c M n0 m0 res go) (hH : HOK M) {a : Nat} (ha : tg F σ a = 21) (h : hnd F M go pc ls a σ = some res) :
    Le σ res.2 ∧ ∀ (H : Heap) (locs : List Loc) (lsA : Array Slot) (rest : List Value), Wd X F σ H → va_S (Aq X) s.heap H locs → lv_has lsA (mL M) (cvl X ls) → n0 ≤ nx σ → m0 ≤ sl σ →
      WT p l e R s m args below meth c H locs (nx σ - n0) (sl σ - m0) (mx_Q below (QcA X F res) args s (nx res.2 - n0) (sl res.2 - m0) (Aq X)) (F0 m pc lsA rest) (adr X a) := by
  obtain ⟨hx, hb, hr, hlk, hml, hown, hts, hKF, hex, hnm, hstt, hroom, hdec, hF5⟩ := hS
  have leave : (∀ z ∈ c.exceptionTable.toList, covers z pc = false) → res = (.inr a, σ) → Le σ res.2 ∧ ∀ (H : Heap) (locs : List Loc) (lsA : Array Slot) (rest : List Value), Wd X F σ H → va_S (Aq X) s.heap H locs → lv_has lsA (mL M) (cvl X ls) → n0 ≤ nx σ → m0 ≤ sl σ →
      WT p l e R s m args below meth c H locs (nx σ - n0) (sl σ - m0) (mx_Q below (QcA X F res) args s (nx res.2 - n0) (sl res.2 - m0) (Aq X)) (F0 m pc lsA rest) (adr X a) := by
    intro hout hres
    subst hres
    refine ⟨Le.rfl' _, fun H locs lsA rest hW hV hL g1 g2 => WT.leave hout hlk (fun t ht hw => ?_) hV.2.2⟩
    refine ⟨rfl, fun b hb2 => ?_, by rw [ht]; exact hW, by rw [ht]; exact hV.1, fun q h3 h4 => by rw [ht]; exact hV.2.1 q h3 h4⟩
    cases hb2
    exact ha
  unfold hnd at h
  rcases hH with hH | ⟨q, hH, hq0, hqw⟩
  · rw [hH] at h hex
    have hnil : c.exceptionTable.toList = [] := List.map_eq_nil_iff.mp hex
    exact leave (fun z hz => by rw [hnil] at hz; cases hz) (Option.some.inj h).symm
  · rw [hH] at h hex
    obtain ⟨z, hz, hzq⟩ : ∃ z, c.exceptionTable.toList = [z] ∧ (z.startPc, z.endPc, z.handlerPc, z.catchType) = q := by
      cases hl : c.exceptionTable.toList with
      | nil => rw [hl] at hex; cases hex
      | cons z t =>
        rw [hl] at hex
        cases t with
        | nil => exact ⟨z, rfl, by simpa using hex⟩
        | cons z2 t2 => simp at hex
    subst hzq
    dsimp only at h hq0 hqw
    cases hcv : (Nat.ble z.startPc pc && Nat.blt pc z.endPc) with
    | false =>
      rw [hcv] at h
      refine leave (fun y hy => ?_) (Option.some.inj h).symm
      rw [hz] at hy
      rw [List.mem_singleton.mp hy]
      cases hcc : covers z pc with
      | false => rfl
      | true =>
        simp only [covers, Bool.and_eq_true, decide_eq_true_eq] at hcc
        rw [Nat.ble_eq_true_of_le hcc.1, Bool.true_and, (Nat.blt_eq).mpr hcc.2] at hcv
        cases hcv
    | true =>
      rw [hcv] at h
      obtain ⟨h21, h⟩ := bif_inv h
      obtain ⟨q1, q2⟩ := hg _ _ _ _ _ seek_sub h
      refine ⟨q1, fun H locs lsA rest hW hV hL g1 g2 => ?_⟩
      obtain ⟨cell, c1, c2, c3, -⟩ := (hW.2.2.2.2.2.2 a).2.2.1 ha
      have hcl : s.vm.findClass "java/lang/IllegalStateException" = some cell.cls := by
        rw [c2]
        exact (hKF.2.2.1.1 21 _ rfl).2.1
      have hcc : covers z pc = true := by
        rw [Bool.and_eq_true] at hcv
        simp only [covers, Bool.and_eq_true, decide_eq_true_eq]
        exact ⟨Nat.le_of_ble_eq_true hcv.1, (Nat.blt_eq).mp hcv.2⟩
      refine WT.caught hown (hts _ hqw) hz hcc hq0 c1 c3 hcl ?_
      have := q2 H locs lsA hW hV hL g1 g2
      rw [List.map_cons, cv_ref (ne5 hF5 (a := a) (σ := σ) (by omega))] at this
      exact this
theorem snd_doCall (hS : Sc X F p e R s m args meth c M d n0 m0 res) (hg : GoOK X F p l e R s m args below meth c M n0 m0 res go) (hcl : ClSnd X F l mt d cl) (hH : HOK M) {i : Instr} (hd : decode (mB M) pc = .ok (i, 3)) (ht : ∀ z ∈ t, z ∈ mC M)
    {rk : Nat} {w : Nat × Nat} {vs rest : List Value} {M' : MI} (hM' : mt w.1 = some M') (hw2 : mL M' = w.2) (hwd : wordM M' ∈ lw_all) (hini : Cond.initialized (mY M').cls ∈ lw_all)
    (hI : ∀ (H : Heap) (locs : List Loc) (lsA : Array Slot) (cs ss : Nat) (T : State), Wd X F σ H → va_S (Aq X) s.heap H locs → T.heap = H → Stand p l e R s m args below meth c T locs cs ss →
      mx_Inv p l e R s m args below meth c (mY M') T locs cs ss (F0 m pc lsA (st.map (cv X))) (rest.map (cv X)) (vs.map (cv X)).toArray)
    (h : doCall F M go cl (pc, i, 3, cut) t ls rk w vs rest σ = some res) : Le σ res.2 ∧ WA X F p l e R s m args below meth c M n0 m0 res pc ls st σ := by
  have hS0 := hS
  obtain ⟨hx, hb, hr, hlk, hml, hown, hts, hKF, hex, hnm, hstt, ⟨hrf, hrl, hrc, hrs⟩, hdec, hF5⟩ := hS
  obtain ⟨hcats, h⟩ := bif_inv h
  have hcats := Nat.le_of_ble_eq_true hcats
  -- what the callee came to
  have key : ∃ r' : Out × St, cl w.1 vs σ = some r' ∧ ((∃ v, r'.1 = .inl v ∧ go (pc + 3) t ls (v.toList ++ rest) r'.2 = some res) ∨ ∃ a, r'.1 = .inr a ∧ hnd F M go pc ls a r'.2 = some res) := by
    cases hc : cl w.1 vs σ with
    | none =>
      rw [hc] at h
      rcases rk with _ | _ | _ | _ | rk <;> cases h
    | some r' =>
      rw [hc] at h
      refine ⟨r', rfl, ?_⟩
      obtain ⟨o, τ⟩ := r'
      rcases o with v | a
      · left
        rcases rk with _ | _ | _ | _ | rk
        · cases v with
          | none => exact ⟨none, rfl, h⟩
          | some v => cases h
        · cases v with
          | none => cases h
          | some v => cases v <;> first | exact ⟨_, rfl, h⟩ | cases h
        · cases v with
          | none => cases h
          | some v => cases v <;> first | exact ⟨_, rfl, h⟩ | cases h
        · cases v with
          | none => cases h
          | some v => cases v <;> first | exact ⟨_, rfl, h⟩ | cases h
        · cases h
      · right
        rcases rk with _ | _ | _ | _ | rk <;> first | exact ⟨a, rfl, h⟩ | cases h
  obtain ⟨r', hc, hcase⟩ := key
  obtain ⟨hle, d', hdd, hmet⟩ := hcl _ _ _ _ hc
  have hmet := hmet M' hM'
  -- how it goes on
  have fin : Le r'.2 res.2 ∧ (∀ v, r'.1 = .inl v → WA X F p l e R s m args below meth c M n0 m0 res (pc + 3) ls (v.toList ++ rest) r'.2) ∧
      (∀ a, r'.1 = .inr a → tg F r'.2 a = 21 → ∀ (H : Heap) (locs : List Loc) (lsA : Array Slot) (rest : List Value), Wd X F r'.2 H → va_S (Aq X) s.heap H locs → lv_has lsA (mL M) (cvl X ls) → n0 ≤ nx r'.2 → m0 ≤ sl r'.2 →
      WT p l e R s m args below meth c H locs (nx r'.2 - n0) (sl r'.2 - m0) (mx_Q below (QcA X F res) args s (nx res.2 - n0) (sl res.2 - m0) (Aq X)) (F0 m pc lsA rest) (adr X a)) := by
    rcases hcase with ⟨v, e1, h1⟩ | ⟨a, e1, h1⟩
    · obtain ⟨q1, q2⟩ := hg _ _ _ _ _ ht h1
      refine ⟨q1, fun v' hv' => ?_, fun a ha => ?_⟩
      · rw [e1] at hv'
        cases hv'
        exact q2
      · rw [e1] at ha
        cases ha
    · refine ⟨?_, fun v' hv' => ?_, fun a' ha' h21 => ?_⟩
      · exact hnd_le hg h1
      · rw [e1] at hv'
        cases hv'
      · rw [e1] at ha'
        cases ha'
        exact (snd_hnd hS0 hg hH h21 h1).2
  obtain ⟨hle2, finr, fint⟩ := fin
  refine ⟨hle.tr hle2, fun H locs lsA hW hV hL g1 g2 => ?_⟩
  have e1 : nx σ - n0 + (nx r'.2 - nx σ) = nx r'.2 - n0 := by have := hle.1; omega
  have e2 : sl σ - m0 + (sl r'.2 - sl σ) = sl r'.2 - m0 := by have := hle.2; omega
  have hVV := hKF.2.1
  have hS' : ∀ (st0 t : State) (L : List Loc), st0.heap = H → st0.heap.size ≤ t.heap.size → (∀ q, q < st0.heap.size → ¬ Aq X q → t.heap[q]? = st0.heap[q]?) → (∀ q ∈ L, Aq X q.base) → va_S (Aq X) s.heap t.heap (locs ++ L) := by
    intro st0 t L h0 hz hk hL2
    rw [h0] at hz hk
    refine ⟨Nat.le_trans hV.1 hz, fun q h1 h2 => by rw [hk q (Nat.lt_of_lt_of_le h1 hV.1) h2]; exact hV.2.1 q h1 h2, fun q hq => ?_⟩
    rcases List.mem_append.mp hq with h | h
    · exact hV.2.2 q h
    · exact hL2 q h
  refine mx_call (Wd := cats rest) (maxL := w.2) hmet hb (fun T hT XX => hI H locs lsA _ _ T hW hV hT XX) (by rw [hL.1, hml]) hd ?_ ?_ ?_ ?_ ?_ ?_ rfl rfl ?_ ?_ ?_ ?_ ?_
  · show 2 * 0 + _ ≤ _
    rw [cats_eq hVV]
    omega
  · rw [hrf, hdd]
    show d' + 8 + 1 ≤ d' + 1 + 8
    omega
  · rw [hrl, hdd]
    show cats rest + (w.2 + 11) + (64 * d' + 512) ≤ 64 * (d' + 1) + 512
    omega
  · intro w' hw' a' U hWU
    rcases List.mem_cons.mp hw' with h1 | h1
    · rw [h1]; exact word_warm hts hWU hwd a'
    · exact word_warm hts hWU h1 a'
  · intro U mk hWU hn
    obtain ⟨mk', methY, cY, hn', h1, h2, -, h4, -⟩ := word_code (word_warm hts hWU hwd #[])
    cases hn.symm.trans hn'
    exact ⟨methY, cY, h1, h2, by rw [h4, hw2]⟩
  · exact fun a' U hWU => word_warm hts hWU hini a'
  · have := hle2.1
    rw [hrc]; omega
  · have := hle2.2
    rw [hrs]; omega
  · intro U g' mk hU hWU
    refine ⟨rfl, by show Wd X F σ U.heap; rw [hU]; exact hW, KF.moved (u := s) (U := U.calling g' mk (vs.map (cv X)).toArray) hWU (fun q h1 h2 => ?_) hKF⟩
    show U.heap[q]? = s.heap[q]?
    rw [hU]
    exact hV.2.1 q h1 h2
  · intro v st0 t L h0 hq hL2 hWt
    obtain ⟨ho, -, hW1, hz, hk⟩ := hq
    rw [e1, e2]
    have hr1 : ∃ v', r'.1 = .inl v' ∧ v = v'.map (cv X) := by
      cases hr0 : r'.1 with
      | inl v' => rw [hr0] at ho; exact ⟨v', rfl, by cases ho; rfl⟩
      | inr a => rw [hr0] at ho; cases ho
    obtain ⟨v', hv', rfl⟩ := hr1
    have := finr v' hv' t.heap (locs ++ L) lsA hW1 (hS' st0 t L h0 hz hk hL2) hL (by have := hle.1; omega) (by have := hle.2; omega)
    have e3 : (v'.toList ++ rest).map (cv X) = (v'.map (cv X)).toList ++ rest.map (cv X) := by
      cases v' <;> rfl
    rw [e3] at this
    exact this
  · intro x st0 t L h0 hq hL2 hWt
    obtain ⟨ho, h21, hW1, hz, hk⟩ := hq
    rw [e1, e2]
    have hr1 : ∃ a, r'.1 = .inr a ∧ x = adr X a := by
      cases hr0 : r'.1 with
      | inl v' => rw [hr0] at ho; cases ho
      | inr a => rw [hr0] at ho; exact ⟨a, rfl, by cases ho; rfl⟩
    obtain ⟨a, ha, rfl⟩ := hr1
    exact fint a ha (h21 a ha) t.heap (locs ++ L) lsA _ hW1 (hS' st0 t L h0 hz hk hL2) hL (by have := hle.1; omega) (by have := hle.2; omega)
end SND7
