/-! ===== soundness: the kinds of calls ===== -/
def PlainY (y : MethodName) (n : Nat) : Prop := (y.cls ≠ "java/lang/invoke/MethodHandle" ∧ y.cls ≠ "java/lang/invoke/VarHandle") ∧ (parseMethodDescriptor y.desc).map (fun d => d.parameters.length) = some n
theorem PlainY.len {y : MethodName} {n : Nat} (h : PlainY y n) {k : Nat} (hk : k = n) : ∀ sig, parseMethodDescriptor y.desc = some sig → k = sig.parameters.length := by
  intro sig hs
  have h2 := h.2
  rw [hs] at h2
  rw [hk]
  exact (Option.some.inj h2).symm
def getCls : MethodName := ⟨"java/lang/Object", "getClass", "()Ljava/lang/Class;"⟩
def iseInit : MethodName := ⟨"java/lang/IllegalStateException", "<init>", "()V"⟩
/-- Math's, by their kinds -/
def mth (k : Nat) : Option MethodName := match k with
  | 7 => some ⟨"java/lang/Math", "max", "(II)I"⟩
  | 8 => some ⟨"java/lang/Math", "min", "(II)I"⟩
  | 9 => some ⟨"java/lang/Math", "max", "(JJ)J"⟩
  | 10 => some ⟨"java/lang/Math", "min", "(JJ)J"⟩
  | 11 => some ⟨"java/lang/Math", "abs", "(I)I"⟩
  | 12 => some ⟨"java/lang/Math", "abs", "(J)J"⟩
  | _ => none
def TgtOK (mt : Nat → Option MI) (n : Nat) (w : Nat × Nat) (M' : MI) : Prop := mt w.1 = some M' ∧ mL M' = w.2 ∧ wordM M' ∈ lw_all ∧ Cond.initialized (mY M').cls ∈ lw_all ∧ PlainY (mY M') n
/-- a method's row of the pool is right -/
def MOK (mt : Nat → Option MI) (own : String) (i : Nat) (q : MInf) : Prop :=
  (q.1 = 0 → ∀ w, lkN 0 q.2.2.2 = some w → ∃ M', TgtOK mt q.2.1 w M' ∧ mH M' = [] ∧ Cond.static (mY M') ∈ lw_all ∧ (Cond.methodLink own i (mY M') ∈ lw_all ∨ ∃ host, Cond.methodLinkNest own i (mY M') host ∈ xtra)) ∧
  (q.1 = 1 → ∀ w, lkN 0 q.2.2.2 = some w → ∃ M', TgtOK mt q.2.1 w M' ∧ mH M' = [] ∧ mR M' = none ∧ (mY M').name = "<init>" ∧ Cond.instanceMethod (mY M') ∈ lw_all ∧ (Cond.methodLink own i (mY M') ∈ lw_all ∨ ∃ host, Cond.methodLinkNest own i (mY M') host ∈ xtra)) ∧
  (q.1 = 2 → ∀ t w, lkN t q.2.2.2 = some w → ∃ M' C, TgtOK mt q.2.1 w M' ∧ ((t < 20 ∧ ∃ r, clsL[t]? = some r ∧ r.1 = C) ∨ (t = 20 ∧ C = "java/lang/String")) ∧ Cond.instanceMethod (mY M') ∈ lw_all ∧
    ((Cond.methodLink own i (mY M') ∈ lw_all ∧ Cond.selects C (mY M') (mY M') ∈ lw_all) ∨
      ∃ x, Cond.methodLink own i x ∈ lw_all ∧ Cond.sameMethod x.cls x.cls x.name x.desc ∈ lw_all ∧ Cond.declares x ∈ xtra ∧ PlainY x q.2.1 ∧ Cond.selects C x (mY M') ∈ lw_all)) ∧
  (q.1 = 3 → Cond.methodLink own i Lib.objectInit ∈ lw_all) ∧ (q.1 = 4 → Cond.methodLink own i arraycopyName ∈ lw_all) ∧ (q.1 = 5 → Cond.methodLink own i iseInit ∈ lw_all) ∧ (q.1 = 6 → Cond.methodLink own i getCls ∈ lw_all) ∧ (∀ y, mth q.1 = some y → Cond.methodLink own i y ∈ lw_all)
theorem cp1_cpy {α : Type} (f g : Nat → α) (sp dp n : Nat) : va_cpy f g sp dp n = cp1 f g sp dp n := by
  funext k
  unfold va_cpy cp1
  by_cases h1 : dp ≤ k
  · by_cases h2 : k < dp + n
    · rw [if_pos ⟨h1, h2⟩, Nat.ble_eq_true_of_le h1, Nat.blt_eq.mpr h2]; rfl
    · rw [if_neg (fun h => h2 h.2)]
      have : Nat.blt k (dp + n) = false := by rw [Bool.eq_false_iff, ne_eq, Nat.blt_eq]; exact h2
      rw [this, Bool.and_false]; rfl
  · rw [if_neg (fun h => h1 h.1)]
    have : Nat.ble dp k = false := by rw [Bool.eq_false_iff, ne_eq, Nat.ble_eq]; exact h1
    rw [this, Bool.false_and]; rfl
section SND8
variable {X : Cx} {F : Fx} {p : Program} {l : Launch} {e : Env} {R : Room} {s : State} {m : MethodId} {args : Array Value} {below : List Frame} {meth : Method} {c : Code} {M : MI} {d n0 m0 : Nat} {res : Out × St}
variable {go : Go} {cl : Cl} {pc len : Nat} {cut : Option (List Nat)} {t : List Ent} {ls : Lcs} {st : List Value} {σ : St} {mt : Nat → Option MI}
/-- a stretch of one array comes into another -/
theorem mx_copy {H : Heap} {locs : List Loc} {cells slots : Nat} {Q : State → Prop} {cc : ByteArray} {lsA : Array Slot} {rest : List Value} (hexec : p.tables.exec = Jvm.exec) (hb : c.code = cc) (hml : c.maxLocals = lsA.size) (hts : ∀ w ∈ lw_all, w.before args s = true) {own : String} {index : Nat} (hown : s.vm.findClass own = some m.cls) (hlink : (Cond.methodLink own index arraycopyName).before args s = true)
    {a0 a n0 n1 : Nat} {cA : ClassId} {f g : Nat → Value} {ty : FieldType} (hT : ArrOfT s cA ty) (hc0 : H[a0]? = some (arrV cA n0 f)) (hc1 : H[a]? = some (arrV cA n1 g))
    {sp dp n : Int32} (h1 : ¬ sp < 0) (h2 : ¬ dp < 0) (h3 : ¬ n < 0) (h4 : sp.toNatClampNeg + n.toNatClampNeg ≤ n0) (h5 : dp.toNatClampNeg + n.toNatClampNeg ≤ n1)
    (hel : ∀ i, i < n.toNatClampNeg → fits ty (f (sp.toNatClampNeg + i)) = true ∧ ∀ (vm₁ : Vm) (T : State) (kA : Class) (comp : ClassId), T.heap = H → s.vm.Alike vm₁ → s.vm.classes[cA]? = some kA → kA.kind = .array comp ty → (T.setVm vm₁).takes comp (f (sp.toNatClampNeg + i)))
    (hframes : 1 ≤ R.frames) (hlocals : (rest.map fun v => v.category).sum + (nativeFrameWords "java/lang/System" "arraycopy" 5 + 11) ≤ R.locals) (hdg : decode cc pc = .ok (.invokestatic index, 3))
    (kk : ∀ (H1 : Heap) (L : List Loc), H1[a]? = some (arrV cA n1 (va_cpy f g sp.toNatClampNeg dp.toNatClampNeg n.toNatClampNeg)) → H1.size = H.size → (∀ q : Nat, q ≠ a → H1[q]? = H[q]?) → (∀ q ∈ L, q.base = a) → W p l e R s m args below meth c H1 (locs ++ L) cells slots Q (F0 m (pc + 3) lsA rest)) :
    W p l e R s m args below meth c H locs cells slots Q (F0 m pc lsA (.int n :: .int dp :: .ref a :: .int sp :: .ref a0 :: rest)) := by
  have nn : ∀ z : Int32, ¬ z < 0 → z.toInt = (z.toNatClampNeg : Int) := by
    intro z hz
    have hz0 : (0 : Int) ≤ z.toInt := by
      have := Int32.not_lt.mp hz
      simpa using Int32.le_iff_toInt_le.mp this
    show z.toInt = ((z.toInt.toNat : Nat) : Int)
    omega
  intro T hTh XX
  obtain ⟨-, k0, hk0, cm0, hkk0⟩ := hT n0 f
  obtain ⟨vm', X', step⟩ := XX.arraycopy hexec hown hlink (hts _ q852) (hts _ q851) (hts _ q203) (src := a0) (dst := a) (cs := arrV cA n0 f) (cd := arrV cA n1 g) (srcPos := sp) (destPos := dp) (n := n) (by rw [hTh]; exact hc0) (by rw [hTh]; exact hc1)
    (fun _ h => by cases h) (fun _ h => by cases h) (fun h => by cases h) (fun h => by cases h) hk0 hk0 hkk0 hkk0 (by simp) h1 h2 h3
    (by rw [nn sp h1, nn n h3, arrV_size]; omega)
    (by rw [nn dp h2, nn n h3, arrV_size]; omega)
    (fun vm₁ hal i hi => by
      have e : (arrV cA n0 f).slots.getD (sp.toNatClampNeg + i) .null = f (sp.toNatClampNeg + i) := by
        rw [Array.getD_eq_getD_getElem?, arrV_read _ _ (by omega)]
        rfl
      rw [e]
      exact ⟨(hel i hi).1, (hel i hi).2 vm₁ T k0 cm0 hTh hal hk0 hkk0⟩)
    (g := F0 m pc lsA (.int n :: .int dp :: .ref a :: .int sp :: .ref a0 :: rest)) rfl (by rw [hml]) (rest := rest) rfl (by rw [hb]; exact hdg) hframes (by show 2 * 0 + _ + _ ≤ _; omega)
  have e1 : copied (arrV cA n0 f) (arrV cA n1 g) sp dp n = arrV cA n1 (va_cpy f g sp.toNatClampNeg dp.toNatClampNeg n.toNatClampNeg) := va_copied (fun z => z) cA cA f g h4
  rw [e1] at X' step
  have hl : a < H.size := (Array.getElem?_eq_some_iff.mp hc1).1
  have hheap : ((T.setVm vm').setCell a (arrV cA n1 (va_cpy f g sp.toNatClampNeg dp.toNatClampNeg n.toNatClampNeg))).heap = H.setIfInBounds a (arrV cA n1 (va_cpy f g sp.toNatClampNeg dp.toNatClampNeg n.toNatClampNeg)) := by rw [← hTh]; rfl
  obtain ⟨t, a1, b1⟩ := kk _ _ (by simp [Array.getElem?_setIfInBounds, hl]) (by simp) (fun q hq => by simp [Array.getElem?_setIfInBounds, Ne.symm hq]) (fun q hq => by
      obtain ⟨z, -, hz⟩ := List.mem_map.mp hq
      rw [← hz]) _ hheap X'
  exact ⟨t, step t a1, b1⟩
theorem snd_S (hS : Sc X F p e R s m args meth c M d n0 m0 res) (hg : GoOK X F p l e R s m args below meth c M n0 m0 res go) (hcl : ClSnd X F l mt d cl) (hH : HOK M) (hcp : ∀ q ∈ (mK M).2.2.1, MOK mt (mK M).1 q.1 q.2) {i : Nat} (hd : decode (mB M) pc = .ok (.invokestatic i, 3)) (ht : ∀ z ∈ t, z ∈ mC M)
    (h : stepS F M go cl (pc, .invokestatic i, 3, cut) t ls st σ i = some res) : Le σ res.2 ∧ WA X F p l e R s m args below meth c M n0 m0 res pc ls st σ := by
  have hS0 := hS
  obtain ⟨hx, hb, hr, hlk, hml, hown, hts, hKF, hex, hnm, hstt, ⟨hrf, hrl, hrc, hrs⟩, hdec, hF5⟩ := hS
  obtain ⟨q, hq, h1⟩ := ob_inv h
  clear h
  obtain ⟨k0, -, -, -, k4, -, -, k7⟩ := hcp _ (lkN_mem hq)
  obtain ⟨qk, qn, qr, qt⟩ := q
  rcases qk with _ | _ | _ | _ | _ | _ | _ | _ | _ | _ | _ | _ | _ | qk
  · -- a method
    obtain ⟨z, hz, h2⟩ := ob_inv h1
    obtain ⟨w, hw, h3⟩ := ob_inv h2
    obtain ⟨M', ⟨t1, t2, t3, t4, t5⟩, hnil, w1, w2⟩ := k0 rfl w hw
    obtain ⟨pp, e1, e2, e3⟩ := splA_spec _ _ _ _ hz
    rw [List.append_nil] at e2
    have hcode : (Cond.code (mY M') (mB M') (mL M') (mR M')).before args s = true := by
      have := hts _ t3
      unfold wordM at this
      rw [hnil] at this
      exact this
    refine snd_doCall hS0 hg hcl hH hd ht t1 t2 t3 t4 (fun H locs lsA cs ss T hW hV hTh XX => ?_) h3
    have hstk : st.map (cv X) = (z.1.map (cv X)).reverse ++ z.2.map (cv X) := by
      rw [e1, e2, List.map_append, List.map_reverse, List.reverse_reverse]
    have hlen := t5.len (k := (z.1.map (cv X)).length) (by rw [List.length_map, e2, List.length_reverse, e3])
    rcases w2 with hl | ⟨host, hl⟩
    · exact mx_invS XX hx hown (hts _ hl) (hts _ w1) (hts _ t4) hcode t5.1 (g := F0 m pc lsA (st.map (cv X))) rfl (argsL := z.1.map (cv X)) (rest := z.2.map (cv X)) hlen hstk (by rw [hb]; exact hd)
    · exact mx_invSN XX hx hown (va_Nw.use (xtra_t (xtra_k _ hl)) (hKF.2.2.2.2.2.2.2.2.2.2.1 _ hl)) (hts _ w1) (hts _ t4) hcode t5.1 (g := F0 m pc lsA (st.map (cv X))) rfl (argsL := z.1.map (cv X)) (rest := z.2.map (cv X)) hlen hstk (by rw [hb]; exact hd)
  · cases h1
  · cases h1
  · cases h1
  · -- arraycopy
    obtain ⟨n, r1, e1, h1⟩ := pI_inv h1
    obtain ⟨dp, r2, e2, h1⟩ := pI_inv h1
    obtain ⟨b, r3, e3, h1⟩ := pA_inv h1
    obtain ⟨sp, r4, e4, h1⟩ := pI_inv h1
    obtain ⟨a, r5, e5, h1⟩ := pA_inv h1
    subst e1; subst e2; subst e3; subst e4; subst e5
    obtain ⟨hm, h1⟩ := bif_inv h1
    simp only [Bool.and_eq_true, decide_eq_true_eq] at hm
    obtain ⟨⟨⟨⟨⟨⟨⟨m1, m2⟩, m3⟩, m4⟩, m5⟩, m6⟩, m7⟩, m8⟩ := hm
    have m4 := Nat.le_of_ble_eq_true m4
    have m5 := Nat.le_of_ble_eq_true m5
    have m7 := Nat.eq_of_beq_eq_true m7
    have m8 := Nat.le_of_ble_eq_true m8
    have hab : a ≠ b := fun e0 => by rw [e0] at m6; simp at m6
    have fin : ∀ τ : St, 64 ≤ tg F σ a → tg F σ a ≤ 70 → nx τ = nx σ → sl τ = sl σ → (∀ x, tg F τ x = tg F σ x) → (∀ x, ln F τ x = ln F σ x) → (∀ x, x ≠ b → rI τ x = rI σ x ∧ rJ τ x = rJ σ x ∧ rR F τ x = rR F σ x) →
        (va_cpy (aval X F σ (tg F σ a) a) (aval X F σ (tg F σ a) b) sp.toNatClampNeg dp.toNatClampNeg n.toNatClampNeg = aval X F τ (tg F σ a) b) →
        ((∀ x, tg F σ x = 66 → ∀ j, fits .byte (.int (rI σ x j)) = true) → tg F σ a = 66 → ∀ j, fits .byte (.int (rI τ b j)) = true) →
        (∀ H, Wd X F σ H → ∀ i, i < n.toNatClampNeg → fits (aty (tg F σ a)) (aval X F σ (tg F σ a) a (sp.toNatClampNeg + i)) = true ∧ ∀ (vm₁ : Vm) (T : State) (kA : Class) (comp : ClassId), T.heap = H → s.vm.Alike vm₁ → s.vm.classes[xA X (tg F σ a)]? = some kA → kA.kind = .array comp (aty (tg F σ a)) → (T.setVm vm₁).takes comp (aval X F σ (tg F σ a) a (sp.toNatClampNeg + i))) →
        go (pc + 3) t ls r5 τ = some res → Le σ res.2 ∧ WA X F p l e R s m args below meth c M n0 m0 res pc ls (.int n :: .int dp :: .ref b :: .int sp :: .ref a :: r5) σ := by
      intro τ t1 t2 hn1 hn2 htg hln hoth hcpy hbt hels hgo
      obtain ⟨q1, q2⟩ := hg _ _ _ _ _ ht hgo
      refine ⟨⟨by rw [← hn1]; exact q1.1, by rw [← hn2]; exact q1.2⟩, fun H locs lsA hW hV hL g1 g2 => ?_⟩
      have hRa := (hW.2.2.2.2.2.2 a).2.2.2.1 t1 t2
      have hRb := (hW.2.2.2.2.2.2 b).2.2.2.1 (by omega) (by omega)
      rw [← m7] at hRb
      have hb16 : 16 ≤ b := hW.hi (by omega) (by omega)
      simp only [List.map_cons]
      rw [cv_ref (ne5 hF5 (a := a) (σ := σ) (by omega)), cv_ref (ne5 hF5 (a := b) (σ := σ) (by omega))]
      refine mx_copy hx hb (by rw [hL.1, hml]) hts hown (hts _ (k4 rfl)) (hKF.2.2.2.1 (tg F σ a) (by omega) (by omega)).1 hRa hRb (Int32.not_lt.mpr m2) (Int32.not_lt.mpr m3) (Int32.not_lt.mpr m1) m4 m5 (hels H hW) (by rw [hrf]; omega) ?_ hd fun H1 L e1 e2 e3 e4 => ?_
      · rw [cats_eq hKF.2.1, hrl]
        have : nativeFrameWords "java/lang/System" "arraycopy" 5 ≤ 20 := by decide
        omega
      · rw [hcpy] at e1
        have hW1 : Wd X F τ H1 := hW.putA (a := b) (by omega) (by omega) hn1 htg hln hoth e2 e3 (by rw [← m7]; exact e1) (fun h66 => hbt (fun x hx66 => (hW.2.2.2.2.2.2 x).2.2.2.2.2 hx66) (by omega))
        have hV1 : va_S (Aq X) s.heap H1 (locs ++ L) := by
          refine ⟨by rw [e2]; exact hV.1, fun q h1 h2 => ?_, fun q hq => ?_⟩
          · rw [e3 q (fun e0 => h2 (by rw [e0]; exact aq_adr X hb16))]
            exact hV.2.1 q h1 h2
          · rcases List.mem_append.mp hq with h | h
            · exact hV.2.2 q h
            · rw [e4 q h]; exact aq_adr X hb16
        have := q2 H1 (locs ++ L) lsA hW1 hV1 hL (by rw [hn1]; exact g1) (by rw [hn2]; exact g2)
        rw [hn1, hn2] at this
        exact this
    have ocpI : ∀ x, x ≠ b → rI (cpI σ a sp.toNatClampNeg b dp.toNatClampNeg n.toNatClampNeg) x = rI σ x ∧ rJ (cpI σ a sp.toNatClampNeg b dp.toNatClampNeg n.toNatClampNeg) x = rJ σ x ∧ rR F (cpI σ a sp.toNatClampNeg b dp.toNatClampNeg n.toNatClampNeg) x = rR F σ x := fun x hx => ⟨up1_ne _ _ hx, rfl, rfl⟩
    have rIb : rI (cpI σ a sp.toNatClampNeg b dp.toNatClampNeg n.toNatClampNeg) b = cp1 (rI σ a) (rI σ b) sp.toNatClampNeg dp.toNatClampNeg n.toNatClampNeg := up1_same _ _ _
    cases hk : (Nat.beq (tg F σ a) 64 || Nat.beq (tg F σ a) 66) with
    | true =>
      rw [hk] at h1
      have htt := beq_or hk
      refine fin (cpI σ a sp.toNatClampNeg b dp.toNatClampNeg n.toNatClampNeg) (by omega) (by omega) rfl rfl (fun _ => rfl) (fun _ => rfl) ocpI ?_ ?_ ?_ h1
      · rw [cp1_cpy]
        funext j
        rw [aval_int (by omega), rIb]
        unfold cp1
        rw [aval_int (by omega), aval_int (by omega)]
        cases (Nat.ble dp.toNatClampNeg j && Nat.blt j (dp.toNatClampNeg + n.toNatClampNeg)) <;> rfl
      · intro hall h66 j
        rw [rIb]
        unfold cp1
        cases (Nat.ble dp.toNatClampNeg j && Nat.blt j (dp.toNatClampNeg + n.toNatClampNeg))
        · exact hall b (by omega) j
        · exact hall a h66 _
      · intro H hW i hi
        rw [aval_int (by omega)]
        refine ⟨?_, fun _ _ _ _ _ _ _ _ => trivial⟩
        rcases htt with e1 | e1
        · rw [e1]; rfl
        · rw [e1]; exact (hW.2.2.2.2.2.2 a).2.2.2.2.2 e1 _
    | false =>
      rw [hk] at h1
      have h1 : (bif Nat.beq (tg F σ a) 68 && Nat.ble F.1 a && Nat.ble F.1 b && okEls F σ a sp.toNatClampNeg n.toNatClampNeg then go (pc + 3) t ls r5 (cpR σ a sp.toNatClampNeg b dp.toNatClampNeg n.toNatClampNeg) else none) = some res := h1
      obtain ⟨hm2, h1⟩ := bif_inv h1
      rw [Bool.and_eq_true, Bool.and_eq_true, Bool.and_eq_true] at hm2
      obtain ⟨⟨⟨w1, w2⟩, w3⟩, w4⟩ := hm2
      have w1 := Nat.eq_of_beq_eq_true w1
      have w2 := Nat.le_of_ble_eq_true w2
      have w3 := Nat.le_of_ble_eq_true w3
      have rRb : rR F (cpR σ a sp.toNatClampNeg b dp.toNatClampNeg n.toNatClampNeg) b = cp1 (rR F σ a) (rR F σ b) sp.toNatClampNeg dp.toNatClampNeg n.toNatClampNeg := by
        rw [rR_hi w3, rR_hi w2, rR_hi w3]
        exact up1_same _ _ _
      have ocpR : ∀ x, x ≠ b → rI (cpR σ a sp.toNatClampNeg b dp.toNatClampNeg n.toNatClampNeg) x = rI σ x ∧ rJ (cpR σ a sp.toNatClampNeg b dp.toNatClampNeg n.toNatClampNeg) x = rJ σ x ∧ rR F (cpR σ a sp.toNatClampNeg b dp.toNatClampNeg n.toNatClampNeg) x = rR F σ x := by
        intro x hx
        refine ⟨rfl, rfl, ?_⟩
        funext j
        unfold rR
        have : (cpR σ a sp.toNatClampNeg b dp.toNatClampNeg n.toNatClampNeg).2.2.2.2.1 x = σ.2.2.2.2.1 x := up1_ne _ _ hx
        rw [this]
      refine fin (cpR σ a sp.toNatClampNeg b dp.toNatClampNeg n.toNatClampNeg) (by omega) (by omega) rfl rfl (fun _ => rfl) (fun _ => rfl) ocpR ?_ (fun _ h66 => by omega) ?_ h1
      · rw [cp1_cpy]
        funext j
        rw [aval_ref (by omega), rRb]
        unfold cp1
        rw [aval_ref (by omega), aval_ref (by omega)]
        cases (Nat.ble dp.toNatClampNeg j && Nat.blt j (dp.toNatClampNeg + n.toNatClampNeg)) <;> rfl
      · intro H hW i hi
        rw [aval_ref (by omega)]
        have hok := List.all_eq_true.mp w4 i (List.mem_range.mpr hi)
        have hty : aty (tg F σ a) = .object "java/lang/Object" := by rw [w1]; rfl
        rw [hty]
        cases hy : rR F σ a (sp.toNatClampNeg + i) with
        | none => exact ⟨rfl, fun _ _ _ _ _ _ _ _ => trivial⟩
        | some y =>
          rw [hy] at hok
          rw [Bool.and_eq_true] at hok
          have y1 := Nat.le_of_ble_eq_true hok.1
          have y2 := Nat.le_of_ble_eq_true hok.2
          obtain ⟨qc, hc, hca, -⟩ := xcO _ y1 y2
          obtain ⟨cellV, v1, v2, v3, v4⟩ := obj_cell hW hKF hc (by omega)
          have ey : cvo X (some y) = .ref (adr X y) := cv_ref (ne5 hF5 (a := y) (σ := σ) (by omega))
          rw [ey]
          refine ⟨rfl, fun vm₁ T kA comp hTh hal hkA hkk => ?_⟩
          have hRA := (hKF.2.2.2.1 (tg F σ a) (by omega) (by omega)).2 (by omega)
          rw [hty] at hRA
          obtain ⟨kA', comp', r1, r2, r3, -⟩ := hRA
          cases hkA.symm.trans r1
          cases hkk.symm.trans r2
          obtain ⟨c0, tt1, f1, f2, f3⟩ := Cond.castable_spec (va_Nw.use (A := args) rfl (hKF.2.2.2.2.2.2.2.2.2.2.1 _ hca))
          cases v4.1.symm.trans f1
          cases r3.symm.trans f2
          obtain ⟨kC, hkC, -⟩ := v4.2
          obtain ⟨kE, hkE, -⟩ := Vm.findClass_spec r3
          obtain ⟨kC', hkC', -⟩ := hal.2.2 _ _ hkC
          obtain ⟨kE', hkE', -⟩ := hal.2.2 _ _ hkE
          refine ⟨cellV, (show T.heap[adr X y]? = some cellV by rw [hTh]; exact v1), (fun q h => by rw [v3] at h; cases h), ⟨kC', by rw [v2]; exact hkC'⟩, ⟨kE', hkE'⟩, ?_⟩
          show vm₁.assignable _ _ = true
          rw [hal.assignable, v2]
          exact f3
  · cases h1
  · cases h1
  · obtain ⟨x, y, r, e0, h1⟩ := pII_inv h1
    subst e0
    obtain ⟨hm, h1⟩ := bif_inv h1
    have hcats := Nat.le_of_ble_eq_true hm
    obtain ⟨q1, q2⟩ := hg _ _ _ _ _ ht h1
    refine ⟨q1, fun H locs lsA hW hV hL g1 g2 => ?_⟩
    have kk := q2 H locs lsA hW hV hL g1 g2
    exact va_mmax hx hb (by rw [hL.1, hml]) hown (hts _ (k7 _ rfl)) (hts _ q930) (hts _ q210) (hts _ q931) (by rw [hrf]; omega) (by rw [cats_eq hKF.2.1, hrl]; omega) (by rw [hrc]; have := q1.1; omega) (by rw [hrs]; have := q1.2; omega) hd kk
  · obtain ⟨x, y, r, e0, h1⟩ := pII_inv h1
    subst e0
    obtain ⟨hm, h1⟩ := bif_inv h1
    have hcats := Nat.le_of_ble_eq_true hm
    obtain ⟨q1, q2⟩ := hg _ _ _ _ _ ht h1
    refine ⟨q1, fun H locs lsA hW hV hL g1 g2 => ?_⟩
    have kk := q2 H locs lsA hW hV hL g1 g2
    exact va_mmin hx hb (by rw [hL.1, hml]) hown (hts _ (k7 _ rfl)) (hts _ q970) (hts _ q210) (hts _ q971) (by rw [hrf]; omega) (by rw [cats_eq hKF.2.1, hrl]; omega) (by rw [hrc]; have := q1.1; omega) (by rw [hrs]; have := q1.2; omega) hd kk
  · obtain ⟨x, y, r, e0, h1⟩ := pJJ_inv h1
    subst e0
    obtain ⟨hm, h1⟩ := bif_inv h1
    have hcats := Nat.le_of_ble_eq_true hm
    obtain ⟨q1, q2⟩ := hg _ _ _ _ _ ht h1
    refine ⟨q1, fun H locs lsA hW hV hL g1 g2 => ?_⟩
    have kk := q2 H locs lsA hW hV hL g1 g2
    exact va_mmax_long hx hb (by rw [hL.1, hml]) hown (hts _ (k7 _ rfl)) (hts _ q1246) (hts _ q210) (hts _ q1247) (by rw [hrf]; omega) (by rw [cats_eq hKF.2.1, hrl]; omega) (by rw [hrc]; have := q1.1; omega) (by rw [hrs]; have := q1.2; omega) hd kk
  · obtain ⟨x, y, r, e0, h1⟩ := pJJ_inv h1
    subst e0
    obtain ⟨hm, h1⟩ := bif_inv h1
    have hcats := Nat.le_of_ble_eq_true hm
    obtain ⟨q1, q2⟩ := hg _ _ _ _ _ ht h1
    refine ⟨q1, fun H locs lsA hW hV hL g1 g2 => ?_⟩
    have kk := q2 H locs lsA hW hV hL g1 g2
    exact va_mmin_long hx hb (by rw [hL.1, hml]) hown (hts _ (k7 _ rfl)) (hts _ q1151) (hts _ q210) (hts _ q1152) (by rw [hrf]; omega) (by rw [cats_eq hKF.2.1, hrl]; omega) (by rw [hrc]; have := q1.1; omega) (by rw [hrs]; have := q1.2; omega) hd kk
  · obtain ⟨x, r, e0, h1⟩ := pI_inv h1
    subst e0
    obtain ⟨hm, h1⟩ := bif_inv h1
    have hcats := Nat.le_of_ble_eq_true hm
    obtain ⟨q1, q2⟩ := hg _ _ _ _ _ ht h1
    refine ⟨q1, fun H locs lsA hW hV hL g1 g2 => ?_⟩
    have kk := q2 H locs lsA hW hV hL g1 g2
    exact va_mabs hx hb (by rw [hL.1, hml]) hown (hts _ (k7 _ rfl)) (hts _ q1649) (hts _ q210) (hts _ q1650) (by rw [hrf]; omega) (by rw [cats_eq hKF.2.1, hrl]; omega) (by rw [hrc]; have := q1.1; omega) (by rw [hrs]; have := q1.2; omega) hd kk
  · obtain ⟨x, r, e0, h1⟩ := pJ_inv h1
    subst e0
    obtain ⟨hm, h1⟩ := bif_inv h1
    have hcats := Nat.le_of_ble_eq_true hm
    obtain ⟨q1, q2⟩ := hg _ _ _ _ _ ht h1
    refine ⟨q1, fun H locs lsA hW hV hL g1 g2 => ?_⟩
    have kk := q2 H locs lsA hW hV hL g1 g2
    exact va_mabs_long hx hb (by rw [hL.1, hml]) hown (hts _ (k7 _ rfl)) (hts _ q1712) (hts _ q210) (hts _ q1713) (by rw [hrf]; omega) (by rw [cats_eq hKF.2.1, hrl]; omega) (by rw [hrc]; have := q1.1; omega) (by rw [hrs]; have := q1.2; omega) hd kk
  · cases h1
theorem snd_V (hS : Sc X F p e R s m args meth c M d n0 m0 res) (hg : GoOK X F p l e R s m args below meth c M n0 m0 res go) (hcl : ClSnd X F l mt d cl) (hH : HOK M) (hcp : ∀ q ∈ (mK M).2.2.1, MOK mt (mK M).1 q.1 q.2) {i : Nat} (hd : decode (mB M) pc = .ok (.invokevirtual i, 3)) (ht : ∀ z ∈ t, z ∈ mC M)
    (h : stepV F M go cl (pc, .invokevirtual i, 3, cut) t ls st σ i = some res) : Le σ res.2 ∧ WA X F p l e R s m args below meth c M n0 m0 res pc ls st σ := by
  have hS0 := hS
  obtain ⟨hx, hb, hr, hlk, hml, hown, hts, hKF, hex, hnm, hstt, ⟨hrf, hrl, hrc, hrs⟩, hdec, hF5⟩ := hS
  obtain ⟨q, hq, h1⟩ := ob_inv h
  clear h
  obtain ⟨-, -, k2, -, -, -, k6, -⟩ := hcp _ (lkN_mem hq)
  obtain ⟨qk, qn, qr, qt⟩ := q
  rcases qk with _ | _ | _ | _ | _ | _ | _ | qk
  · cases h1
  · cases h1
  · -- a method
    obtain ⟨z, hz, h2⟩ := ob_inv h1
    obtain ⟨a, r, ez, h2⟩ := pA_inv h2
    obtain ⟨w, hw, h3⟩ := ob_inv h2
    obtain ⟨M', C, ⟨t1, t2, t3, t4, t5⟩, hC, w1, w2⟩ := k2 rfl _ w hw
    obtain ⟨pp, e1, e2, e3⟩ := splA_spec _ _ _ _ hz
    rw [List.append_nil] at e2
    rw [ez] at e1
    refine snd_doCall hS0 hg hcl hH hd ht t1 t2 t3 t4 (fun H locs lsA cs ss T hW hV hTh XX => ?_) h3
    have ha5 : cv X (.ref a) = .ref (adr X a) := by
      refine cv_ref (ne5 hF5 (a := a) (σ := σ) ?_)
      rcases hC with ⟨h20, -⟩ | ⟨h20, -⟩ <;> omega
    have hstk : st.map (cv X) = (z.1.map (cv X)).reverse ++ .ref (adr X a) :: r.map (cv X) := by
      rw [e1, e2, List.map_append, List.map_reverse, List.reverse_reverse, List.map_cons, ha5]
    have hlen : (z.1.map (cv X)).length = qn := by rw [List.length_map, e2, List.length_reverse, e3]
    have hcell : ∃ cell : Cell, T.heap[adr X a]? = some cell ∧ (∀ k, cell.vm ≠ .statics k) ∧ s.vm.findClass C = some cell.cls := by
      rcases hC with ⟨h20, r0, hr0, hC⟩ | ⟨h20, hC⟩
      · obtain ⟨cell, v1, v2, v3, v4⟩ := obj_cell hW hKF hr0 h20
        exact ⟨cell, by rw [hTh]; exact v1, (fun k h => by rw [v3] at h; cases h), by rw [← hC, v2]; exact v4.1⟩
      · obtain ⟨ea, -, -⟩ := (hW.2.2.2.2.2.2 a).2.1 h20
        subst ea
        obtain ⟨g1, cell, g2, g3, g4⟩ := hKF.2.2.2.2.2.2.2.1
        refine ⟨cell, ?_, g3, by rw [hC]; exact g4⟩
        rw [hTh, hV.2.1 _ (Array.getElem?_eq_some_iff.mp g2).1 (by show ¬ xB X ≤ _; omega)]
        exact g2
    obtain ⟨cell, v1, v2, v3⟩ := hcell
    have hargs : ((Value.ref a :: z.1).map (cv X)).toArray = (Value.ref (adr X a) :: z.1.map (cv X)).toArray := by
      rw [List.map_cons, ha5]
    rw [hargs]
    rcases w2 with ⟨hl, hsel⟩ | ⟨x, hl, hsm, hdc, hpl, hsel⟩
    · exact mx_invV XX hx hown (hts _ hl) (hts _ w1) (hts _ hsel) (decl_of (hts _ t3) (hts _ w1)) t5.1 v1 v2 v3 (g := F0 m pc lsA (st.map (cv X))) rfl (argsL := z.1.map (cv X)) (rest := r.map (cv X)) (t5.len hlen) hstk (by rw [hb]; exact hd)
    · exact mx_invU (owner := x.cls) XX hx hown (hts _ hl) (hts _ hsm) (va_Decl.abs (hKF.2.2.2.2.2.2.2.2.2.2.1 _ hdc)) hpl.1 (hts _ hsel) (hts _ w1) v1 v2 v3 (g := F0 m pc lsA (st.map (cv X))) rfl (argsL := z.1.map (cv X)) (rest := r.map (cv X)) (hpl.len hlen) hstk (by rw [hb]; exact hd)
  · cases h1
  · cases h1
  · cases h1
  · -- getClass
    obtain ⟨a, r, e0, h1⟩ := pA_inv h1
    subst e0
    obtain ⟨hm, h1⟩ := bif_inv h1
    rw [Bool.and_eq_true] at hm
    have t68 := Nat.eq_of_beq_eq_true hm.1
    have hcats := Nat.le_of_ble_eq_true hm.2
    obtain ⟨q1, q2⟩ := hg _ _ _ _ _ ht h1
    refine ⟨q1, fun H locs lsA hW hV hL g1 g2 => ?_⟩
    have kk := q2 H locs lsA hW hV hL g1 g2
    rw [List.map_cons, cv_ref (by decide)] at kk
    rw [List.map_cons, cv_ref (ne5 hF5 (a := a) (σ := σ) (by omega))]
    obtain ⟨cell, c1, c2, c3, c4, c5, c6, c7, c8⟩ := arr_cell hW hKF (a := a) (by omega) (by omega)
    have hRA := (hKF.2.2.2.1 (tg F σ a) (by omega) (by omega)).2 (by omega)
    have hcl2 : s.vm.findClass "[Ljava/lang/Object;" = some (xA X (tg F σ a)) := by
      rw [t68] at hRA ⊢
      obtain ⟨_, _, -, -, -, g4⟩ := hRA
      exact g4
    refine va_getC hx hb (by rw [hL.1, hml]) hown (hts _ (k6 rfl)) (va_Nw.use rfl (hKF.2.2.2.2.2.2.2.2.2.2.1 _ (List.mem_of_getElem? (i := 34) rfl))) (hts _ q2724) (hts _ q940) (hts _ q962) hKF.2.2.2.2.2.2.2.2.2.1 ⟨cell, c1, ?_, by rw [c5]; exact hcl2⟩ (by rw [hrf]; omega) ?_ hd kk
    · cases hv : cell.vm <;> first | rfl | exact absurd hv (c4 _)
    · rw [cats_eq hKF.2.1, hrl]
      omega
  · cases h1
end SND8
