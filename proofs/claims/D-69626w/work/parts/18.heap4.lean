/-! ===== soundness: new cells, casts, compares of references ===== -/
def dvok (t : Option FieldType) : Bool := match t with
  | some .int => true
  | some .long => true
  | some .boolean => true
  | some (.object _) => true
  | some (.array _) => true
  | _ => false
set_option maxRecDepth 100000 in
theorem clsL_ty : ∀ q ∈ clsL, ∀ k, k < q.2.2 → dvok (parseFieldDescriptor (q.2.1 k).2.2.1) = true := by
  have h : (clsL.all fun q => (List.range q.2.2).all fun k => dvok (parseFieldDescriptor (q.2.1 k).2.2.1)) = true := by decide +kernel
  intro q hq k hk
  exact List.all_eq_true.mp (List.all_eq_true.mp h q hq) k (List.mem_range.mpr hk)
theorem xcO : ∀ t, 11 ≤ t → t ≤ 17 → ∃ q, clsL[t]? = some q ∧ Cond.castable q.1 "java/lang/Object" ∈ xtra ∧ Cond.castable q.1 "MakingHouse$Solid" ∈ xtra := by
  intro t h1 h2
  have : t = 11 ∨ t = 12 ∨ t = 13 ∨ t = 14 ∨ t = 15 ∨ t = 16 ∨ t = 17 := by omega
  rcases this with rfl | rfl | rfl | rfl | rfl | rfl | rfl
  · exact ⟨_, rfl, List.mem_of_getElem? (i := 27) rfl, List.mem_of_getElem? (i := 21) rfl⟩
  · exact ⟨_, rfl, List.mem_of_getElem? (i := 28) rfl, List.mem_of_getElem? (i := 25) rfl⟩
  · exact ⟨_, rfl, List.mem_of_getElem? (i := 29) rfl, List.mem_of_getElem? (i := 20) rfl⟩
  · exact ⟨_, rfl, List.mem_of_getElem? (i := 30) rfl, List.mem_of_getElem? (i := 22) rfl⟩
  · exact ⟨_, rfl, List.mem_of_getElem? (i := 31) rfl, List.mem_of_getElem? (i := 23) rfl⟩
  · exact ⟨_, rfl, List.mem_of_getElem? (i := 32) rfl, List.mem_of_getElem? (i := 24) rfl⟩
  · exact ⟨_, rfl, List.mem_of_getElem? (i := 33) rfl, List.mem_of_getElem? (i := 26) rfl⟩
/-- new -/
def NOK (own : String) (i : Nat) (q : Nat × Nat) : Prop := ∃ r : vw_C, clsL[q.1]? = some r ∧ (q.1 < 20 ∨ q.1 = 21) ∧ Cond.classLink own i r.1 ∈ lw_all ∧ Cond.instantiable r.1 q.2 ∈ lw_all ∧ Cond.initialized r.1 ∈ lw_all
/-- anewarray -/
def eln (t : Nat) : String := if t = 68 then "java/lang/Object" else if t = 69 then "MakingHouse$Spans" else "MakingHouse$Tool"
def AOK (own : String) (i t : Nat) : Prop := 68 ≤ t ∧ t ≤ 70 ∧ Cond.classLink own i (eln t) ∈ lw_all
/-- checkcast -/
def KOK (own : String) (i : Nat) (ts : List Nat) : Prop := ∀ t ∈ ts, (11 ≤ t ∧ t ≤ 17 ∧ Cond.classLink own i "MakingHouse$Solid" ∈ lw_all) ∨ (t = 68 ∧ Cond.classLink own i "[Ljava/lang/Object;" ∈ lw_all)
/-- constants, and statics (their places moved up) -/
def COK (own : String) (i : Nat) (v : Value) : Prop :=
  (i < 100000 ∧ ((∃ x, v = .int x ∧ Cond.constant own i x ∈ lw_all) ∨ (∃ x, v = .long x ∧ Cond.constantLong own i x ∈ lw_all) ∨ (v = .ref 2 ∧ ∃ q ∈ strs, q.1 = own ∧ q.2.1 = i) ∨ (v = .ref 4 ∧ Cond.classLink own i "[Ljava/lang/Object;" ∈ lw_all))) ∨
  (100000 ≤ i ∧ ∃ q ∈ stats, v = q.2.2.2 ∧ Cond.fieldLink own (i - 100000) q.1 q.2.1 q.2.2.1 ∈ lw_all)
section SND6
variable {X : Cx} {F : Fx} {p : Program} {l : Launch} {e : Env} {R : Room} {s : State} {m : MethodId} {args : Array Value} {below : List Frame} {meth : Method} {c : Code} {M : MI} {d n0 m0 : Nat} {res : Out × St}
variable {go : Go} {cl : Cl} {pc len : Nat} {cut : Option (List Nat)} {t : List Ent} {ls : Lcs} {st : List Value} {σ : St}
/-- an object's cell, and its class -/
theorem obj_cell {H : Heap} (hW : Wd X F σ H) (hKF : KF X s) {a : Nat} {q : vw_C} (hc : clsL[tg F σ a]? = some q) (h20 : tg F σ a < 20) : ∃ cell : Cell, H[adr X a]? = some cell ∧ cell.cls = (xG X).1 (tg F σ a) ∧ cell.vm = .none ∧ ClassAt s q.1 ((xG X).1 (tg F σ a)) := by
  obtain ⟨r0, hr0, cell, q1, q2, q3, -⟩ := (hW.2.2.2.2.2.2 a).1 h20
  exact ⟨cell, q1, q2, q3, (hKF.2.2.1.1 _ _ hc).2⟩
theorem snd_aast (hS : Sc X F p e R s m args meth c M d n0 m0 res) (hg : GoOK X F p l e R s m args below meth c M n0 m0 res go) (hd : decode (mB M) pc = .ok (.aastore, 1)) (ht : ∀ z ∈ t, z ∈ mC M)
    (h : stepH F M go (pc, .aastore, 1, cut) t ls st σ = some res) : Le σ res.2 ∧ WA X F p l e R s m args below meth c M n0 m0 res pc ls st σ := by
  obtain ⟨hx, hb, hr, hlk, hml, hown, hts, hKF, hex, hnm, hstt, hroom, hdec, hF5⟩ := hS
  obtain ⟨v, r, e0, h0⟩ := pA_inv h
  obtain ⟨j, r1, e1, h1⟩ := pI_inv h0
  obtain ⟨a, r', e2, h2⟩ := pA_inv h1
  subst e0; subst e1; subst e2
  obtain ⟨hm, h2⟩ := bif_inv h2
  rw [Bool.and_eq_true, Bool.and_eq_true] at hm
  obtain ⟨⟨hin0, hfr⟩, hk⟩ := hm
  have hin := inb_ok hin0
  have hkind : (tg F σ a = 68 ∧ 11 ≤ tg F σ v ∧ tg F σ v ≤ 17) ∨ (tg F σ a = 69 ∧ tg F σ v = 1) ∨ (tg F σ a = 70 ∧ tg F σ v = 18) := by
    rw [Bool.or_eq_true, Bool.or_eq_true, Bool.and_eq_true, Bool.and_eq_true, Bool.and_eq_true, Bool.and_eq_true] at hk
    rcases hk with (⟨⟨k1, k2⟩, k3⟩ | ⟨k1, k2⟩) | ⟨k1, k2⟩
    · exact Or.inl ⟨Nat.eq_of_beq_eq_true k1, Nat.le_of_ble_eq_true k2, Nat.le_of_ble_eq_true k3⟩
    · exact Or.inr (Or.inl ⟨Nat.eq_of_beq_eq_true k1, Nat.eq_of_beq_eq_true k2⟩)
    · exact Or.inr (Or.inr ⟨Nat.eq_of_beq_eq_true k1, Nat.eq_of_beq_eq_true k2⟩)
  have t68 : 68 ≤ tg F σ a ∧ tg F σ a ≤ 70 := by omega
  have tv : tg F σ v < 20 := by omega
  obtain ⟨q1, q2⟩ := hg _ _ _ _ _ ht h2
  refine ⟨q1, wa_ast (a := a) (τ := wR σ a j.toNatClampNeg (some v)) (j := j.toNatClampNeg) (v := cvo X (some v)) (by omega) (by omega) hF5 rfl rfl (fun _ => rfl) (fun _ => rfl) o_wR (up_aR t68.1 hfr) (fun h => by omega) (fun H locs lsA cs ss hW hc kk => ?_) q2⟩
  have hv5 : v ≠ 5 := ne5 hF5 (σ := σ) (by omega)
  rw [List.map_cons, List.map_cons, List.map_cons, cv_ref (ne5 hF5 (a := a) (σ := σ) (by omega)), cv_ref hv5]
  have e5 : cvo X (some v) = .ref (adr X v) := cv_ref hv5
  rw [e5] at kk
  -- the element's class goes into the array's
  have hE : ∃ q E, clsL[tg F σ v]? = some q ∧ aty (tg F σ a) = .object E ∧ ((q.1 = E) ∨ Cond.castable q.1 E ∈ xtra) := by
    rcases hkind with ⟨e1, e2, e3⟩ | ⟨e1, e2⟩ | ⟨e1, e2⟩
    · obtain ⟨q, g1, g2, -⟩ := xcO _ e2 e3
      exact ⟨q, _, g1, by rw [e1]; rfl, Or.inr g2⟩
    · exact ⟨_, _, by rw [e2]; rfl, by rw [e1]; rfl, Or.inl rfl⟩
    · exact ⟨_, _, by rw [e2]; rfl, by rw [e1]; rfl, Or.inl rfl⟩
  obtain ⟨q, E, hq, hty, hqE⟩ := hE
  obtain ⟨cellV, v1, v2, v3, v4⟩ := obj_cell hW hKF hq tv
  have hRA := (hKF.2.2.2.1 (tg F σ a) (by omega) (by omega)).2 (by omega)
  rw [hty] at hRA
  obtain ⟨kA, comp, k1, k2, k3, -⟩ := hRA
  obtain ⟨kE, hkE, -⟩ := Vm.findClass_spec k3
  obtain ⟨kC, hkC, -⟩ := v4.2
  have hasg : s.vm.assignable ((xG X).1 (tg F σ v)) comp = true := by
    rcases hqE with e1 | e1
    · rw [← e1] at k3
      cases k3.symm.trans v4.1
      exact va_assign v4
    · obtain ⟨c0, t1, f1, f2, f3⟩ := Cond.castable_spec (va_Nw.use (A := args) rfl (hKF.2.2.2.2.2.2.2.2.2.2.1 _ e1))
      cases v4.1.symm.trans f1
      cases k3.symm.trans f2
      exact f3
  refine W.aast hx hb hc (fun q h => by cases h) (fun h => by cases h) k1 k2 rfl hkE ⟨fun q => hin (Or.inl q), by rw [arrV_size]; exact Nat.not_le.mp fun q => hin (Or.inr q)⟩ v1 (fun q h => by rw [v3] at h; cases h) (by rw [v2]; exact hkC) (by rw [v2]; exact hasg) rfl rfl hd kk
/-- a new array stands -/
theorem Wd.newA {H : Heap} (hW : Wd X F σ H) {tag n k : Nat} (h1 : 64 ≤ tag) (h2 : tag ≤ 70) {v0 : Value} (hv : v0 = if tag = 65 then .long 0 else if 68 ≤ tag then .null else .int 0) {cA : ClassId} (hA : cA = xA X tag) :
    Wd X F (nw σ tag n k) (H.push { cls := cA, slots := Array.replicate n v0, vm := .none }) := by
  have hF := hW.2.2.1
  refine hW.new ?_
  unfold RepC
  rw [nw_tg hF, nw_ln hF, if_pos rfl, if_pos rfl]
  refine ⟨fun h => by omega, fun h => by omega, fun h => by omega, fun _ _ => ?_, fun h => by omega, fun _ j => ?_⟩
  · rw [hW.newAdr, Array.getElem?_push_size, arrV_new, hA]
    congr 2
    funext j
    rw [hv]
    unfold aval
    rw [nw_rI0, nw_rJ0, nw_rR0 hF]
    rfl
  · rw [nw_rI0]; rfl
theorem cv_new {H : Heap} (hW : Wd X F σ H) : cv X (.ref (nx σ)) = .ref H.size := by
  rw [cv_ref (by have := hW.2.1; omega), hW.newAdr]
theorem va_S.push {A : Nat → Prop} {H0 H : Heap} {locs : List Loc} {cell : Cell} (h : va_S A H0 H locs) : va_S A H0 (H.push cell) locs := by
  refine ⟨by rw [Array.size_push]; have := h.1; omega, fun q h1 h2 => ?_, h.2.2⟩
  rw [Array.getElem?_push, if_neg (by have := h.1; omega)]
  exact h.2.1 q h1 h2
theorem snd_newa (hS : Sc X F p e R s m args meth c M d n0 m0 res) (hg : GoOK X F p l e R s m args below meth c M n0 m0 res go) {ty : ArrayType} (hd : decode (mB M) pc = .ok (.newarray ty, 2)) (ht : ∀ z ∈ t, z ∈ mC M)
    (h : stepH F M go (pc, .newarray ty, 2, cut) t ls st σ = some res) : Le σ res.2 ∧ WA X F p l e R s m args below meth c M n0 m0 res pc ls st σ := by
  obtain ⟨hx, hb, hr, hlk, hml, hown, hts, hKF, hex, hnm, hstt, ⟨-, -, hrc, hrs⟩, hdec, hF5⟩ := hS
  obtain ⟨n, r, e0, h0⟩ := pI_inv h
  subst e0
  obtain ⟨hm, h0⟩ := bif_inv h0
  rw [Bool.and_eq_true, Bool.and_eq_true, decide_eq_true_eq] at hm
  obtain ⟨⟨hn0, hn1⟩, -⟩ := hm
  have hn1 := Nat.le_of_ble_eq_true hn1
  have key : ∃ tag, 64 ≤ tag ∧ tag ≤ 67 ∧ aty tag = newarray.typeOf ty ∧ Cond.arrayClass (newarray.typeOf ty) ∈ lw_all ∧ defaultValue (newarray.typeOf ty) = (if tag = 65 then .long 0 else if 68 ≤ tag then .null else .int 0) ∧ componentBytes (newarray.typeOf ty) ≤ 8 ∧ go (pc + 2) t ls (.ref (nx σ) :: r) (nw σ tag n.toNatClampNeg n.toNatClampNeg) = some res := by
    cases ty <;> first | cases h0 | skip
    all_goals first
      | exact ⟨64, by omega, by omega, rfl, q278, rfl, by decide, h0⟩
      | exact ⟨65, by omega, by omega, rfl, q279, rfl, by decide, h0⟩
      | exact ⟨66, by omega, by omega, rfl, q473, rfl, by decide, h0⟩
      | exact ⟨67, by omega, by omega, rfl, q356, rfl, by decide, h0⟩
  obtain ⟨tag, t1, t2, hty, hw, hdv, hcb, h0⟩ := key
  obtain ⟨q1, q2⟩ := hg _ _ _ _ _ ht h0
  have q1' : nx σ + 1 ≤ nx res.2 ∧ sl σ + n.toNatClampNeg ≤ sl res.2 := q1
  refine ⟨⟨by omega, by omega⟩, fun H locs lsA hW hV hL g1 g2 => ?_⟩
  rw [List.map_cons]
  refine W.newa (n := n) hx hb (hts _ hw) rfl hd rfl (Int32.not_lt.mpr hn0) (by have := Nat.mul_le_mul hn1 hcb; omega) (by rw [hrc]; omega) (by rw [hrs]; omega) fun cA kA comp f1 f2 f3 => ?_
  have hRA := (hKF.2.2.2.1 tag (by omega) (by omega)).2 (by omega)
  have hA : cA = xA X tag := by
    have : s.vm.findClass ("[" ++ (newarray.typeOf ty).toString) = some (xA X tag) := by
      rw [hty] at hRA
      cases ty <;> exact hRA
    exact Option.some.inj (f1.symm.trans this)
  have hW1 := hW.newA (tag := tag) (n := n.toNatClampNeg) (k := n.toNatClampNeg) t1 (by omega) hdv hA
  have := q2 _ locs lsA hW1 hV.push hL (by show n0 ≤ nx σ + 1; omega) (by show m0 ≤ sl σ + _; omega)
  rw [List.map_cons, cv_new hW] at this
  have e1 : nx (nw σ tag n.toNatClampNeg n.toNatClampNeg) - n0 = nx σ - n0 + 1 := by show nx σ + 1 - n0 = _; omega
  have e2 : sl (nw σ tag n.toNatClampNeg n.toNatClampNeg) - m0 = sl σ - m0 + n.toNatClampNeg := by show sl σ + _ - m0 = _; omega
  rw [e1, e2] at this
  exact this
theorem snd_anew (hS : Sc X F p e R s m args meth c M d n0 m0 res) (hg : GoOK X F p l e R s m args below meth c M n0 m0 res go) {k : Nat} (hcp : ∀ q ∈ (mK M).2.2.2.2.1, AOK (mK M).1 q.1 q.2) (hd : decode (mB M) pc = .ok (.anewarray k, 3)) (ht : ∀ z ∈ t, z ∈ mC M)
    (h : stepH F M go (pc, .anewarray k, 3, cut) t ls st σ = some res) : Le σ res.2 ∧ WA X F p l e R s m args below meth c M n0 m0 res pc ls st σ := by
  obtain ⟨hx, hb, hr, hlk, hml, hown, hts, hKF, hex, hnm, hstt, ⟨-, -, hrc, hrs⟩, hdec, hF5⟩ := hS
  obtain ⟨tag, htag, h⟩ := ob_inv h
  obtain ⟨n, r, e0, h0⟩ := pI_inv h
  subst e0
  obtain ⟨hm, h0⟩ := bif_inv h0
  rw [Bool.and_eq_true, Bool.and_eq_true, decide_eq_true_eq] at hm
  obtain ⟨⟨hn0, hn1⟩, -⟩ := hm
  have hn1 := Nat.le_of_ble_eq_true hn1
  obtain ⟨t1, t2, hw⟩ := hcp _ (lkN_mem htag)
  dsimp only at t1 t2 hw
  obtain ⟨q1, q2⟩ := hg _ _ _ _ _ ht h0
  have q1' : nx σ + 1 ≤ nx res.2 ∧ sl σ + n.toNatClampNeg ≤ sl res.2 := q1
  refine ⟨⟨by omega, by omega⟩, fun H locs lsA hW hV hL g1 g2 => ?_⟩
  rw [List.map_cons]
  have h3 : tag = 68 ∨ tag = 69 ∨ tag = 70 := by omega
  have hAO : va_AO (eln tag) s := by
    obtain ⟨a1, a2, a3⟩ := hKF.2.2.2.2.2.2.2.2.2.2.2.1
    rcases h3 with rfl | rfl | rfl
    · exact a1
    · exact a2
    · exact a3
  have hty : aty tag = .object (eln tag) := by rcases h3 with rfl | rfl | rfl <;> rfl
  refine W.anew (n := n) hx hb hown (hts _ hw) (va_AO.use hAO) rfl hd rfl (Int32.not_lt.mpr hn0) (by omega) (by rw [hrc]; omega) (by rw [hrs]; omega) fun cA kA comp f1 f2 f3 f4 => ?_
  have hRA := (hKF.2.2.2.1 tag (by omega) (by omega)).2 (by omega)
  have hA : cA = xA X tag := by
    rw [hty] at hRA
    obtain ⟨_, _, -, -, -, g4⟩ := hRA
    exact Option.some.inj (f1.symm.trans g4)
  have hW1 := hW.newA (tag := tag) (n := n.toNatClampNeg) (k := n.toNatClampNeg) (v0 := .null) (by omega) t2 (by rw [if_neg (by omega), if_pos t1]) hA
  have := q2 _ locs lsA hW1 hV.push hL (by show n0 ≤ nx σ + 1; omega) (by show m0 ≤ sl σ + _; omega)
  rw [List.map_cons, cv_new hW] at this
  have e1 : nx (nw σ tag n.toNatClampNeg n.toNatClampNeg) - n0 = nx σ - n0 + 1 := by show nx σ + 1 - n0 = _; omega
  have e2 : sl (nw σ tag n.toNatClampNeg n.toNatClampNeg) - m0 = sl σ - m0 + n.toNatClampNeg := by show sl σ + _ - m0 = _; omega
  rw [e1, e2] at this
  exact this
theorem snd_new (hS : Sc X F p e R s m args meth c M d n0 m0 res) (hg : GoOK X F p l e R s m args below meth c M n0 m0 res go) {k : Nat} (hcp : ∀ q ∈ (mK M).2.2.2.1, NOK (mK M).1 q.1 q.2) (hd : decode (mB M) pc = .ok (.new k, 3)) (ht : ∀ z ∈ t, z ∈ mC M)
    (h : stepH F M go (pc, .new k, 3, cut) t ls st σ = some res) : Le σ res.2 ∧ WA X F p l e R s m args below meth c M n0 m0 res pc ls st σ := by
  obtain ⟨hx, hb, hr, hlk, hml, hown, hts, hKF, hex, hnm, hstt, ⟨-, -, hrc, hrs⟩, hdec, hF5⟩ := hS
  obtain ⟨q, hq, h⟩ := ob_inv h
  obtain ⟨hm, h⟩ := bif_inv h
  obtain ⟨r, hc, htg, w1, w2, w3⟩ := hcp _ (lkN_mem hq)
  obtain ⟨tag, k0⟩ := q
  dsimp only at hc htg w1 w2 w3 h
  obtain ⟨q1, q2⟩ := hg _ _ _ _ _ ht h
  have q1' : nx σ + 1 ≤ nx res.2 ∧ sl σ + k0 ≤ sl res.2 := q1
  refine ⟨⟨by omega, by omega⟩, fun H locs lsA hW hV hL g1 g2 => ?_⟩
  have hkn := hKF.2.2.1.1 _ _ hc
  refine W.newc hx hb hown (hts _ w1) (hts _ w2) (hts _ w3) rfl hd (by rw [hrc]; omega) (by rw [hrs]; omega) fun cC kC f1 f2 f3 f4 => ?_
  have hcC : cC = (xG X).1 tag := Option.some.inj (f1.symm.trans hkn.2.1)
  subst hcC
  have hF := hW.2.2.1
  have hW1 : Wd X F (nw σ tag 0 k0) (H.push { cls := (xG X).1 tag, slots := kC.instanceTypes.map defaultValue, vm := .none }) := by
    refine hW.new ?_
    unfold RepC
    rw [nw_tg hF, if_pos rfl]
    refine ⟨fun h20 => ?_, fun h => by omega, fun h21 => ?_, fun h => by omega, fun h => by omega, fun h => by omega⟩
    · refine ⟨r, by rw [hKF.1]; exact hc, ?_⟩
      obtain ⟨hin, ⟨ty0, hty⟩, -⟩ := clsL_ok r (List.mem_of_getElem? hc)
      have hcell : (H.push ({ cls := (xG X).1 tag, slots := kC.instanceTypes.map defaultValue, vm := .none } : Cell))[adr X (nx σ)]? = some (blank ((xG X).1 tag) kC) := by
        rw [hW.newAdr, Array.getElem?_push_size]; rfl
      refine (u_born ty0 hts hin hkn f2 hcell hty).to fun j hj => ?_
      have h1 := clsL_ty r (List.mem_of_getElem? hc) j hj
      have e1 : fty (xC X) tag j = some (ty0 j) := by
        unfold fty
        rw [hKF.1, hc]
        exact hty j hj
      rw [e1]
      rw [hty j hj] at h1
      unfold fval
      rw [nw_rI0, nw_rJ0, nw_rR0 hF]
      revert h1
      cases ty0 j <;> intro h1 <;> first | rfl | cases h1
    · subst h21
      refine ⟨{ cls := (xG X).1 21, slots := kC.instanceTypes.map defaultValue, vm := .none }, by rw [hW.newAdr, Array.getElem?_push_size], rfl, rfl, fun _ => ?_⟩
      obtain ⟨kE, hkE, hiE⟩ := hKF.2.2.2.2.2.2.2.2.2.2.2.2.1
      cases hkE.symm.trans f2
      rw [hiE]
  have := q2 _ locs lsA hW1 hV.push hL (by show n0 ≤ nx σ + 1; omega) (by show m0 ≤ sl σ + _; omega)
  rw [List.map_cons, cv_new hW] at this
  have e1 : nx (nw σ tag 0 k0) - n0 = nx σ - n0 + 1 := by show nx σ + 1 - n0 = _; omega
  have e2 : sl (nw σ tag 0 k0) - m0 = sl σ - m0 + k0 := by show sl σ + _ - m0 = _; omega
  rw [e1, e2] at this
  exact this
theorem snd_cast (hS : Sc X F p e R s m args meth c M d n0 m0 res) (hg : GoOK X F p l e R s m args below meth c M n0 m0 res go) {k : Nat} (hcp : ∀ q ∈ (mK M).2.2.2.2.2.1, KOK (mK M).1 q.1 q.2) (hd : decode (mB M) pc = .ok (.checkcast k, 3)) (ht : ∀ z ∈ t, z ∈ mC M)
    (h : stepH F M go (pc, .checkcast k, 3, cut) t ls st σ = some res) : Le σ res.2 ∧ WA X F p l e R s m args below meth c M n0 m0 res pc ls st σ := by
  obtain ⟨hx, hb, hr, hlk, hml, hown, hts, hKF, hex, hnm, hstt, hroom, hdec, hF5⟩ := hS
  obtain ⟨q, hq, h⟩ := ob_inv h
  obtain ⟨a, r, e0, h0⟩ := pA_inv h
  subst e0
  obtain ⟨hm, h0⟩ := bif_inv h0
  obtain ⟨q1, q2⟩ := hg _ _ _ _ _ ht h0
  refine ⟨q1, fun H locs lsA hW hV hL g1 g2 => ?_⟩
  have kk := q2 H locs lsA hW hV hL g1 g2
  rcases hcp _ (lkN_mem hq) _ (memN_mem hm) with ⟨t1, t2, w⟩ | ⟨t1, w⟩
  · rw [List.map_cons, cv_ref (ne5 hF5 (a := a) (σ := σ) (by omega))] at kk ⊢
    obtain ⟨qc, hc, -, hca⟩ := xcO _ t1 t2
    obtain ⟨cell, v1, v2, v3, v4⟩ := obj_cell hW hKF hc (by omega)
    exact va_castY hx hb hown (hts _ w) (hKF.2.2.2.2.2.2.2.2.2.2.1 _ hca) ⟨cell, v1, by rw [v3]; rfl, by rw [v2]; exact v4.1⟩ hd kk
  · rw [List.map_cons, cv_ref (ne5 hF5 (a := a) (σ := σ) (by omega))] at kk ⊢
    obtain ⟨cell, c1, c2, c3, c4, c5, c6, c7, c8⟩ := arr_cell hW hKF (a := a) (by omega) (by omega)
    have hRA := (hKF.2.2.2.1 (tg F σ a) (by omega) (by omega)).2 (by omega)
    have hcl : s.vm.findClass "[Ljava/lang/Object;" = some (xA X (tg F σ a)) := by
      rw [t1] at hRA ⊢
      obtain ⟨_, _, -, -, -, g4⟩ := hRA
      exact g4
    refine va_castE hx hb hown (hts _ w) ⟨cell, c1, ?_, by rw [c5]; exact hcl⟩ hd kk
    cases hv : cell.vm <;> first | rfl | exact absurd hv (c4 _)
theorem snd_gets (hS : Sc X F p e R s m args meth c M d n0 m0 res) (hg : GoOK X F p l e R s m args below meth c M n0 m0 res go) {k : Nat} (hcp : ∀ q ∈ (mK M).2.2.2.2.2.2, COK (mK M).1 q.1 q.2) (hd : decode (mB M) pc = .ok (.getstatic k, 3)) (ht : ∀ z ∈ t, z ∈ mC M)
    (h : stepH F M go (pc, .getstatic k, 3, cut) t ls st σ = some res) : Le σ res.2 ∧ WA X F p l e R s m args below meth c M n0 m0 res pc ls st σ := by
  obtain ⟨hx, hb, hr, hlk, hml, hown, hts, hKF, hex, hnm, hstt, hroom, hdec, hF5⟩ := hS
  obtain ⟨v, hq, h⟩ := ob_inv h
  obtain ⟨q1, q2⟩ := hg _ _ _ _ _ ht h
  refine ⟨q1, fun H locs lsA hW hV hL g1 g2 => ?_⟩
  have kk := q2 H locs lsA hW hV hL g1 g2
  rcases hcp _ (lkN_mem hq) with ⟨h0, -⟩ | ⟨-, z, hz, e1, w⟩
  · dsimp only at h0
    omega
  · dsimp only at e1 w
    subst e1
    rw [Nat.add_sub_cancel] at w
    rw [List.map_cons] at kk
    exact va_gets hx hb (hKF.2.2.2.2.1 _ hz) hV hown (hts _ w) (fun x hx => hx) hd kk
theorem snd_null (hS : Sc X F p e R s m args meth c M d n0 m0 res) (hg : GoOK X F p l e R s m args below meth c M n0 m0 res go) {o : Int} (hd : decode (mB M) pc = .ok (.ifnull o, 3)) (hlen : lenok (pc, .ifnull o, 3, cut) = true) (ht : ∀ z ∈ t, z ∈ mC M)
    (h : stepH F M go (pc, .ifnull o, 3, cut) t ls st σ = some res) : Le σ res.2 ∧ WA X F p l e R s m args below meth c M n0 m0 res pc ls st σ := by
  obtain ⟨hx, hb, hr, hlk, hml, hown, hts, hKF, hex, hnm, hstt, hroom, hdec, hF5⟩ := hS
  rcases pN_inv h with ⟨a, r, e0, h0⟩ | ⟨r, e0, h0⟩
  · subst e0
    cases hq : Nat.beq (tg F σ a) 255 with
    | true => rw [hq] at h0; cases h0
    | false =>
      rw [hq] at h0
      have hne : tg F σ a ≠ 255 := fun e1 => by rw [e1] at hq; cases hq
      obtain ⟨q1, q2⟩ := hg _ _ _ _ _ ht h0
      refine ⟨q1, wa_st (fun H locs lsA cs ss hL kk => ?_) q2⟩
      rw [List.map_cons, cv_ref (ne5 hF5 hne)]
      exact lv_ifnull hx hb hd kk
  · subst e0
    obtain ⟨q1, q2⟩ := hg _ _ _ _ _ seek_sub h0
    exact ⟨q1, wa_st (fun H locs lsA cs ss hL kk => lv_ifnullN hx hb hd (tgt_ok hlen (o := o) List.mem_cons_self) kk) q2⟩
theorem snd_nonnull (hS : Sc X F p e R s m args meth c M d n0 m0 res) (hg : GoOK X F p l e R s m args below meth c M n0 m0 res go) {o : Int} (hd : decode (mB M) pc = .ok (.ifnonnull o, 3)) (hlen : lenok (pc, .ifnonnull o, 3, cut) = true) (ht : ∀ z ∈ t, z ∈ mC M)
    (h : stepH F M go (pc, .ifnonnull o, 3, cut) t ls st σ = some res) : Le σ res.2 ∧ WA X F p l e R s m args below meth c M n0 m0 res pc ls st σ := by
  obtain ⟨hx, hb, hr, hlk, hml, hown, hts, hKF, hex, hnm, hstt, hroom, hdec, hF5⟩ := hS
  rcases pN_inv h with ⟨a, r, e0, h0⟩ | ⟨r, e0, h0⟩
  · subst e0
    cases hq : Nat.beq (tg F σ a) 255 with
    | true => rw [hq] at h0; cases h0
    | false =>
      rw [hq] at h0
      have hne : tg F σ a ≠ 255 := fun e1 => by rw [e1] at hq; cases hq
      obtain ⟨q1, q2⟩ := hg _ _ _ _ _ seek_sub h0
      refine ⟨q1, wa_st (fun H locs lsA cs ss hL kk => ?_) q2⟩
      rw [List.map_cons, cv_ref (ne5 hF5 hne)]
      exact lv_ifnonnull hx hb hd (tgt_ok hlen (o := o) List.mem_cons_self) kk
  · subst e0
    obtain ⟨q1, q2⟩ := hg _ _ _ _ _ ht h0
    exact ⟨q1, wa_st (fun H locs lsA cs ss hL kk => lv_ifnonnullN hx hb hd kk) q2⟩
theorem snd_acmp (hS : Sc X F p e R s m args meth c M d n0 m0 res) (hg : GoOK X F p l e R s m args below meth c M n0 m0 res go) {cnd : ACond} {o : Int} (hd : decode (mB M) pc = .ok (.if_acmp cnd o, 3)) (hlen : lenok (pc, .if_acmp cnd o, 3, cut) = true) (ht : ∀ z ∈ t, z ∈ mC M)
    (h : stepH F M go (pc, .if_acmp cnd o, 3, cut) t ls st σ = some res) : Le σ res.2 ∧ WA X F p l e R s m args below meth c M n0 m0 res pc ls st σ := by
  obtain ⟨hx, hb, hr, hlk, hml, hown, hts, hKF, hex, hnm, hstt, hroom, hdec, hF5⟩ := hS
  obtain ⟨a, b, r, e0, h0⟩ := pAA_inv h
  subst e0
  cases hq : (Nat.beq (tg F σ a) 255 || Nat.beq (tg F σ b) 255) with
  | true => rw [hq] at h0; cases h0
  | false =>
    rw [hq] at h0
    rw [Bool.or_eq_false_iff] at hq
    have ha : tg F σ a ≠ 255 := fun e1 => by rw [e1] at hq; cases hq.1
    have hbn : tg F σ b ≠ 255 := fun e1 => by rw [e1] at hq; cases hq.2
    have ht0 := tgt_ok hlen (o := o) List.mem_cons_self
    -- different cells lie apart
    have hap : ∀ H, Wd X F σ H → ¬ a = b → ((Nat.ble 16 a || Nat.ble 16 b) && Nat.ble (tg F σ a) 73 && Nat.ble (tg F σ b) 73) = true → ¬ (some (adr X a) = some (adr X b)) := by
      intro H hW hne hbb
      rw [Bool.and_eq_true, Bool.and_eq_true, Bool.or_eq_true] at hbb
      obtain ⟨⟨hab, ta⟩, tb⟩ := hbb
      have ta := Nat.le_of_ble_eq_true ta
      have tb := Nat.le_of_ble_eq_true tb
      intro he
      have he := Option.some.inj he
      rcases hab with h16 | h16
      · exact hW.apart (Nat.le_of_ble_eq_true h16) tb (fun e1 => hne e1.symm) he.symm
      · exact hW.apart (Nat.le_of_ble_eq_true h16) ta hne he
    cases cnd with
    | eq =>
      have h0 : (if a = b then go (tgt pc o) (seek (tgt pc o) (mC M)) ls r σ else bif (Nat.ble 16 a || Nat.ble 16 b) && Nat.ble (tg F σ a) 73 && Nat.ble (tg F σ b) 73 then go (pc + 3) t ls r σ else none) = some res := h0
      by_cases hab : a = b
      · rw [if_pos hab] at h0
        obtain ⟨q1, q2⟩ := hg _ _ _ _ _ seek_sub h0
        refine ⟨q1, fun H locs lsA hW hV hL g1 g2 => ?_⟩
        rw [List.map_cons, List.map_cons, cv_ref (ne5 hF5 ha), cv_ref (ne5 hF5 hbn)]
        exact lv_acmp_eq (rx := some (adr X a)) (ry := some (adr X b)) hx hb hd ht0 (fun _ => q2 H locs lsA hW hV hL g1 g2) (fun z => absurd (by rw [hab]) z)
      · rw [if_neg hab] at h0
        obtain ⟨hbb, h0⟩ := bif_inv h0
        obtain ⟨q1, q2⟩ := hg _ _ _ _ _ ht h0
        refine ⟨q1, fun H locs lsA hW hV hL g1 g2 => ?_⟩
        rw [List.map_cons, List.map_cons, cv_ref (ne5 hF5 ha), cv_ref (ne5 hF5 hbn)]
        exact lv_acmp_eq (rx := some (adr X a)) (ry := some (adr X b)) hx hb hd ht0 (fun z => absurd z (hap H hW hab hbb)) (fun _ => q2 H locs lsA hW hV hL g1 g2)
    | ne =>
      have h0 : (if a = b then go (pc + 3) t ls r σ else bif (Nat.ble 16 a || Nat.ble 16 b) && Nat.ble (tg F σ a) 73 && Nat.ble (tg F σ b) 73 then go (tgt pc o) (seek (tgt pc o) (mC M)) ls r σ else none) = some res := h0
      by_cases hab : a = b
      · rw [if_pos hab] at h0
        obtain ⟨q1, q2⟩ := hg _ _ _ _ _ ht h0
        refine ⟨q1, fun H locs lsA hW hV hL g1 g2 => ?_⟩
        rw [List.map_cons, List.map_cons, cv_ref (ne5 hF5 ha), cv_ref (ne5 hF5 hbn)]
        exact lv_acmp_ne (rx := some (adr X a)) (ry := some (adr X b)) hx hb hd ht0 (fun z => absurd (by rw [hab]) z) (fun _ => q2 H locs lsA hW hV hL g1 g2)
      · rw [if_neg hab] at h0
        obtain ⟨hbb, h0⟩ := bif_inv h0
        obtain ⟨q1, q2⟩ := hg _ _ _ _ _ seek_sub h0
        refine ⟨q1, fun H locs lsA hW hV hL g1 g2 => ?_⟩
        rw [List.map_cons, List.map_cons, cv_ref (ne5 hF5 ha), cv_ref (ne5 hF5 hbn)]
        exact lv_acmp_ne (rx := some (adr X a)) (ry := some (adr X b)) hx hb hd ht0 (fun _ => q2 H locs lsA hW hV hL g1 g2) (fun z => absurd z (hap H hW hab hbb))
end SND6
