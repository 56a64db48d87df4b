/-! ===== soundness: arrays ===== -/
theorem tg5 {F : Fx} (h : 5 < F.1 ∧ F.2.1 5 = 255) (σ : St) : tg F σ 5 = 255 := by
  have : Nat.blt 5 F.1 = true := by rw [Nat.blt_eq]; exact h.1
  simp [tg, this, h.2]
theorem ne5 {F : Fx} (h : 5 < F.1 ∧ F.2.1 5 = 255) {σ : St} {a : Nat} (ha : tg F σ a ≠ 255) : a ≠ 5 := fun e => ha (by rw [e]; exact tg5 h σ)
theorem isArr {s : State} {cA : ClassId} {ty : FieldType} (h : ArrOfT s cA ty) {cell : Cell} (hc : cell.cls = cA) (hv : ∀ k, cell.vm ≠ .statics k) : s.isArrayOf cell ty := by
  obtain ⟨-, k, hk, comp, hkind⟩ := h 0 (fun _ => .null)
  exact ⟨hv, k, by rw [hc]; exact hk, comp, hkind⟩
/-- an array's cell -/
theorem arr_cell {X : Cx} {F : Fx} {σ : St} {H : Heap} {s : State} (hW : Wd X F σ H) (hKF : KF X s) {a : Nat} (h1 : 64 ≤ tg F σ a) (h2 : tg F σ a ≤ 73) :
    ∃ cell : Cell, H[adr X a]? = some cell ∧ s.isArrayOf cell (aty (tg F σ a)) ∧ cell.vm ≠ .unknown ∧ (∀ k, cell.vm ≠ .statics k) ∧ cell.cls = xA X (tg F σ a) ∧ (ln F σ a ≤ cell.slots.size ∧ cell.slots.size.toInt32 = Int32.ofNat (ln F σ a)) ∧
      (tg F σ a ≤ 70 → cell = arrV (xA X (tg F σ a)) (ln F σ a) (aval X F σ (tg F σ a) a)) ∧ ∀ j, j < ln F σ a → tg F σ a ≠ 73 → cell.slots[j]? = some (if tg F σ a ≤ 70 then aval X F σ (tg F σ a) a j else .int (rI σ a j)) := by
  have hT := (hKF.2.2.2.1 _ h1 h2).1
  obtain ⟨-, -, -, g4, g5, -⟩ := hW.2.2.2.2.2.2 a
  by_cases h70 : tg F σ a ≤ 70
  · have hc := g4 h1 h70
    refine ⟨_, hc, hT _ _, (fun h => by cases h), (fun k h => by cases h), rfl, ⟨Nat.le_of_eq (arrV_size _ _ _).symm, by rw [arrV_size]⟩, fun _ => rfl, fun j hj _ => ?_⟩
    rw [arrV_read _ _ hj, if_pos h70]
  · obtain ⟨cell, q1, q2, q3, q4, q5, q6⟩ := g5 (by omega) h2
    refine ⟨cell, q1, isArr hT q2 q4, q3, q4, q2, q5, fun h => absurd h h70, fun j hj h73 => ?_⟩
    rw [if_neg h70]
    exact q6 h73 j hj
theorem aval_int {X : Cx} {F : Fx} {σ : St} {t a j : Nat} (h : t = 64 ∨ t = 66 ∨ t = 67) : aval X F σ t a j = .int (rI σ a j) := by
  unfold aval
  rw [if_neg (by omega), if_neg (by omega)]
theorem aval_long {X : Cx} {F : Fx} {σ : St} {a j : Nat} : aval X F σ 65 a j = .long (rJ σ a j) := by
  unfold aval
  rw [if_pos rfl]
theorem aval_ref {X : Cx} {F : Fx} {σ : St} {t a j : Nat} (h : 68 ≤ t) : aval X F σ t a j = cvo X (rR F σ a j) := by
  unfold aval
  rw [if_neg (by omega), if_pos h]
section SND5
variable {X : Cx} {F : Fx} {p : Program} {l : Launch} {e : Env} {R : Room} {s : State} {m : MethodId} {args : Array Value} {below : List Frame} {meth : Method} {c : Code} {M : MI} {d n0 m0 : Nat} {res : Out × St}
variable {go : Go} {cl : Cl} {pc len : Nat} {cut : Option (List Nat)} {t : List Ent} {ls : Lcs} {st : List Value} {σ : St}
theorem beq_or {a b c : Nat} (h : (Nat.beq a b || Nat.beq a c) = true) : a = b ∨ a = c := by
  rw [Bool.or_eq_true] at h
  rcases h with h | h
  · exact Or.inl (Nat.eq_of_beq_eq_true h)
  · exact Or.inr (Nat.eq_of_beq_eq_true h)
theorem snd_iald (hS : Sc X F p e R s m args meth c M d n0 m0 res) (hg : GoOK X F p l e R s m args below meth c M n0 m0 res go) (hd : decode (mB M) pc = .ok (.iaload, 1)) (ht : ∀ z ∈ t, z ∈ mC M)
    (h : stepH F M go (pc, .iaload, 1, cut) t ls st σ = some res) : Le σ res.2 ∧ WA X F p l e R s m args below meth c M n0 m0 res pc ls st σ := by
  obtain ⟨hx, hb, hr, hlk, hml, hown, hts, hKF, hex, hnm, hstt, hroom, hdec, hF5⟩ := hS
  obtain ⟨j, r, e0, h0⟩ := pI_inv h
  obtain ⟨a, r', e1, h1⟩ := pA_inv h0
  subst e0; subst e1
  obtain ⟨hm, h1⟩ := bif_inv h1
  rw [Bool.and_eq_true] at hm
  have htt := beq_or hm.1
  have hin := inb_ok hm.2
  obtain ⟨q1, q2⟩ := hg _ _ _ _ _ ht h1
  refine ⟨q1, fun H locs lsA hW hV hL g1 g2 => ?_⟩
  obtain ⟨cell, c1, c2, c3, c4, c5, c6, c7, c8⟩ := arr_cell hW hKF (a := a) (by omega) (by omega)
  rw [List.map_cons, List.map_cons, cv_ref (ne5 hF5 (a := a) (σ := σ) (by omega))]
  have hty : aty (tg F σ a) = .int := by rcases htt with e1 | e1 <;> rw [e1] <;> rfl
  rw [hty] at c2
  have hv := c8 j.toNatClampNeg (Nat.not_le.mp fun q => hin (Or.inr q)) (by omega)
  have hv2 : (if tg F σ a ≤ 70 then aval X F σ (tg F σ a) a j.toNatClampNeg else .int (rI σ a j.toNatClampNeg)) = Value.int (rI σ a j.toNatClampNeg) := by
    rcases htt with e1 | e1
    · rw [e1, if_pos (by omega), aval_int (Or.inl rfl)]
    · rw [e1, if_neg (by omega)]
  rw [hv2] at hv
  exact W.iald hx hb c1 c2 c3 (fun q => hin (q.imp id (fun z => Nat.le_trans c6.1 z))) hv rfl rfl hd (q2 H locs lsA hW hV hL g1 g2)
theorem snd_lald (hS : Sc X F p e R s m args meth c M d n0 m0 res) (hg : GoOK X F p l e R s m args below meth c M n0 m0 res go) (hd : decode (mB M) pc = .ok (.laload, 1)) (ht : ∀ z ∈ t, z ∈ mC M)
    (h : stepH F M go (pc, .laload, 1, cut) t ls st σ = some res) : Le σ res.2 ∧ WA X F p l e R s m args below meth c M n0 m0 res pc ls st σ := by
  obtain ⟨hx, hb, hr, hlk, hml, hown, hts, hKF, hex, hnm, hstt, hroom, hdec, hF5⟩ := hS
  obtain ⟨j, r, e0, h0⟩ := pI_inv h
  obtain ⟨a, r', e1, h1⟩ := pA_inv h0
  subst e0; subst e1
  obtain ⟨hm, h1⟩ := bif_inv h1
  rw [Bool.and_eq_true] at hm
  have htt : tg F σ a = 65 := Nat.eq_of_beq_eq_true hm.1
  have hin := inb_ok hm.2
  obtain ⟨q1, q2⟩ := hg _ _ _ _ _ ht h1
  refine ⟨q1, fun H locs lsA hW hV hL g1 g2 => ?_⟩
  obtain ⟨cell, c1, c2, c3, c4, c5, c6, c7, c8⟩ := arr_cell hW hKF (a := a) (by omega) (by omega)
  rw [List.map_cons, List.map_cons, cv_ref (ne5 hF5 (a := a) (σ := σ) (by omega))]
  have hty : aty (tg F σ a) = .long := by rw [htt]; rfl
  rw [hty] at c2
  have hv := c8 j.toNatClampNeg (Nat.not_le.mp fun q => hin (Or.inr q)) (by omega)
  rw [htt, if_pos (by omega), aval_long] at hv
  exact W.lald hx hb c1 c2 c3 (fun q => hin (q.imp id (fun z => Nat.le_trans c6.1 z))) hv rfl rfl hd (q2 H locs lsA hW hV hL g1 g2)
theorem snd_bald (hS : Sc X F p e R s m args meth c M d n0 m0 res) (hg : GoOK X F p l e R s m args below meth c M n0 m0 res go) (hd : decode (mB M) pc = .ok (.baload, 1)) (ht : ∀ z ∈ t, z ∈ mC M)
    (h : stepH F M go (pc, .baload, 1, cut) t ls st σ = some res) : Le σ res.2 ∧ WA X F p l e R s m args below meth c M n0 m0 res pc ls st σ := by
  obtain ⟨hx, hb, hr, hlk, hml, hown, hts, hKF, hex, hnm, hstt, hroom, hdec, hF5⟩ := hS
  obtain ⟨j, r, e0, h0⟩ := pI_inv h
  obtain ⟨a, r', e1, h1⟩ := pA_inv h0
  subst e0; subst e1
  obtain ⟨hm, h1⟩ := bif_inv h1
  rw [Bool.and_eq_true, Bool.or_eq_true] at hm
  have htt : (tg F σ a = 66 ∨ tg F σ a = 67) ∨ tg F σ a = 72 := by
    rcases hm.1 with q | q
    · exact Or.inl (beq_or q)
    · exact Or.inr (Nat.eq_of_beq_eq_true q)
  have hin := inb_ok hm.2
  obtain ⟨q1, q2⟩ := hg _ _ _ _ _ ht h1
  refine ⟨q1, fun H locs lsA hW hV hL g1 g2 => ?_⟩
  obtain ⟨cell, c1, c2, c3, c4, c5, c6, c7, c8⟩ := arr_cell hW hKF (a := a) (by omega) (by omega)
  rw [List.map_cons, List.map_cons, cv_ref (ne5 hF5 (a := a) (σ := σ) (by omega))]
  have hv := c8 j.toNatClampNeg (Nat.not_le.mp fun q => hin (Or.inr q)) (by omega)
  have hv2 : (if tg F σ a ≤ 70 then aval X F σ (tg F σ a) a j.toNatClampNeg else .int (rI σ a j.toNatClampNeg)) = Value.int (rI σ a j.toNatClampNeg) := by
    rcases htt with (e1 | e1) | e1
    · rw [e1, if_pos (by omega), aval_int (Or.inr (Or.inl rfl))]
    · rw [e1, if_pos (by omega), aval_int (Or.inr (Or.inr rfl))]
    · rw [e1, if_neg (by omega)]
  rw [hv2] at hv
  rcases htt with (e1 | e1) | e1
  · have hty : aty (tg F σ a) = .byte := by rw [e1]; rfl
    rw [hty] at c2
    exact W.bald hx hb c1 c2 c3 (fun q => hin (q.imp id (fun z => Nat.le_trans c6.1 z))) hv rfl rfl hd (q2 H locs lsA hW hV hL g1 g2)
  · have hty : aty (tg F σ a) = .boolean := by rw [e1]; rfl
    rw [hty] at c2
    exact W.zald hx hb c1 c2 c3 (fun q => hin (q.imp id (fun z => Nat.le_trans c6.1 z))) hv rfl rfl hd (q2 H locs lsA hW hV hL g1 g2)
  · have hty : aty (tg F σ a) = .byte := by rw [e1]; rfl
    rw [hty] at c2
    exact W.bald hx hb c1 c2 c3 (fun q => hin (q.imp id (fun z => Nat.le_trans c6.1 z))) hv rfl rfl hd (q2 H locs lsA hW hV hL g1 g2)
theorem snd_aald (hS : Sc X F p e R s m args meth c M d n0 m0 res) (hg : GoOK X F p l e R s m args below meth c M n0 m0 res go) (hd : decode (mB M) pc = .ok (.aaload, 1)) (ht : ∀ z ∈ t, z ∈ mC M)
    (h : stepH F M go (pc, .aaload, 1, cut) t ls st σ = some res) : Le σ res.2 ∧ WA X F p l e R s m args below meth c M n0 m0 res pc ls st σ := by
  obtain ⟨hx, hb, hr, hlk, hml, hown, hts, hKF, hex, hnm, hstt, hroom, hdec, hF5⟩ := hS
  obtain ⟨j, r, e0, h0⟩ := pI_inv h
  obtain ⟨a, r', e1, h1⟩ := pA_inv h0
  subst e0; subst e1
  obtain ⟨hm, h1⟩ := bif_inv h1
  have hin := inb_ok hm
  have key : ∃ v : Value, cv X v = cvo X (rR F σ a j.toNatClampNeg) ∧ go (pc + 1) t ls (v :: r') σ = some res ∧ 68 ≤ tg F σ a ∧ tg F σ a ≤ 70 := by
    cases hq : (Nat.beq (tg F σ a) 68 || Nat.beq (tg F σ a) 69) with
    | true =>
      rw [hq] at h1
      obtain ⟨b, hb2, h1⟩ := ob_inv h1
      have := beq_or hq
      exact ⟨.ref b, by rw [hb2]; rfl, h1, by omega, by omega⟩
    | false =>
      rw [hq] at h1
      have h1 : (bif Nat.beq (tg F σ a) 70 then on (rR F σ a j.toNatClampNeg) (fun b => go (pc + 1) t ls (.ref b :: r') σ) (go (pc + 1) t ls (.null :: r') σ) else none) = some res := h1
      obtain ⟨h70, h1⟩ := bif_inv h1
      have h70 := Nat.eq_of_beq_eq_true h70
      cases hb2 : rR F σ a j.toNatClampNeg with
      | some b =>
        rw [hb2] at h1
        exact ⟨.ref b, rfl, h1, by omega, by omega⟩
      | none =>
        rw [hb2] at h1
        exact ⟨.null, rfl, h1, by omega, by omega⟩
  obtain ⟨v, hv0, h1, t1, t2⟩ := key
  obtain ⟨q1, q2⟩ := hg _ _ _ _ _ ht h1
  refine ⟨q1, fun H locs lsA hW hV hL g1 g2 => ?_⟩
  obtain ⟨cell, c1, c2, c3, c4, c5, c6, c7, c8⟩ := arr_cell hW hKF (a := a) (by omega) (by omega)
  rw [List.map_cons, List.map_cons, cv_ref (ne5 hF5 (a := a) (σ := σ) (by omega))]
  have hv := c8 j.toNatClampNeg (Nat.not_le.mp fun q => hin (Or.inr q)) (by omega)
  rw [if_pos t2, aval_ref t1, ← hv0] at hv
  have hty : (aty (tg F σ a)).isReference = true := by
    have : tg F σ a = 68 ∨ tg F σ a = 69 ∨ tg F σ a = 70 := by omega
    rcases this with e1 | e1 | e1 <;> rw [e1] <;> rfl
  exact W.aald hx hb c1 c2 hty c3 (fun q => hin (q.imp id (fun z => Nat.le_trans c6.1 z))) hv rfl rfl hd (q2 H locs lsA hW hV hL g1 g2)
theorem snd_alen (hS : Sc X F p e R s m args meth c M d n0 m0 res) (hg : GoOK X F p l e R s m args below meth c M n0 m0 res go) (hd : decode (mB M) pc = .ok (.arraylength, 1)) (ht : ∀ z ∈ t, z ∈ mC M)
    (h : stepH F M go (pc, .arraylength, 1, cut) t ls st σ = some res) : Le σ res.2 ∧ WA X F p l e R s m args below meth c M n0 m0 res pc ls st σ := by
  obtain ⟨hx, hb, hr, hlk, hml, hown, hts, hKF, hex, hnm, hstt, hroom, hdec, hF5⟩ := hS
  obtain ⟨a, r', e1, h1⟩ := pA_inv h
  subst e1
  obtain ⟨hm, h1⟩ := bif_inv h1
  rw [Bool.and_eq_true] at hm
  have t1 := Nat.le_of_ble_eq_true hm.1
  have t2 := Nat.le_of_ble_eq_true hm.2
  obtain ⟨q1, q2⟩ := hg _ _ _ _ _ ht h1
  refine ⟨q1, fun H locs lsA hW hV hL g1 g2 => ?_⟩
  obtain ⟨cell, c1, c2, c3, c4, c5, c6, c7, c8⟩ := arr_cell hW hKF (a := a) t1 t2
  rw [List.map_cons, cv_ref (ne5 hF5 (a := a) (σ := σ) (by omega))]
  exact W.alen (n := Int32.ofNat (ln F σ a)) hx hb c1 c2 c6.2 rfl rfl hd (q2 H locs lsA hW hV hL g1 g2)
/-- a store into an array -/
theorem wa_ast {a : Nat} {r : List Value} {τ : St} {pc' : Nat} (t1 : 64 ≤ tg F σ a) (t2 : tg F σ a ≤ 70) (hF5 : 5 < F.1 ∧ F.2.1 5 = 255) {j : Nat} {v : Value} {st0 : List Value}
    (hn1 : nx τ = nx σ) (hn2 : sl τ = sl σ) (htg : ∀ b, tg F τ b = tg F σ b) (hln : ∀ b, ln F τ b = ln F σ b) (hoth : ∀ b, b ≠ a → rI τ b = rI σ b ∧ rJ τ b = rJ σ b ∧ rR F τ b = rR F σ b)
    (hup : ∀ i, updV (aval X F σ (tg F σ a) a) j v i = aval X F τ (tg F σ a) a i) (hbt : tg F σ a = 66 → (∀ i, fits .byte (.int (rI σ a i)) = true) → ∀ i, fits .byte (.int (rI τ a i)) = true)
    (row : ∀ (H : Heap) (locs : List Loc) (lsA : Array Slot) (cs ss : Nat), Wd X F σ H → H[adr X a]? = some (arrV (xA X (tg F σ a)) (ln F σ a) (aval X F σ (tg F σ a) a)) →
      (∀ H1 : Heap, H1[adr X a]? = some ((arrV (xA X (tg F σ a)) (ln F σ a) (aval X F σ (tg F σ a) a)).setSlot j v) → H1.size = H.size → (∀ q, q ≠ adr X a → H1[q]? = H[q]?) → W p l e R s m args below meth c H1 (locs ++ [⟨adr X a, j⟩]) cs ss (mx_Q below (QcA X F res) args s (nx res.2 - n0) (sl res.2 - m0) (Aq X)) (F0 m pc' lsA (r.map (cv X)))) →
      W p l e R s m args below meth c H locs cs ss (mx_Q below (QcA X F res) args s (nx res.2 - n0) (sl res.2 - m0) (Aq X)) (F0 m pc lsA (st0.map (cv X))))
    (q2 : WA X F p l e R s m args below meth c M n0 m0 res pc' ls r τ) : WA X F p l e R s m args below meth c M n0 m0 res pc ls st0 σ := by
  intro H locs lsA hW hV hL g1 g2
  obtain ⟨-, -, -, c4, -, c6⟩ := hW.2.2.2.2.2.2 a
  refine row H locs lsA _ _ hW (c4 t1 t2) fun H1 e1 e2 e3 => ?_
  have ha16 : 16 ≤ a := hW.hi (by omega) (by omega)
  rw [arrV_store] at e1
  have hfun : updV (aval X F σ (tg F σ a) a) j v = aval X F τ (tg F σ a) a := funext hup
  rw [hfun] at e1
  have hW1 : Wd X F τ H1 := hW.putA t1 t2 hn1 htg hln hoth e2 e3 e1 (fun h66 => hbt h66 (c6 h66))
  have := q2 H1 (locs ++ [⟨adr X a, j⟩]) lsA hW1 (hV.put e2 e3 (aq_adr X ha16)) hL (by rw [hn1]; exact g1) (by rw [hn2]; exact g2)
  rw [hn1, hn2] at this
  exact this
theorem up_aI {a j : Nat} {v : Int32} (h : tg F σ a = 64 ∨ tg F σ a = 66 ∨ tg F σ a = 67) (i : Nat) : updV (aval X F σ (tg F σ a) a) j (.int v) i = aval X F (wI σ a j v) (tg F σ a) a i := by
  unfold updV
  rw [aval_int h, aval_int h]
  by_cases hi : i = j
  · subst hi
    rw [if_pos rfl, rI_wI_same]
  · rw [if_neg hi, rI_wI_ne (Or.inr hi)]
theorem up_aJ {a j : Nat} {v : Int64} (h : tg F σ a = 65) (i : Nat) : updV (aval X F σ (tg F σ a) a) j (.long v) i = aval X F (wJ σ a j v) (tg F σ a) a i := by
  unfold updV
  rw [h, aval_long, aval_long]
  by_cases hi : i = j
  · subst hi
    rw [if_pos rfl, rJ_wJ_same]
  · rw [if_neg hi, rJ_wJ_ne (Or.inr hi)]
theorem up_aR {a j : Nat} {v : Option Nat} (h : 68 ≤ tg F σ a) (hf : (fR F a j).isNone = true) (i : Nat) : updV (aval X F σ (tg F σ a) a) j (cvo X v) i = aval X F (wR σ a j v) (tg F σ a) a i := by
  unfold updV
  rw [aval_ref h, aval_ref h]
  by_cases hi : i = j
  · subst hi
    rw [if_pos rfl, rR_wR_same hf]
  · rw [if_neg hi, rR_wR_ne (Or.inr hi)]
theorem inA {X : Cx} {F : Fx} {σ : St} {a : Nat} {j : Int32} (hin : ¬ (j < 0 ∨ ln F σ a ≤ j.toNatClampNeg)) : ¬ (j < 0 ∨ (arrV (xA X (tg F σ a)) (ln F σ a) (aval X F σ (tg F σ a) a)).slots.size ≤ j.toNatClampNeg) := by
  rw [arrV_size]; exact hin
theorem snd_iast (hS : Sc X F p e R s m args meth c M d n0 m0 res) (hg : GoOK X F p l e R s m args below meth c M n0 m0 res go) (hd : decode (mB M) pc = .ok (.iastore, 1)) (ht : ∀ z ∈ t, z ∈ mC M)
    (h : stepH F M go (pc, .iastore, 1, cut) t ls st σ = some res) : Le σ res.2 ∧ WA X F p l e R s m args below meth c M n0 m0 res pc ls st σ := by
  obtain ⟨hx, hb, hr, hlk, hml, hown, hts, hKF, hex, hnm, hstt, hroom, hdec, hF5⟩ := hS
  obtain ⟨v, r, e0, h0⟩ := pI_inv h
  obtain ⟨j, r1, e1, h1⟩ := pI_inv h0
  obtain ⟨a, r', e2, h2⟩ := pA_inv h1
  subst e0; subst e1; subst e2
  obtain ⟨hm, h2⟩ := bif_inv h2
  rw [Bool.and_eq_true] at hm
  have htt : tg F σ a = 64 := Nat.eq_of_beq_eq_true hm.1
  have hin := inb_ok hm.2
  obtain ⟨q1, q2⟩ := hg _ _ _ _ _ ht h2
  refine ⟨q1, wa_ast (a := a) (τ := wI σ a j.toNatClampNeg v) (j := j.toNatClampNeg) (v := .int v) (by omega) (by omega) hF5 rfl rfl (fun _ => rfl) (fun _ => rfl) o_wI (up_aI (Or.inl htt)) (fun h => by omega) (fun H locs lsA cs ss hW hc kk => ?_) q2⟩
  rw [List.map_cons, List.map_cons, List.map_cons, cv_ref (ne5 hF5 (a := a) (σ := σ) (by omega))]
  have hT := (hKF.2.2.2.1 (tg F σ a) (by omega) (by omega)).1
  have hty : aty (tg F σ a) = .int := by rw [htt]; rfl
  rw [hty] at hT
  exact W.iast hx hb hc (hT _ _) (fun q => by cases q) (inA hin) rfl rfl hd kk
theorem snd_last (hS : Sc X F p e R s m args meth c M d n0 m0 res) (hg : GoOK X F p l e R s m args below meth c M n0 m0 res go) (hd : decode (mB M) pc = .ok (.lastore, 1)) (ht : ∀ z ∈ t, z ∈ mC M)
    (h : stepH F M go (pc, .lastore, 1, cut) t ls st σ = some res) : Le σ res.2 ∧ WA X F p l e R s m args below meth c M n0 m0 res pc ls st σ := by
  obtain ⟨hx, hb, hr, hlk, hml, hown, hts, hKF, hex, hnm, hstt, hroom, hdec, hF5⟩ := hS
  obtain ⟨v, r, e0, h0⟩ := pJ_inv h
  obtain ⟨j, r1, e1, h1⟩ := pI_inv h0
  obtain ⟨a, r', e2, h2⟩ := pA_inv h1
  subst e0; subst e1; subst e2
  obtain ⟨hm, h2⟩ := bif_inv h2
  rw [Bool.and_eq_true] at hm
  have htt : tg F σ a = 65 := Nat.eq_of_beq_eq_true hm.1
  have hin := inb_ok hm.2
  obtain ⟨q1, q2⟩ := hg _ _ _ _ _ ht h2
  refine ⟨q1, wa_ast (a := a) (τ := wJ σ a j.toNatClampNeg v) (j := j.toNatClampNeg) (v := .long v) (by omega) (by omega) hF5 rfl rfl (fun _ => rfl) (fun _ => rfl) o_wJ (up_aJ htt) (fun h => by omega) (fun H locs lsA cs ss hW hc kk => ?_) q2⟩
  rw [List.map_cons, List.map_cons, List.map_cons, cv_ref (ne5 hF5 (a := a) (σ := σ) (by omega))]
  have hT := (hKF.2.2.2.1 (tg F σ a) (by omega) (by omega)).1
  have hty : aty (tg F σ a) = .long := by rw [htt]; rfl
  rw [hty] at hT
  exact W.last hx hb hc (hT _ _) (fun q => by cases q) (inA hin) rfl rfl hd kk
theorem fits_byte (v : Int32) : fits .byte (.int v.toInt8.toInt32) = true := by
  have h1 : (-128 : Int) ≤ v.toInt8.toInt := Int8.le_toInt _
  have h2 : v.toInt8.toInt < 128 := Int8.toInt_lt _
  have h3 : v.toInt8.toInt32.toInt = v.toInt8.toInt := Int8.toInt_toInt32 _
  show (decide ((-128 : Int32) ≤ v.toInt8.toInt32) && decide (v.toInt8.toInt32 ≤ 127)) = true
  rw [Bool.and_eq_true, decide_eq_true_eq, decide_eq_true_eq, Int32.le_iff_toInt_le, Int32.le_iff_toInt_le, h3]
  constructor
  · show (-128 : Int) ≤ _
    exact h1
  · show _ ≤ (127 : Int)
    omega
theorem snd_bast (hS : Sc X F p e R s m args meth c M d n0 m0 res) (hg : GoOK X F p l e R s m args below meth c M n0 m0 res go) (hd : decode (mB M) pc = .ok (.bastore, 1)) (ht : ∀ z ∈ t, z ∈ mC M)
    (h : stepH F M go (pc, .bastore, 1, cut) t ls st σ = some res) : Le σ res.2 ∧ WA X F p l e R s m args below meth c M n0 m0 res pc ls st σ := by
  obtain ⟨hx, hb, hr, hlk, hml, hown, hts, hKF, hex, hnm, hstt, hroom, hdec, hF5⟩ := hS
  obtain ⟨v, r, e0, h0⟩ := pI_inv h
  obtain ⟨j, r1, e1, h1⟩ := pI_inv h0
  obtain ⟨a, r', e2, h2⟩ := pA_inv h1
  subst e0; subst e1; subst e2
  obtain ⟨hm, h2⟩ := bif_inv h2
  have hin := inb_ok hm
  cases hq : Nat.beq (tg F σ a) 66 with
  | true =>
    have htt := Nat.eq_of_beq_eq_true hq
    rw [hq] at h2
    obtain ⟨q1, q2⟩ := hg _ _ _ _ _ ht h2
    refine ⟨q1, wa_ast (a := a) (τ := wI σ a j.toNatClampNeg v.toInt8.toInt32) (j := j.toNatClampNeg) (v := .int v.toInt8.toInt32) (by omega) (by omega) hF5 rfl rfl (fun _ => rfl) (fun _ => rfl) o_wI (up_aI (Or.inr (Or.inl htt))) (fun _ hall i => ?_) (fun H locs lsA cs ss hW hc kk => ?_) q2⟩
    · by_cases hi : i = j.toNatClampNeg
      · rw [hi, rI_wI_same]; exact fits_byte v
      · rw [rI_wI_ne (Or.inr hi)]; exact hall i
    · rw [List.map_cons, List.map_cons, List.map_cons, cv_ref (ne5 hF5 (a := a) (σ := σ) (by omega))]
      have hT := (hKF.2.2.2.1 (tg F σ a) (by omega) (by omega)).1
      have hty : aty (tg F σ a) = .byte := by rw [htt]; rfl
      rw [hty] at hT
      exact W.bast hx hb hc (hT _ _) (fun q => by cases q) (inA hin) rfl rfl hd kk
  | false =>
    rw [hq] at h2
    have h2 : (bif Nat.beq (tg F σ a) 67 && (v == 0 || v == 1) then go (pc + 1) t ls r' (wI σ a j.toNatClampNeg v) else none) = some res := h2
    obtain ⟨hm2, h2⟩ := bif_inv h2
    rw [Bool.and_eq_true] at hm2
    have htt := Nat.eq_of_beq_eq_true hm2.1
    have hv01 : v = 0 ∨ v = 1 := by
      have := hm2.2
      rw [Bool.or_eq_true, beq_iff_eq, beq_iff_eq] at this
      exact this
    have hnar : narrow .boolean (.int v) = .int v := by rcases hv01 with e1 | e1 <;> rw [e1] <;> rfl
    obtain ⟨q1, q2⟩ := hg _ _ _ _ _ ht h2
    refine ⟨q1, wa_ast (a := a) (τ := wI σ a j.toNatClampNeg v) (j := j.toNatClampNeg) (v := .int v) (by omega) (by omega) hF5 rfl rfl (fun _ => rfl) (fun _ => rfl) o_wI (up_aI (Or.inr (Or.inr htt))) (fun h => by omega) (fun H locs lsA cs ss hW hc kk => ?_) q2⟩
    rw [List.map_cons, List.map_cons, List.map_cons, cv_ref (ne5 hF5 (a := a) (σ := σ) (by omega))]
    have hT := (hKF.2.2.2.1 (tg F σ a) (by omega) (by omega)).1
    have hty : aty (tg F σ a) = .boolean := by rw [htt]; rfl
    rw [hty] at hT
    refine W.zast hx hb hc (hT _ _) (fun q => by cases q) (inA hin) rfl rfl hd ?_
    rw [hnar]
    exact kk
end SND5
