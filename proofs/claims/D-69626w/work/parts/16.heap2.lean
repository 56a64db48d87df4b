/-! ===== soundness: fields and arrays, in the abstract frame ===== -/
theorem Wd.putO {X : Cx} {F : Fx} {σ τ : St} {H H1 : Heap} (hW : Wd X F σ H) {a : Nat} (ht : tg F σ a < 20) (hn : nx τ = nx σ) (htg : ∀ b, tg F τ b = tg F σ b) (hl : ∀ b, ln F τ b = ln F σ b)
    (ho : ∀ b, b ≠ a → rI τ b = rI σ b ∧ rJ τ b = rJ σ b ∧ rR F τ b = rR F σ b) (hz : H1.size = H.size) (hq : ∀ q, q ≠ adr X a → H1[q]? = H[q]?)
    (hob : ∃ r, (xC X)[tg F σ a]? = some r ∧ t_OB (adr X a) ((xG X).1 (tg F σ a)) r.2.2 ((xG X).2 (tg F σ a)) H1 (fun k => fval X F τ (fty (xC X) (tg F σ a) k) a k)) : Wd X F τ H1 := by
  refine hW.upd hn htg hl (hW.hi (by omega) (by omega)) ho hz hq ?_
  unfold RepC
  rw [htg]
  exact ⟨fun _ => hob, fun h => by omega, fun h => by omega, fun h => by omega, fun h => by omega, fun h => by omega⟩
theorem Wd.putA {X : Cx} {F : Fx} {σ τ : St} {H H1 : Heap} (hW : Wd X F σ H) {a : Nat} (ht : 64 ≤ tg F σ a) (ht2 : tg F σ a ≤ 70) (hn : nx τ = nx σ) (htg : ∀ b, tg F τ b = tg F σ b) (hl : ∀ b, ln F τ b = ln F σ b)
    (ho : ∀ b, b ≠ a → rI τ b = rI σ b ∧ rJ τ b = rJ σ b ∧ rR F τ b = rR F σ b) (hz : H1.size = H.size) (hq : ∀ q, q ≠ adr X a → H1[q]? = H[q]?)
    (hob : H1[adr X a]? = some (arrV (xA X (tg F σ a)) (ln F σ a) (aval X F τ (tg F σ a) a))) (hbt : tg F σ a = 66 → ∀ j, fits .byte (.int (rI τ a j)) = true) : Wd X F τ H1 := by
  refine hW.upd hn htg hl (hW.hi (by omega) (by omega)) ho hz hq ?_
  unfold RepC
  rw [htg, hl]
  exact ⟨fun h => by omega, fun h => by omega, fun h => by omega, fun _ _ => hob, fun h => by omega, hbt⟩
theorem o_wI {F : Fx} {σ : St} {a k : Nat} {v : Int32} (b : Nat) (h : b ≠ a) : rI (wI σ a k v) b = rI σ b ∧ rJ (wI σ a k v) b = rJ σ b ∧ rR F (wI σ a k v) b = rR F σ b := ⟨funext fun _ => rI_wI_ne (Or.inl h), rfl, rfl⟩
theorem o_wJ {F : Fx} {σ : St} {a k : Nat} {v : Int64} (b : Nat) (h : b ≠ a) : rI (wJ σ a k v) b = rI σ b ∧ rJ (wJ σ a k v) b = rJ σ b ∧ rR F (wJ σ a k v) b = rR F σ b := ⟨rfl, funext fun _ => rJ_wJ_ne (Or.inl h), rfl⟩
theorem o_wR {F : Fx} {σ : St} {a k : Nat} {v : Option Nat} (b : Nat) (h : b ≠ a) : rI (wR σ a k v) b = rI σ b ∧ rJ (wR σ a k v) b = rJ σ b ∧ rR F (wR σ a k v) b = rR F σ b := ⟨rfl, rfl, funext fun _ => rR_wR_ne (Or.inl h)⟩
theorem ref_ne5 {X : Cx} {F : Fx} {σ : St} {H : Heap} (hW : Wd X F σ H) {a : Nat} (h : tg F σ a ≤ 70) : a ≠ 5 := by
  intro e
  subst e
  by_cases h2 : tg F σ 5 = 20
  · obtain ⟨-, -, -, -, -, -, h7⟩ := hW
    have := (h7 5).2.1 h2
    omega
  · have := hW.hi h2 h
    omega
theorem inb_ok {i : Int32} {n : Nat} (h : inb i n = true) : ¬ (i < 0 ∨ n ≤ i.toNatClampNeg) := by
  unfold inb at h
  rw [Bool.and_eq_true, decide_eq_true_eq, Nat.blt_eq] at h
  rintro (q | q)
  · exact Int32.not_lt.mpr h.1 q
  · omega
section SND4
variable {X : Cx} {F : Fx} {p : Program} {l : Launch} {e : Env} {R : Room} {s : State} {m : MethodId} {args : Array Value} {below : List Frame} {meth : Method} {c : Code} {M : MI} {d n0 m0 : Nat} {res : Out × St}
variable {go : Go} {cl : Cl} {pc len : Nat} {cut : Option (List Nat)} {t : List Ent} {ls : Lcs} {st : List Value} {σ : St} {i : Instr}
theorem aq_adr (X : Cx) {a : Nat} (h : 16 ≤ a) : Aq X (adr X a) := by
  show xB X ≤ adr X a
  rw [adr_hi X h]
  omega
theorem snd_getf (hS : Sc X F p e R s m args meth c M d n0 m0 res) (hg : GoOK X F p l e R s m args below meth c M n0 m0 res go) {k : Nat} (hcp : ∀ q ∈ (mK M).2.1, FOK (mK M).1 q.1 q.2) (hd : decode (mB M) pc = .ok (.getfield k, 3)) (ht : ∀ z ∈ t, z ∈ mC M)
    (h : stepH F M go (pc, .getfield k, 3, cut) t ls st σ = some res) : Le σ res.2 ∧ WA X F p l e R s m args below meth c M n0 m0 res pc ls st σ := by
  obtain ⟨hx, hb, hr, hlk, hml, hown, hts, hKF, hex, hnm, hstt, hroom, hdec, hF5⟩ := hS
  obtain ⟨f, hf, hh1⟩ := ob_inv h
  clear h
  obtain ⟨a, r, e0, h0⟩ := pA_inv hh1
  clear hh1
  subst e0
  obtain ⟨hm, h⟩ := bif_inv h0
  clear h0
  have hmem := memN_mem hm
  have hfok := hcp _ (lkN_mem hf) _ hmem
  obtain ⟨f1, f2, f3, f4⟩ := f
  -- what is pushed
  have key : ∃ v : Value, (∀ (H : Heap) (locs : List Loc) (lsA : Array Slot) (cs ss : Nat), Wd X F σ H → va_S (Aq X) s.heap H locs → 
      W p l e R s m args below meth c H locs cs ss (mx_Q below (QcA X F res) args s (nx res.2 - n0) (sl res.2 - m0) (Aq X)) (F0 m (pc + 3) lsA (cv X v :: r.map (cv X))) →
      W p l e R s m args below meth c H locs cs ss (mx_Q below (QcA X F res) args s (nx res.2 - n0) (sl res.2 - m0) (Aq X)) (F0 m pc lsA ((.ref a :: r : List Value).map (cv X)))) ∧ go (pc + 3) t ls (v :: r) σ = some res := by
    rcases hfok with ⟨ht20, q, ref, ty, hc, hk2, hty, hkt, hlink, hsame, -, -⟩ | ⟨ht20, -, hstr⟩
    · -- an object of ours
      have hkn := hKF.2.2.1.1 _ _ hc
      have hcl : ClOK q := clsL_ok q (List.mem_of_getElem? hc)
      have hlink' : (Cond.fieldLink (mK M).1 k ref (q.2.1 f2).2.1 (q.2.1 f2).2.2.1).before args s = true ∨ ∃ host, (Cond.fieldLinkNest (mK M).1 k ref (q.2.1 f2).2.1 (q.2.1 f2).2.2.1 host).before args s = true := by
        rcases hlink with hl | ⟨-, host, hl⟩
        · exact Or.inl (hts _ hl)
        · exact Or.inr ⟨host, va_Nw.use (xtra_t (xtra_k _ hl)) (hKF.2.2.2.2.2.2.2.2.2.2.1 _ hl)⟩
      have hsame' : ∀ x, s.fieldFound? (q.2.1 f2).1 (q.2.1 f2).2.1 (q.2.1 f2).2.2.1 = some x → s.fieldFound? ref (q.2.1 f2).2.1 (q.2.1 f2).2.2.1 = some x := by
        rcases hsame with hs | hs
        · intro x hx; rw [hs]; exact hx
        · exact fun x hx => u_same (hts _ hs) x hx
      have row : ∀ (H : Heap) (locs : List Loc) (lsA : Array Slot) (cs ss : Nat), Wd X F σ H → va_S (Aq X) s.heap H locs → 
          W p l e R s m args below meth c H locs cs ss (mx_Q below (QcA X F res) args s (nx res.2 - n0) (sl res.2 - m0) (Aq X)) (F0 m (pc + 3) lsA (fval X F σ (some ty) a f2 :: r.map (cv X))) →
          W p l e R s m args below meth c H locs cs ss (mx_Q below (QcA X F res) args s (nx res.2 - n0) (sl res.2 - m0) (Aq X)) (F0 m pc lsA ((.ref a :: r : List Value).map (cv X))) := by
        intro H locs lsA cs ss hW hV kk
        obtain ⟨r0, hr0, hO⟩ := (hW.2.2.2.2.2.2 a).1 ht20
        rw [hKF.1] at hr0 hO
        cases hr0.symm.trans hc
        rw [List.map_cons, cv_ref (ref_ne5 hW (by omega))]
        refine mx_getO hx hb hts hcl hown hkn hO hk2 hlink' hsame' hd ?_
        have e1 : fty clsL (tg F σ a) f2 = some ty := by
          unfold fty
          rw [hc]
          exact hty
        show W p l e R s m args below meth c H locs cs ss _ (F0 m (pc + 3) lsA (fval X F σ (fty clsL (tg F σ a) f2) a f2 :: r.map (cv X)))
        rw [e1]
        exact kk
      rcases f3 with _ | _ | _ | _ | _ | f3
      · rw [fval_int (Or.inl hkt)] at row
        exact ⟨.int (rI σ a f2), row, h⟩
      · rw [fval_long hkt] at row
        exact ⟨.long (rJ σ a f2), row, h⟩
      · obtain ⟨b, hb2, h⟩ := ob_inv h
        rw [fval_ref (Or.inl hkt), hb2] at row
        exact ⟨.ref b, row, h⟩
      · rw [fval_ref (Or.inr hkt)] at row
        have h : on (rR F σ a f2) (fun b => go (pc + 3) t ls (.ref b :: r) σ) (go (pc + 3) t ls (.null :: r) σ) = some res := h
        cases hb2 : rR F σ a f2 with
        | some b =>
          rw [hb2] at h row
          exact ⟨.ref b, row, h⟩
        | none =>
          rw [hb2] at h row
          exact ⟨.null, row, h⟩
      · rw [fval_int (Or.inr hkt)] at row
        exact ⟨.int (rI σ a f2), row, h⟩
      · cases h
    · -- the text
      have hrep : ∀ H, Wd X F σ H → a = 2 ∧ rR F σ a 0 = some 3 ∧ rI σ a 1 = 0 := fun H hW => (hW.2.2.2.2.2.2 a).2.1 ht20
      rcases hstr with ⟨e1, e2, hl⟩ | ⟨e1, e2, hl⟩
      · dsimp only at e1 e2
        subst e1; subst e2
        obtain ⟨b, hb2, h⟩ := ob_inv h
        refine ⟨.ref b, fun H locs lsA cs ss hW hV kk => ?_, h⟩
        obtain ⟨ea, e3, -⟩ := hrep H hW
        subst ea
        have hbb : b = 3 := Option.some.inj (hb2.symm.trans e3)
        subst hbb
        rw [List.map_cons, cv_ref (by decide)]
        rw [cv_ref (by decide)] at kk
        exact vk_getf hx hb hKF.2.2.2.2.2.1 hV hown (hts _ hl) (fun x hx => hx) hd kk
      · dsimp only at e1 e2
        subst e1; subst e2
        refine ⟨.int (rI σ a 1), fun H locs lsA cs ss hW hV kk => ?_, h⟩
        obtain ⟨ea, -, e3⟩ := hrep H hW
        subst ea
        rw [e3] at kk
        rw [List.map_cons, cv_ref (by decide)]
        exact vk_getf hx hb hKF.2.2.2.2.2.2.1 hV hown (hts _ hl) (fun x hx => hx) hd kk
  obtain ⟨v, row, h⟩ := key
  obtain ⟨q1, q2⟩ := hg _ _ _ _ _ ht h
  exact ⟨q1, fun H locs lsA hW hV hL h1 h2 => row H locs lsA _ _ hW hV (q2 H locs lsA hW hV hL h1 h2)⟩
theorem snd_putf (hS : Sc X F p e R s m args meth c M d n0 m0 res) (hg : GoOK X F p l e R s m args below meth c M n0 m0 res go) {k : Nat} (hcp : ∀ q ∈ (mK M).2.1, FOK (mK M).1 q.1 q.2) (hd : decode (mB M) pc = .ok (.putfield k, 3)) (ht : ∀ z ∈ t, z ∈ mC M)
    (h : stepH F M go (pc, .putfield k, 3, cut) t ls st σ = some res) : Le σ res.2 ∧ WA X F p l e R s m args below meth c M n0 m0 res pc ls st σ := by
  obtain ⟨hx, hb, hr, hlk, hml, hown, hts, hKF, hex, hnm, hstt, hroom, hdec, hF5⟩ := hS
  obtain ⟨f, hf, hh1⟩ := ob_inv h
  clear h
  obtain ⟨hw, h⟩ := bif_inv hh1
  clear hh1
  obtain ⟨f1, f2, f3, f4⟩ := f
  -- one field of an object
  have row : ∀ (a : Nat) (r : List Value) (v : Value) (τ : St) (ty : FieldType) (q : vw_C), memN (tg F σ a) f1 = true → clsL[tg F σ a]? = some q → parseFieldDescriptor (q.2.1 f2).2.2.1 = some ty → narrow ty (cv X v) = cv X v → fits ty (cv X v) = true →
      nx τ = nx σ → sl τ = sl σ → (∀ b, tg F τ b = tg F σ b) → (∀ b, ln F τ b = ln F σ b) → (∀ b, b ≠ a → rI τ b = rI σ b ∧ rJ τ b = rJ σ b ∧ rR F τ b = rR F σ b) →
      (∀ j, updV (fun j => fval X F σ (fty clsL (tg F σ a) j) a j) f2 (cv X v) j = fval X F τ (fty clsL (tg F σ a) j) a j) →
      WA X F p l e R s m args below meth c M n0 m0 res (pc + 3) ls r τ → WA X F p l e R s m args below meth c M n0 m0 res pc ls (v :: .ref a :: r) σ := by
    intro a r v τ ty q hm hc hty hna hfi hn1 hn2 htg hln hoth hup q2
    have hfok := hcp _ (lkN_mem hf) _ (memN_mem hm)
    have hw2 : f4 ≠ 0 := by
      intro e0
      subst e0
      simp at hw
    rcases hfok with ⟨ht20, q', ref, ty', hc', hk2, hty', hkt, hlink, hsame, hfin1, hfin2⟩ | ⟨-, h0, -⟩
    · cases hc.symm.trans hc'
      have hkn := hKF.2.2.1.1 _ _ hc
      have hcl : ClOK q := clsL_ok q (List.mem_of_getElem? hc)
      have hlink' : (Cond.fieldLink (mK M).1 k ref (q.2.1 f2).2.1 (q.2.1 f2).2.2.1).before args s = true := by
        rcases hlink with hl | ⟨h0, -⟩
        · exact hts _ hl
        · exact (hw2 h0).elim
      have hsame' : ∀ x, s.fieldFound? (q.2.1 f2).1 (q.2.1 f2).2.1 (q.2.1 f2).2.2.1 = some x → s.fieldFound? ref (q.2.1 f2).2.1 (q.2.1 f2).2.2.1 = some x := by
        rcases hsame with hs | hs
        · intro x hx; rw [hs]; exact hx
        · exact fun x hx => u_same (hts _ hs) x hx
      have hwr : (q.2.1 f2).2.2.2 = false ∨ ((q.2.1 f2).2.2.2 = true ∧ (q.2.1 f2).1 = (mK M).1 ∧ meth.name = "<init>") := by
        rw [Bool.or_eq_true, Bool.and_eq_true] at hw
        rcases hw with h1 | ⟨h1, h2⟩
        · exact Or.inl (hfin1 (Nat.eq_of_beq_eq_true h1))
        · obtain ⟨g1, g2⟩ := hfin2 (Nat.eq_of_beq_eq_true h1)
          exact Or.inr ⟨g1, g2, by rw [hnm]; exact eq_of_beq h2⟩
      intro H locs lsA hW hV hL h1 h2
      obtain ⟨r0, hr0, hO⟩ := (hW.2.2.2.2.2.2 a).1 ht20
      rw [hKF.1] at hr0 hO
      cases hr0.symm.trans hc
      rw [List.map_cons, List.map_cons, cv_ref (a := a) (ref_ne5 hW (by omega))]
      refine mx_putO hx hb hts hcl hown hkn hO hk2 hlink' hsame' hwr hty hna hfi hd fun H1 b hbb g1 g2 g3 => ?_
      have ha16 : 16 ≤ a := hW.hi (by omega) (by omega)
      have hW1 : Wd X F τ H1 := hW.putO ht20 hn1 htg hln hoth g2 g3 ⟨q, by rw [hKF.1]; exact hc, by rw [hKF.1]; exact g1.to fun j _ => hup j⟩
      have hV1 : va_S (Aq X) s.heap H1 (locs ++ [b]) := by
        have := hV.put (k := b.slot) g2 g3 (aq_adr X ha16)
        have e1 : (⟨adr X a, b.slot⟩ : Loc) = b := by cases b; cases hbb; rfl
        rw [e1] at this
        exact this
      have := q2 H1 (locs ++ [b]) lsA hW1 hV1 hL (by rw [hn1]; exact h1) (by rw [hn2]; exact h2)
      rw [hn1, hn2] at this
      exact this
    · exact (hw2 h0).elim
  have cls : ∀ a, memN (tg F σ a) f1 = true → f4 ≠ 0 → ∃ q ty, clsL[tg F σ a]? = some q ∧ parseFieldDescriptor (q.2.1 f2).2.2.1 = some ty ∧ kty f3 ty = true := by
    intro a hm h4
    rcases hcp _ (lkN_mem hf) _ (memN_mem hm) with ⟨ht20, q', ref, ty', hc', hk2, hty', hkt, -⟩ | ⟨-, h0, -⟩
    · exact ⟨q', ty', hc', hty', hkt⟩
    · exact (h4 h0).elim
  have hw2 : f4 ≠ 0 := by
    intro e0
    subst e0
    simp at hw
  have ftq : ∀ {a : Nat} {q : vw_C} {ty : FieldType}, clsL[tg F σ a]? = some q → parseFieldDescriptor (q.2.1 f2).2.2.1 = some ty → fty clsL (tg F σ a) f2 = some ty := by
    intro a q ty hc hty
    unfold fty
    rw [hc]
    exact hty
  have refN : pN st (fun v r => pA r fun a r => bif memN (tg F σ a) f1 && (fR F a f2).isNone then go (pc + 3) t ls r (wR σ a f2 (some v)) else none)
            (fun r => pA r fun a r => bif memN (tg F σ a) f1 && (fR F a f2).isNone then go (pc + 3) t ls r (wR σ a f2 none) else none) = some res → (f3 = 2 ∨ f3 = 3 ∨ 5 ≤ f3) → Le σ res.2 ∧ WA X F p l e R s m args below meth c M n0 m0 res pc ls st σ := by
    intro h hk3
    have fin : ∀ (a : Nat) (o : Option Nat) (v : Value) (r : List Value), cv X v = cvo X o → (cv X v = .null ∨ ∃ b, cv X v = .ref b) → (bif memN (tg F σ a) f1 && (fR F a f2).isNone then go (pc + 3) t ls r (wR σ a f2 o) else none) = some res → Le σ res.2 ∧ WA X F p l e R s m args below meth c M n0 m0 res pc ls (v :: .ref a :: r) σ := by
      intro a o v r hv hv2 h
      obtain ⟨hm, h⟩ := bif_inv h
      rw [Bool.and_eq_true] at hm
      obtain ⟨q, ty, hc, hty, hkt⟩ := cls a hm.1 hw2
      have hkt' : kty 2 ty = true ∨ kty 3 ty = true := by
        rcases hk3 with e1 | e1 | e1
        · subst e1; exact Or.inl hkt
        · subst e1; exact Or.inr hkt
        · exfalso
          unfold kty at hkt
          split at hkt <;> first | omega | cases hkt
      have hty2 : (∃ n, ty = .object n) ∨ ∃ n, ty = .array n := by
        rcases hkt' with h | h <;> cases ty <;> first | exact Or.inl ⟨_, rfl⟩ | exact Or.inr ⟨_, rfl⟩ | cases h
      obtain ⟨q1, q2⟩ := hg _ _ _ _ _ ht h
      refine ⟨q1, row a r v (wR σ a f2 o) ty q hm.1 hc hty ?_ ?_ rfl rfl (fun _ => rfl) (fun _ => rfl) (o_wR) (fun j => ?_) q2⟩
      · rcases hty2 with ⟨n, e1⟩ | ⟨n, e1⟩ <;> rcases hv2 with e2 | ⟨b, e2⟩ <;> rw [e1, e2] <;> rfl
      · rcases hty2 with ⟨n, e1⟩ | ⟨n, e1⟩ <;> rcases hv2 with e2 | ⟨b, e2⟩ <;> rw [e1, e2] <;> rfl
      · rw [hv]
        exact up_wR (ft := fun j => fty clsL (tg F σ a) j) (ftq hc hty) hkt' hm.2 j
    rcases pN_inv h with ⟨v, r, e0, h0⟩ | ⟨r, e0, h0⟩
    · obtain ⟨a, r', e1, h1⟩ := pA_inv h0
      subst e0; subst e1
      refine fin a (some v) (.ref v) r' rfl ?_ h1
      rcases cv_rn hKF.2.1 v with h | h
      · exact Or.inr h
      · exact Or.inl h
    · obtain ⟨a, r', e1, h1⟩ := pA_inv h0
      subst e0; subst e1
      exact fin a none .null r' rfl (Or.inl rfl) h1
  rcases f3 with _ | _ | _ | _ | _ | f3
  · obtain ⟨v, r, e0, h0⟩ := pI_inv h
    obtain ⟨a, r', e1, h1⟩ := pA_inv h0
    subst e0; subst e1
    obtain ⟨hm, h1⟩ := bif_inv h1
    obtain ⟨q, ty, hc, hty, hkt⟩ := cls a hm hw2
    have hty2 : ty = .int := by cases ty <;> first | rfl | cases hkt
    subst hty2
    obtain ⟨q1, q2⟩ := hg _ _ _ _ _ ht h1
    exact ⟨q1, row a r' (.int v) (wI σ a f2 v) .int q hm hc hty rfl rfl rfl rfl (fun _ => rfl) (fun _ => rfl) o_wI (up_wI (ft := fun j => fty clsL (tg F σ a) j) (ftq hc hty) (Or.inl rfl)) q2⟩
  · obtain ⟨v, r, e0, h0⟩ := pJ_inv h
    obtain ⟨a, r', e1, h1⟩ := pA_inv h0
    subst e0; subst e1
    obtain ⟨hm, h1⟩ := bif_inv h1
    obtain ⟨q, ty, hc, hty, hkt⟩ := cls a hm hw2
    have hty2 : ty = .long := by cases ty <;> first | rfl | cases hkt
    subst hty2
    obtain ⟨q1, q2⟩ := hg _ _ _ _ _ ht h1
    exact ⟨q1, row a r' (.long v) (wJ σ a f2 v) .long q hm hc hty rfl rfl rfl rfl (fun _ => rfl) (fun _ => rfl) o_wJ (up_wJ (ft := fun j => fty clsL (tg F σ a) j) (ftq hc hty) rfl) q2⟩
  · exact refN h (Or.inl rfl)
  · exact refN h (Or.inr (Or.inl rfl))
  · obtain ⟨v, r, e0, h0⟩ := pI_inv h
    obtain ⟨a, r', e1, h1⟩ := pA_inv h0
    subst e0; subst e1
    obtain ⟨hm, h1⟩ := bif_inv h1
    rw [Bool.and_eq_true] at hm
    obtain ⟨q, ty, hc, hty, hkt⟩ := cls a hm.1 hw2
    have hty2 : ty = .boolean := by cases ty <;> first | rfl | cases hkt
    subst hty2
    obtain ⟨q1, q2⟩ := hg _ _ _ _ _ ht h1
    have hv01 : v = 0 ∨ v = 1 := by
      have := hm.2
      rw [Bool.or_eq_true, beq_iff_eq, beq_iff_eq] at this
      exact this
    refine ⟨q1, row a r' (.int v) (wI σ a f2 v) .boolean q hm.1 hc hty ?_ ?_ rfl rfl (fun _ => rfl) (fun _ => rfl) o_wI (up_wI (ft := fun j => fty clsL (tg F σ a) j) (ftq hc hty) (Or.inr rfl)) q2⟩
    · rcases hv01 with rfl | rfl <;> rfl
    · rcases hv01 with rfl | rfl <;> rfl
  · exact refN h (Or.inr (Or.inr (by omega)))
end SND4
