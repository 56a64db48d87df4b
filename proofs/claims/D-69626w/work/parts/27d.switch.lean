/-! ===== from the constructors' world to the fixed cells; the law's run ===== -/
theorem tg_lo {F : Fx} {σ : St} {a : Nat} (h : a < F.1) : tg F σ a = F.2.1 a := by
  have : Nat.blt a F.1 = true := by rw [Nat.blt_eq]; exact h
  simp [tg, this]
theorem ln_lo {F : Fx} {σ : St} {a : Nat} (h : a < F.1) : ln F σ a = F.2.2.1 a := by
  have : Nat.blt a F.1 = true := by rw [Nat.blt_eq]; exact h
  simp [ln, this]
theorem fR_lo {F : Fx} {a : Nat} (h : a < F.1) (k : Nat) : fR F a k = F.2.2.2 a k := by
  have : Nat.blt a F.1 = true := by rw [Nat.blt_eq]; exact h
  simp [fR, this]
theorem fval_to {X : Cx} {F G : Fx} {σ τ : St} {a : Nat} (hI : rI τ a = rI σ a) (hJ : rJ τ a = rJ σ a) (hR : rR G τ a = rR F σ a) (ty : Option FieldType) (k : Nat) : fval X G τ ty a k = fval X F σ ty a k := by
  unfold fval
  rw [hI, hJ, hR]
theorem aval_to {X : Cx} {F G : Fx} {σ τ : St} {a : Nat} (hI : rI τ a = rI σ a) (hJ : rJ τ a = rJ σ a) (hR : rR G τ a = rR F σ a) (t : Nat) : aval X G τ t a = aval X F σ t a := by
  funext j
  unfold aval
  rw [hI, hJ, hR]
theorem RepC.to {X : Cx} {F G : Fx} {σ τ : St} {H : Heap} {a : Nat} (h : RepC X F σ H a) (ht : tg G τ a = tg F σ a) (hl : ln G τ a = ln F σ a) (hI : rI τ a = rI σ a) (hJ : rJ τ a = rJ σ a) (hR : rR G τ a = rR F σ a) : RepC X G τ H a := by
  unfold RepC at h ⊢
  rw [ht, hl, hI, hR, aval_to (X := X) (F := F) hI hJ hR]
  obtain ⟨h1, h2, h3, h4, h5, h6⟩ := h
  refine ⟨fun q => ?_, h2, h3, h4, h5, h6⟩
  obtain ⟨r, hr, ho⟩ := h1 q
  exact ⟨r, hr, ho.to fun k _ => (fval_to hI hJ hR _ k).symm⟩
def PL (k : Nat) (o : Option Nat) (l : List (Nat × Nat)) : Prop := ∀ b, o = some b → (k, b) ∈ l
theorem bifP {k : Nat} {c : Bool} {x y : Option Nat} {l m : List (Nat × Nat)} (h1 : PL k x l) (h2 : PL k y m) : PL k (bif c then x else y) (bif c then l else m) := by
  cases c with
  | true => exact h1
  | false => exact h2
theorem lkP (k : Nat) (l : List (Nat × Nat)) : PL k (lkN k l) l := fun b h => lkN_mem h
theorem noP (k : Nat) (l : List (Nat × Nat)) : PL k none l := fun b h => by cases h
theorem pileP (k : Nat) : PL k (bif Nat.blt k 202 then some (23 + 3 * k) else none) pileL := by
  intro b h
  cases hk : Nat.blt k 202 with
  | true =>
    rw [hk] at h
    have h : some (23 + 3 * k) = some b := h
    cases h
    exact List.mem_map.mpr ⟨k, List.mem_range.mpr (Nat.blt_eq.mp hk), rfl⟩
  | false => rw [hk] at h; cases h
theorem spanP (k a : Nat) : PL k (bif Nat.beq k 0 then some (a + 1) else bif Nat.beq k 1 then some (a + 2) else none) (spanL a) := by
  intro b h
  cases h0 : Nat.beq k 0 with
  | true =>
    rw [h0] at h
    have h : some (a + 1) = some b := h
    cases h
    cases Nat.eq_of_beq_eq_true h0
    exact List.mem_cons_self
  | false =>
    rw [h0] at h
    cases h1 : Nat.beq k 1 with
    | true =>
      rw [h1] at h
      have h : some (a + 2) = some b := h
      cases h
      cases Nat.eq_of_beq_eq_true h1
      exact List.mem_cons_of_mem _ List.mem_cons_self
    | false => rw [h1] at h; cases h
theorem FRf_l (a k : Nat) : PL k (FRf a k) (FRl a) := by
  unfold FRf FRl
  repeat' first
    | exact noP _ _
    | exact lkP _ _
    | exact pileP _
    | exact spanP _ _
    | refine bifP ?_ ?_
theorem chkT_spec {t : St} (h : chkT t = true) : nx t = 776 ∧ ∀ a, 16 ≤ a → a < 776 → t.1 a = FT a ∧ t.2.1 a = FLn a := by
  unfold chkT at h
  rw [Bool.and_eq_true, Bool.and_eq_true] at h
  refine ⟨Nat.eq_of_beq_eq_true h.1.1, fun a h1 h2 => ?_⟩
  have := List.all_eq_true.mp h.2 (a - 16) (List.mem_range.mpr (by omega))
  rw [show a - 16 + 16 = a from by omega, Bool.and_eq_true] at this
  exact ⟨Nat.eq_of_beq_eq_true this.1, Nat.eq_of_beq_eq_true this.2⟩
theorem oeq_spec {a : Option Nat} {b : Nat} (h : oeq a (some b) = true) : a = some b := by
  cases a with
  | none => cases h
  | some x => exact congrArg some (Nat.eq_of_beq_eq_true h)
theorem chkR_spec {t : St} (h : chkR t = true) {a k b : Nat} (h1 : 16 ≤ a) (h2 : a < 776) (hb : FRf a k = some b) : t.2.2.2.2.1 a k = some b := by
  have := List.all_eq_true.mp h (a - 16) (List.mem_range.mpr (by omega))
  rw [show a - 16 + 16 = a from by omega] at this
  exact oeq_spec (List.all_eq_true.mp this (k, b) (FRf_l a k b hb))
/-- the script and the text come in -/
def sw (xs : Nat → Int32) (σ : St) : St := (σ.1, σ.2.1, (fun a => bif Nat.beq a 0 then xs else bif Nat.beq a 3 then (fun j => txtB.getD j 0) else σ.2.2.1 a), σ.2.2.2)
def unfix (L : Nat) (σ : St) : St := ((fun a => tg (FF L) σ a), (fun a => ln (FF L) σ a), σ.2.2.1, σ.2.2.2.1, (fun a k => rR (FF L) σ a k), σ.2.2.2.2.2)
theorem lt16 {P : Nat → Prop} (h : ∀ i : Fin 16, P i) {a : Nat} (ha : a < 16) : P a := h ⟨a, ha⟩
theorem vacR {X : Cx} {F : Fx} {σ : St} {H : Heap} {a : Nat} (h : 74 ≤ tg F σ a) : RepC X F σ H a :=
  ⟨fun h => by omega, fun h => by omega, fun h => by omega, fun h => by omega, fun h => by omega, fun h => by omega⟩
/-- a cell that was there, in any heap that keeps it -/
def OldH (X : Cx) (H : Heap) (a t N : Nat) (f : Nat → Int32) : Prop := xS X a < xB X ∧ ∃ cell : Cell, H[xS X a]? = some cell ∧ cell.cls = xA X t ∧ cell.vm ≠ .unknown ∧ (∀ k, cell.vm ≠ .statics k) ∧ (N ≤ cell.slots.size ∧ cell.slots.size.toInt32 = Int32.ofNat N) ∧ ∀ j, j < N → cell.slots[j]? = some (.int (f j))
theorem OldA.at {X : Cx} {s : State} {a t N : Nat} {f : Nat → Int32} {H : Heap} {locs : List Loc} (hB : xB X = s.heap.size) (h : OldA X s a t N f) (hV : va_S (Aq X) s.heap H locs) : OldH X H a t N f := by
  obtain ⟨h1, cell, h2, h3⟩ := h
  refine ⟨h1, cell, ?_, h3⟩
  rw [hV.2.1 _ (by rw [← hB]; exact h1) (by unfold Aq; omega)]
  exact h2
theorem to_FF {X : Cx} {σ : St} {H : Heap} {L : Nat} {xs : Nat → Int32} (hW : Wd X FI σ H) (hT : chkT σ = true) (hR : chkR σ = true) (h0 : OldH X H 0 71 L xs) (h3 : OldH X H 3 72 72 (fun j => txtB.getD j 0)) : Wd X (FF L) (sw xs σ) H := by
  obtain ⟨hn, ht⟩ := chkT_spec hT
  obtain ⟨w1, w2, w3, w4, w5, w6, w7⟩ := hW
  have hn' : nx (sw xs σ) = nx σ := rfl
  refine ⟨w1, w2, ?_, ?_, ?_, ?_, ?_⟩
  · rw [hn', hn]; exact Nat.le_refl _
  · intro a ha
    rw [tg_lo (F := FF L) (show a < 776 by omega)]
    exact lt16 (P := fun a => FT a = 20 ∨ 71 ≤ FT a) (by decide) ha
  · intro a ha h73
    rw [tg_lo (F := FF L) (show a < 776 by omega)] at h73
    have hq : a = 0 ∨ a = 2 ∨ a = 3 ∨ a = 6 := lt16 (P := fun a => FT a ≤ 73 → a = 0 ∨ a = 2 ∨ a = 3 ∨ a = 6) (by decide) ha h73
    rcases hq with rfl | rfl | rfl | rfl
    · exact h0.1
    · exact w5 2 (by decide) (show FT0 2 ≤ 73 by decide)
    · exact h3.1
    · exact w5 6 (by decide) (show FT0 6 ≤ 73 by decide)
  · intro a ha
    rw [hn', hn] at ha
    rw [tg_hi (F := FF L) (show 776 ≤ a from ha)]
    have := w6 a (by rw [hn]; exact ha)
    rw [tg_hi (F := FI) (show 16 ≤ a by omega)] at this
    exact this
  · intro a
    rcases Nat.lt_or_ge a 16 with ha | ha
    · have htg : tg (FF L) (sw xs σ) a = FT a := tg_lo (F := FF L) (show a < 776 by omega)
      have hq : a = 0 ∨ a = 2 ∨ a = 3 ∨ a = 6 ∨ 74 ≤ FT a := lt16 (P := fun a => a = 0 ∨ a = 2 ∨ a = 3 ∨ a = 6 ∨ 74 ≤ FT a) (by decide) ha
      rcases hq with rfl | rfl | rfl | rfl | hq
      · obtain ⟨-, cell, q1, q2, q3, q4, q5, q6⟩ := h0
        exact ⟨fun h => absurd h (by rw [htg]; decide), fun h => absurd h (by rw [htg]; decide), fun h => absurd h (by rw [htg]; decide), fun _ h => absurd h (by rw [htg]; decide), fun _ _ => ⟨cell, q1, by rw [htg]; exact q2, q3, q4, q5, fun _ => q6⟩, fun h => absurd h (by rw [htg]; decide)⟩
      · have := (w7 2).2.1 rfl
        exact ⟨fun h => absurd h (by rw [htg]; decide), fun _ => this, fun h => absurd h (by rw [htg]; decide), fun h => absurd h (by rw [htg]; decide), fun h => absurd h (by rw [htg]; decide), fun h => absurd h (by rw [htg]; decide)⟩
      · obtain ⟨-, cell, q1, q2, q3, q4, q5, q6⟩ := h3
        exact ⟨fun h => absurd h (by rw [htg]; decide), fun h => absurd h (by rw [htg]; decide), fun h => absurd h (by rw [htg]; decide), fun _ h => absurd h (by rw [htg]; decide), fun _ _ => ⟨cell, q1, by rw [htg]; exact q2, q3, q4, q5, fun _ => q6⟩, fun h => absurd h (by rw [htg]; decide)⟩
      · obtain ⟨cell, q1, q2, q3, q4, q5, -⟩ := (w7 6).2.2.2.2.1 (show 71 ≤ FT0 6 by decide) (show FT0 6 ≤ 73 by decide)
        exact ⟨fun h => absurd h (by rw [htg]; decide), fun h => absurd h (by rw [htg]; decide), fun h => absurd h (by rw [htg]; decide), fun _ h => absurd h (by rw [htg]; decide), fun _ _ => ⟨cell, q1, by rw [htg]; exact q2, q3, q4, q5, fun h => absurd htg h⟩, fun h => absurd h (by rw [htg]; decide)⟩
      · exact vacR (by rw [htg]; exact hq)
    · refine (w7 a).to ?_ ?_ ?_ rfl ?_
      · rw [tg_hi (F := FI) (show 16 ≤ a from ha)]
        rcases Nat.lt_or_ge a 776 with h | h
        · rw [tg_lo (F := FF L) (show a < 776 from h)]
          exact (ht a ha h).1.symm
        · rw [tg_hi (F := FF L) (show 776 ≤ a from h)]
          rfl
      · rw [ln_hi (F := FI) (show 16 ≤ a from ha)]
        rcases Nat.lt_or_ge a 776 with h | h
        · rw [ln_lo (F := FF L) (show a < 776 from h)]
          have : Nat.beq a 0 = false := by rw [Bool.eq_false_iff, ne_eq, Nat.beq_eq]; omega
          show (bif Nat.beq a 0 then L else FLn a) = _
          rw [this]
          exact (ht a ha h).2.symm
        · rw [ln_hi (F := FF L) (show 776 ≤ a from h)]
          rfl
      · have e0 : Nat.beq a 0 = false := by rw [Bool.eq_false_iff, ne_eq, Nat.beq_eq]; omega
        have e3 : Nat.beq a 3 = false := by rw [Bool.eq_false_iff, ne_eq, Nat.beq_eq]; omega
        show (bif Nat.beq a 0 then xs else bif Nat.beq a 3 then (fun j => txtB.getD j 0) else σ.2.2.1 a) = σ.2.2.1 a
        rw [e0, e3]
        rfl
      · funext k
        unfold rR
        rw [fR_hi (F := FI) (show 16 ≤ a from ha)]
        rcases Nat.lt_or_ge a 776 with h | h
        · rw [fR_lo (F := FF L) (show a < 776 from h)]
          show oR (FRf a k) (σ.2.2.2.2.1 a k) = oR none (σ.2.2.2.2.1 a k)
          cases hb : FRf a k with
          | none => rfl
          | some b => exact (chkR_spec hR ha h hb).symm
        · rw [fR_hi (F := FF L) (show 776 ≤ a from h)]
          rfl
theorem un_tg {L : Nat} {σ : St} {a : Nat} (h : 16 ≤ a) : tg FI (unfix L σ) a = tg (FF L) σ a := tg_hi (F := FI) (show 16 ≤ a from h)
theorem to_FI {X : Cx} {σ : St} {H : Heap} {L : Nat} (hW : Wd X (FF L) σ H) : Wd X FI (unfix L σ) H := by
  obtain ⟨w1, w2, w3, w4, w5, w6, w7⟩ := hW
  have w3 : 776 ≤ nx σ := w3
  refine ⟨w1, w2, w2, ?_, ?_, ?_, ?_⟩
  · intro a ha
    rw [tg_lo (F := FI) (show a < 16 from ha)]
    exact lt16 (P := fun a => FT0 a = 20 ∨ 71 ≤ FT0 a) (by decide) ha
  · intro a ha h73
    rw [tg_lo (F := FI) (show a < 16 from ha)] at h73
    have hq : a = 2 ∨ a = 6 := lt16 (P := fun a => FT0 a ≤ 73 → a = 2 ∨ a = 6) (by decide) ha h73
    rcases hq with rfl | rfl
    · exact w5 2 (by decide) (show FT 2 ≤ 73 by decide)
    · exact w5 6 (by decide) (show FT 6 ≤ 73 by decide)
  · intro a ha
    have ha : nx σ ≤ a := ha
    rw [un_tg (by omega)]
    exact w6 a ha
  · intro a
    rcases Nat.lt_or_ge a 16 with ha | ha
    · have htg : tg FI (unfix L σ) a = FT0 a := tg_lo (F := FI) (show a < 16 from ha)
      have htF : tg (FF L) σ a = FT a := tg_lo (F := FF L) (show a < 776 by omega)
      have hq : a = 2 ∨ a = 6 ∨ 74 ≤ FT0 a := lt16 (P := fun a => a = 2 ∨ a = 6 ∨ 74 ≤ FT0 a) (by decide) ha
      rcases hq with rfl | rfl | hq
      · have := (w7 2).2.1 htF
        exact ⟨fun h => absurd h (by rw [htg]; decide), fun _ => ⟨rfl, rfl, this.2.2⟩, fun h => absurd h (by rw [htg]; decide), fun h => absurd h (by rw [htg]; decide), fun h => absurd h (by rw [htg]; decide), fun h => absurd h (by rw [htg]; decide)⟩
      · obtain ⟨cell, q1, q2, q3, q4, q5, -⟩ := (w7 6).2.2.2.2.1 (by rw [htF]; decide) (by rw [htF]; decide)
        rw [htF] at q2
        exact ⟨fun h => absurd h (by rw [htg]; decide), fun h => absurd h (by rw [htg]; decide), fun h => absurd h (by rw [htg]; decide), fun _ h => absurd h (by rw [htg]; decide), fun _ _ => ⟨cell, q1, by rw [htg]; exact q2, q3, q4, q5, fun h => absurd htg h⟩, fun h => absurd h (by rw [htg]; decide)⟩
      · exact vacR (by rw [htg]; exact hq)
    · refine (w7 a).to (un_tg ha) (ln_hi (F := FI) (show 16 ≤ a from ha)) rfl rfl ?_
      funext k
      show oR (fR FI a k) (rR (FF L) σ a k) = rR (FF L) σ a k
      rw [fR_hi (F := FI) (show 16 ≤ a from ha)]
      rfl
def recL (L : Nat) (xs : Nat → Int32) (n : Nat) : Rec := fun d j pc vs σ => bif Nat.beq j 21 then (bif Nat.beq pc 18 && (chkT σ && chkR σ) then ob (Sem (FF L) MT n d 21 18 vs (sw xs σ)) (fun r => some (r.1, unfix L r.2)) else none) else Sem FI MT 400 d j pc vs σ
section LAW
variable {X : Cx} {l : Launch} {p : Program} {e : Env} {R : Room} {s : State} {m : MethodId} {args : Array Value} {below : List Frame} {meth : Method} {c : Code} {d n0 m0 : Nat} {res : Out × St} {L n : Nat} {xs : Nat → Int32}
theorem cutL (hfl : l.flags = pinnedFlags ++ [noTraceFlag]) (hS : Sc X FI p e R s m args meth c ML_law d n0 m0 res) (hB : xB X = s.heap.size) (h0 : OldA X s 0 71 L xs) (h3 : OldA X s 3 72 72 (fun j => txtB.getD j 0)) :
    CutOK X FI p l e R s m args below meth c ML_law d 21 n0 m0 res (recL L xs n) := by
  intro pc vs σ h lv hlv
  have h : (bif Nat.beq pc 18 && (chkT σ && chkR σ) then ob (Sem (FF L) MT n d 21 18 vs (sw xs σ)) (fun r => some (r.1, unfix L r.2)) else none) = some res := h
  obtain ⟨hb, h5⟩ := bif_inv h
  clear h
  rw [Bool.and_eq_true, Bool.and_eq_true] at hb
  have hpc : pc = 18 := Nat.eq_of_beq_eq_true hb.1
  subst hpc
  obtain ⟨r, hr, h6⟩ := ob_inv h5
  have h7 : (r.1, unfix L r.2) = res := Option.some.inj h6
  subst h7
  obtain ⟨s1, s2, s3, s4, s5, s6, s7, s8, s9, s10, s11, s12, s13, -⟩ := hS
  have hS' : Sc X (FF L) p e R s m args meth c ML_law d n0 m0 r := ⟨s1, s2, s3, s4, s5, s6, s7, s8, s9, s10, s11, s12, s13, (by show 5 < 776; decide), rfl⟩
  obtain ⟨q1, q2⟩ := (sem_ok (X := X) hfl (F := FF L) ⟨(by show 5 < 776; decide), rfl⟩ MT_ok n).2 p e R s m args below meth c ML_law d n0 m0 21 r hS' rfl 18 vs (sw xs σ) hr lv hlv
  refine ⟨q1, fun H locs lsA hW hV hL g1 g2 => ?_⟩
  have hw := q2 H locs lsA (to_FF hW hb.2.1 hb.2.2 (h0.at hB hV) (h3.at hB hV)) hV hL g1 g2
  refine mx_mono (fun t ht => ?_) hw
  obtain ⟨o, a1, a2, ⟨b1, b2, b3, b4, b5⟩, a4⟩ := ht
  refine ⟨o, a1, a2, ⟨b1, fun a ha => ?_, to_FI b3, b4, b5⟩, a4⟩
  have hb2 := b2 a ha
  rcases Nat.lt_or_ge a 16 with h | h
  · rw [tg_lo (F := FF L) (show a < 776 by omega)] at hb2
    exact absurd hb2 (lt16 (P := fun a => ¬ FT a = 21) (by decide) h)
  · exact (un_tg h).trans hb2
theorem clL (hfl : l.flags = pinnedFlags ++ [noTraceFlag]) : ClSnd X FI l MT d (callD (recL L xs n) d) := by
  intro j vs σ r h
  cases d with
  | zero => cases h
  | succ d =>
    have h : (bif Nat.beq j 21 then (bif Nat.beq 0 18 && (chkT σ && chkR σ) then ob (Sem (FF L) MT n d 21 18 vs (sw xs σ)) (fun r => some (r.1, unfix L r.2)) else none) else Sem FI MT 400 d j 0 vs σ) = some r := h
    cases hj : Nat.beq j 21 with
    | true =>
      rw [hj] at h
      cases h
    | false =>
      rw [hj] at h
      have h : Sem FI MT 400 d j 0 vs σ = some r := h
      refine ⟨mo_sem FI MT 400 d j 0 vs σ r h, d, rfl, fun M' hM' => (sem_ok (X := X) hfl (F := FI) ⟨by decide, rfl⟩ MT_ok 400).1 d j vs σ r h M' hM' ?_⟩
      intro e0 t hs
      have h : enter FI MT (Sem FI MT 399) d j 0 vs σ = some r := h
      obtain ⟨M2, hM2, h⟩ := ob_inv h
      cases hM'.symm.trans hM2
      rw [hs] at h
      dsimp only at h
      cases hc : e0.2.2.2 with
      | none => rfl
      | some lv => rw [hc] at h; cases h
theorem isV_spec {r : Res} (h : isV r = true) : r = some (.inl none, stOf r) := by
  match r, h with
  | some (.inl none, t), _ => rfl
theorem run1_eq : run1 = some (.inl none, fin1) := isV_spec run1_v
theorem run2_eq : run2 fin1 = some (.inl none, fin2) := isV_spec run2_v
theorem run1_def : Sem FI MT 400 999 22 0 [.ref 16] (nw sg0 0 0 72) = run1 := by unfold run1; rfl
theorem run2_def (t : St) : Sem FI MT 400 999 197 0 [.ref 714] (nw t 8 0 99) = run2 t := by unfold run2; rfl
set_option maxRecDepth 100000 in
theorem law_eq (rec : Rec) (d : Nat) : interp FI rec (d + 1) 21 ML_law (mC ML_law).length (seek 0 (mC ML_law)) [(0, .ref 0)] [] sg0 =
    aV (rec d 22 0 [.ref 16] (nw sg0 0 0 72)) (fun s1 => bif Nat.ble 16 (nx s1) then (bif !(Nat.beq (tg FI (nw s1 8 0 99) (nx s1)) 255) then aV (rec d 197 0 [.ref (nx s1)] (nw s1 8 0 99)) (fun s2 => rec (d + 1) 21 18 [.ref 0, .ref 16, .ref (nx s1), .int 0] s2) thr else none) else none) thr := rfl
theorem recL_ne {d j pc : Nat} {vs : List Value} {σ : St} (h : Nat.beq j 21 = false) : recL L xs n d j pc vs σ = Sem FI MT 400 d j pc vs σ := by
  unfold recL
  rw [h]
  rfl
theorem recL_18 {d : Nat} {vs : List Value} {σ : St} (h1 : chkT σ = true) (h2 : chkR σ = true) : recL L xs n d 21 18 vs σ = ob (Sem (FF L) MT n d 21 18 vs (sw xs σ)) (fun r => some (r.1, unfix L r.2)) := by
  unfold recL
  rw [h1, h2]
  rfl
theorem aV_ok {σ : St} {k : St → Res} {h : Nat → St → Res} : aV (some (.inl none, σ)) k h = k σ := rfl
theorem tg_new {F : Fx} {s : St} {t n k : Nat} (h : F.1 ≤ nx s) : tg F (nw s t n k) (nx s) = t := by
  rw [tg_hi h]
  show (bif Nat.beq (nx s) (nx s) then t else s.1 (nx s)) = t
  rw [Nat.beq_refl]
  rfl
theorem law_go {r : Out × St} (hr : Sem (FF L) MT n 1000 21 18 [.ref 0, .ref 16, .ref 714, .int 0] (sw xs fin2) = some r) : ∃ e0 t, seek 0 (mC ML_law) = e0 :: t ∧ e0.1 = 0 ∧ interp FI (recL L xs n) 1000 21 ML_law (mC ML_law).length (e0 :: t) [(0, .ref 0)] [] sg0 = some (r.1, unfix L r.2) := by
  obtain ⟨e0, t, hsk⟩ : ∃ e0 t, seek 0 (mC ML_law) = e0 :: t := ⟨_, _, rfl⟩
  have h0 : (seek 0 (mC ML_law)).head?.map (fun e => e.1) = some 0 := rfl
  rw [hsk] at h0
  refine ⟨e0, t, hsk, Option.some.inj h0, ?_⟩
  rw [← hsk]
  refine (law_eq (recL L xs n) 999).trans ?_
  have hg : tg FI (nw fin1 8 0 99) (nx fin1) = 8 := tg_new (by rw [nx_fin1]; decide)
  rw [recL_ne rfl, run1_def, run1_eq, aV_ok, hg, nx_fin1]
  have hr' : Sem (FF L) MT n (999 + 1) 21 18 [.ref 0, .ref 16, .ref 714, .int 0] (sw xs fin2) = some r := hr
  rw [show Nat.ble 16 714 = true from rfl, show Nat.beq 8 255 = false from rfl, Bool.not_false, cond_true, cond_true, recL_ne rfl, run2_def, run2_eq, aV_ok, recL_18 fin2_T fin2_R, hr']
  rfl
end LAW
