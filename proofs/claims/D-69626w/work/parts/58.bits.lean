/-! ===== the model's rows of bits ===== -/
section BITS
variable {L : Nat}
def bt (w : Int64) (k : Nat) : Bool := w.toBitVec.getLsbD k
theorem bt_or (a b : Int64) (k : Nat) : bt (a ||| b) k = (bt a k || bt b k) := by
  unfold bt
  rw [Int64.toBitVec_or, BitVec.getLsbD_or]
theorem bt_and (a b : Int64) (k : Nat) : bt (a &&& b) k = (bt a k && bt b k) := by
  unfold bt
  rw [Int64.toBitVec_and, BitVec.getLsbD_and]
theorem bt_one : ∀ k j : Fin 64, bt (I6 1 <<< (I6 (k.val : Int) &&& I6 63)) j.val = decide (j.val = k.val) := by decide +kernel
theorem bt_neg1 : ∀ j : Fin 64, bt (I6 (-1)) j.val = true := by decide +kernel
theorem bt_zero : ∀ j : Fin 64, bt (I6 0) j.val = false := by decide +kernel
theorem bt_not (a : Int64) {k : Nat} (hk : k < 64) : bt (a ^^^ I6 (-1)) k = !bt a k := by
  have h := bt_neg1 ⟨k, hk⟩
  unfold bt at h ⊢
  rw [Int64.toBitVec_xor, BitVec.getLsbD_xor, h, Bool.xor_true]
theorem bt_set (w : Int64) {k : Int} {j : Nat} (hk : 0 ≤ k ∧ k < 64) (hj : j < 64) : bt (w ||| (I6 1 <<< (I6 k &&& I6 63))) j = (bt w j || decide ((j : Int) = k)) := by
  obtain ⟨k, rfl⟩ : ∃ t : Nat, k = t := ⟨k.toNat, by omega⟩
  have h := bt_one ⟨k, by omega⟩ ⟨j, hj⟩
  rw [bt_or, h]
  have e : decide (j = k) = decide ((j : Int) = (k : Int)) := decide_eq_decide.mpr (by omega)
  rw [← e]
theorem sh_amt : ∀ k : Fin 64, ((I6 (k.val : Int) &&& I6 63).toBitVec.smod 64).toNat = k.val := by decide +kernel
theorem bt_test (w : Int64) {k : Int} (hk : 0 ≤ k ∧ k < 64) : ((w >>> (I6 k &&& I6 63)) &&& I6 1 = I6 0) = (bt w k.toNat = false) := by
  obtain ⟨k, rfl⟩ : ∃ t : Nat, k = t := ⟨k.toNat, by omega⟩
  have ha := sh_amt ⟨k, by omega⟩
  rw [eq_iff_iff, Int.toNat_natCast]
  have key : ∀ i : Nat, ((w >>> (I6 (k : Int) &&& I6 63)) &&& I6 1).toBitVec.getLsbD i = (decide (i = 0) && bt w k) := by
    intro i
    have e1 : (I6 1).toBitVec = 1#64 := by decide
    rw [Int64.toBitVec_and, BitVec.getLsbD_and, Int64.toBitVec_shiftRight, e1, BitVec.getLsbD_one]
    have e2 : (w.toBitVec.sshiftRight' ((I6 (k : Int) &&& I6 63).toBitVec.smod 64)) = w.toBitVec.sshiftRight k := by
      show w.toBitVec.sshiftRight ((I6 (k : Int) &&& I6 63).toBitVec.smod 64).toNat = _
      rw [ha]
    rw [e2, BitVec.getLsbD_sshiftRight]
    by_cases e : i = 0
    · subst e
      have : k + 0 < 64 := by omega
      simp [bt, this]
      try (intro q; omega)
    · simp [e]
  constructor
  · intro h
    have := key 0
    rw [h] at this
    have z : (I6 0).toBitVec.getLsbD 0 = false := by decide
    rw [z] at this
    simpa using this.symm
  · intro h
    rw [← Int64.toBitVec_inj]
    refine BitVec.eq_of_getLsbD_eq fun i hi => ?_
    rw [key i, h, Bool.and_false]
    exact (bt_zero ⟨i, hi⟩).symm
/-- the bit of a place in the row at a level -/
def BitAt (s : St) (lv z : Nat) : Prop := bt (rJ s 719 (16 * lv + z / 64)) (z % 64) = true
/-- from a level on -/
def OnlyB (lv : Nat) (s τ : St) : Prop := Fr [5] s τ ∧ nx τ = nx s ∧ sl τ = sl s ∧ (∀ a k, rI τ a k = rI s a k) ∧ (∀ k, k < 16 * lv → rJ τ 719 k = rJ s 719 k) ∧ ∀ a k, rq τ a k = rq s a k
theorem onlyB_refl {lv : Nat} {s : St} : OnlyB lv s s := ⟨fr_refl, rfl, rfl, fun _ _ => rfl, fun _ _ => rfl, fun _ _ => rfl⟩
theorem onlyB_tr {lv : Nat} {s τ υ : St} (h1 : OnlyB lv s τ) (h2 : OnlyB lv τ υ) : OnlyB lv s υ := ⟨fr_tr h1.1 h2.1, h2.2.1.trans h1.2.1, h2.2.2.1.trans h1.2.2.1, fun a k => (h2.2.2.2.1 a k).trans (h1.2.2.2.1 a k), fun k h => (h2.2.2.2.2.1 k h).trans (h1.2.2.2.2.1 k h), fun a k => (h2.2.2.2.2.2 a k).trans (h1.2.2.2.2.2 a k)⟩
theorem onlyB_w {lv k : Nat} {s : St} {v : Int64} (h : 16 * lv ≤ k) : OnlyB lv s (wJ s 719 k v) := ⟨fr_wJ rfl, rfl, rfl, fun _ _ => rfl, fun i hi => by rw [rJ_wJ', if_neg (by omega)], fun _ _ => rfl⟩
theorem onlyB_up {lv : Nat} {s τ : St} (h : OnlyB (lv + 1) s τ) : OnlyB lv s τ := ⟨h.1, h.2.1, h.2.2.1, h.2.2.2.1, fun k hk => h.2.2.2.2.1 k (by omega), h.2.2.2.2.2⟩
theorem clear_b (d : Nat) {lv : Nat} (hlv : lv ≤ 100) (i1 : Int32) (x y : Int64) (i6 : Int32) : ∀ (n k : Nat) (s : St), k + n = 16 →
    ∃ τ, DD L d 213 243 [.ref 714, .int i1, .long x, .long y, .int i6, .int (I3 (16 * lv)), .int (I3 k)] s = DD L d 213 270 [.ref 714, .int i1, .long x, .long y, .int i6, .int (I3 (16 * lv)), .int (I3 0)] τ ∧ OnlyB lv s τ ∧ (∀ i, k ≤ i → i < 16 → rJ τ 719 (16 * lv + i) = I6 0) ∧ ∀ i, i < k → rJ τ 719 (16 * lv + i) = rJ s 719 (16 * lv + i) := by
  intro n
  induction n with
  | zero =>
    intro k s hk
    refine ⟨s, ?_, onlyB_refl, fun i h1 h2 => by omega, fun _ _ => rfl⟩
    rw [E_X8_rise_243]
    simp (disch := omega) only [I3_of, I6_of, I3_nat, I3_add, I3_sub, I3_mul, I3_neg, I6_add, I6_sub, I6_mul, I6_neg, I3_lt, I3_le, I3_eq, I6_lt, I6_le, I6_eq, I3_cl, I3_64, I6_32, cmp_pos', cmp_neg', cmp_eq', inb_I, cond_true, cond_false, aI_ok, aJ_ok, aA_ok, aV_ok', aI_thr, aJ_thr, aA_thr, aV_thr, ob_some, on_some, on_none, tg_wI, tg_wJ, tg_wR, ln_wI, ln_wJ, ln_wR, tg_cpI, ln_cpI, tg_cpR, ln_cpR, nx_wI, nx_wJ, nx_wR, sl_wI, sl_wJ, sl_wR, nx_cpI, sl_cpI, nx_cpR, sl_cpR, nx_nw, sl_nw, rJ_wI, rR_wI, rI_wJ, rR_wJ, rI_wR, rJ_wR, rJ_cpI, rR_cpI, rJ_cpR, rI_cpR, rI_wI, rJ_wJ, rq_wI, rq_wJ, rq_wR, rq_cpI, ↓reduceIte, Nat.reduceEqDiff, Nat.reduceAdd, Nat.reduceSub, Nat.reduceMul, Int.reduceAdd, Int.reduceSub, Int.reduceMul, Int.reduceNeg, Int.reduceLT, Int.reduceLE, Int.reduceEq, Int.reduceToNat, Int.sub_zero, Int.add_zero, Int.zero_add, true_and, and_true, false_and, and_false, or_true, true_or, or_false, false_or, not_true_eq_false, not_false_eq_true, eq_self, decide_true, decide_false, Bool.not_false, Bool.not_true, Bool.and_true, Bool.true_and, Bool.or_true, Bool.true_or, Bool.and_self, Bool.or_false, Bool.false_or, Bool.and_false, Bool.false_and]
    rw [if_neg (by omega)]
  | succ n ih =>
    intro k s hk
    have et : (16 * (lv : Int) + k).toNat = 16 * lv + k := by omega
    obtain ⟨τ, r1, r2, r3, r4⟩ := ih (k + 1) (wJ s 719 (16 * lv + k) (I6 0)) (by omega)
    refine ⟨τ, ?_, onlyB_tr (onlyB_w (by omega)) r2, fun i h1 h2 => ?_, fun i hi => ?_⟩
    · rw [E_X8_rise_243]
      simp (disch := omega) only [I3_of, I6_of, I3_nat, I3_add, I3_sub, I3_mul, I3_neg, I6_add, I6_sub, I6_mul, I6_neg, I3_lt, I3_le, I3_eq, I6_lt, I6_le, I6_eq, I3_cl, I3_64, I6_32, cmp_pos', cmp_neg', cmp_eq', inb_I, cond_true, cond_false, aI_ok, aJ_ok, aA_ok, aV_ok', aI_thr, aJ_thr, aA_thr, aV_thr, ob_some, on_some, on_none, tg_wI, tg_wJ, tg_wR, ln_wI, ln_wJ, ln_wR, tg_cpI, ln_cpI, tg_cpR, ln_cpR, nx_wI, nx_wJ, nx_wR, sl_wI, sl_wJ, sl_wR, nx_cpI, sl_cpI, nx_cpR, sl_cpR, nx_nw, sl_nw, rJ_wI, rR_wI, rI_wJ, rR_wJ, rI_wR, rJ_wR, rJ_cpI, rR_cpI, rJ_cpR, rI_cpR, rI_wI, rJ_wJ, rq_wI, rq_wJ, rq_wR, rq_cpI, ↓reduceIte, Nat.reduceEqDiff, Nat.reduceAdd, Nat.reduceSub, Nat.reduceMul, Int.reduceAdd, Int.reduceSub, Int.reduceMul, Int.reduceNeg, Int.reduceLT, Int.reduceLE, Int.reduceEq, Int.reduceToNat, Int.sub_zero, Int.add_zero, Int.zero_add, true_and, and_true, false_and, and_false, or_true, true_or, or_false, false_or, not_true_eq_false, not_false_eq_true, eq_self, decide_true, decide_false, Bool.not_false, Bool.not_true, Bool.and_true, Bool.true_and, Bool.or_true, Bool.true_or, Bool.and_self, Bool.or_false, Bool.false_or, Bool.and_false, Bool.false_and, et]
      rw [if_pos (by omega), show (k : Int) + 1 = ((k + 1 : Nat) : Int) by omega]
      exact r1
    · by_cases e : i = k
      · rw [r4 i (by omega), rJ_wJ', if_pos (by omega)]
      · exact r3 i (by omega) h2
    · rw [r4 i (by omega), rJ_wJ', if_neg (by omega)]
/-- the bits of one of the four kinds -/
theorem set_b (d : Nat) {s0 : St} {T : Tb} {m e S lv : Nat} {x y lift : Int} (hx0 : 776 ≤ nx s0) (h : Sol s0 T m e) (S1 : 1 ≤ S) (S2 : S ≤ m) (hk : 0 ≤ kd T S ∧ kd T S ≤ 3) (hlv : lv ≤ 100) (hx : -1000000 ≤ x ∧ x ≤ 1000000) (hy : -1000000 ≤ y ∧ y ≤ 1000000) (hl : -500000 ≤ lift ∧ lift ≤ 500000) :
    ∀ (n z : Nat) (s : St), z + n = 1000 → OnlyB lv s0 s → (∀ i, i < 1000 → (BitAt s lv i ↔ (i < z ∧ inS T S x y (i - lift)))) →
    ∃ τ, DD L (d + 2) 213 270 [.ref 714, .int (I3 S), .long (I6 x), .long (I6 y), .int (I3 lift), .int (I3 (16 * lv)), .int (I3 z)] s = ok none τ ∧ OnlyB lv s0 τ ∧ ∀ i, i < 1000 → (BitAt τ lv i ↔ inS T S x y (i - lift)) := by
  intro n
  induction n with
  | zero =>
    intro z s hz hO hB
    refine ⟨s, ?_, hO, fun i hi => (hB i hi).trans ⟨fun q => q.2, fun q => ⟨by omega, q⟩⟩⟩
    rw [E_X8_rise_270]
    simp (disch := omega) only [I3_of, I6_of, I3_nat, I3_add, I3_sub, I3_mul, I3_neg, I6_add, I6_sub, I6_mul, I6_neg, I3_lt, I3_le, I3_eq, I6_lt, I6_le, I6_eq, I3_cl, I3_64, I6_32, cmp_pos', cmp_neg', cmp_eq', inb_I, cond_true, cond_false, aI_ok, aJ_ok, aA_ok, aV_ok', aI_thr, aJ_thr, aA_thr, aV_thr, ob_some, on_some, on_none, tg_wI, tg_wJ, tg_wR, ln_wI, ln_wJ, ln_wR, tg_cpI, ln_cpI, tg_cpR, ln_cpR, nx_wI, nx_wJ, nx_wR, sl_wI, sl_wJ, sl_wR, nx_cpI, sl_cpI, nx_cpR, sl_cpR, nx_nw, sl_nw, rJ_wI, rR_wI, rI_wJ, rR_wJ, rI_wR, rJ_wR, rJ_cpI, rR_cpI, rJ_cpR, rI_cpR, rI_wI, rJ_wJ, rq_wI, rq_wJ, rq_wR, rq_cpI, ↓reduceIte, Nat.reduceEqDiff, Nat.reduceAdd, Nat.reduceSub, Nat.reduceMul, Int.reduceAdd, Int.reduceSub, Int.reduceMul, Int.reduceNeg, Int.reduceLT, Int.reduceLE, Int.reduceEq, Int.reduceToNat, Int.sub_zero, Int.add_zero, Int.zero_add, true_and, and_true, false_and, and_false, or_true, true_or, or_false, false_or, not_true_eq_false, not_false_eq_true, eq_self, decide_true, decide_false, Bool.not_false, Bool.not_true, Bool.and_true, Bool.true_and, Bool.or_true, Bool.true_or, Bool.and_self, Bool.or_false, Bool.false_or, Bool.and_false, Bool.false_and]
    rw [if_neg (by omega)]
  | succ n ih =>
    intro z s hz hO hB
    have hS' := sol_keep hx0 hO.1 rfl rfl h
    have m60 := h.1
    obtain ⟨e1, e2, e3⟩ := hS'.2.2.2.2.2.2.2 S S1 S2
    have w := (hS'.2.2.2.2.2.1 S S1 S2).1
    have hr : ∀ i, i < 6 → -5000 ≤ nb T S i ∧ nb T S i ≤ 5000 := by
      rcases w with w | w | w | w
      · exact w.2.2.1
      · omega
      · omega
      · omega
    have km := kind_m (L := L) d (s := S) (x := x) (y := y) (z := (z : Int) - lift) (by omega) e1 e2 hk hr hx hy (by omega)
    rw [bi_congr (inS_0 S1 hk).symm] at km
    have et : (16 * (lv : Int) + (z : Int) / 64).toNat = 16 * lv + z / 64 := by omega
    have e64 : (z : Int) - (z : Int) / 64 * 64 = (z : Int) % 64 := by omega
    have ez : (z : Int) + 1 = ((z + 1 : Nat) : Int) := by omega
    by_cases g : inS T S x y (z - lift)
    · obtain ⟨τ, r1, r2, r3⟩ := ih (z + 1) (wJ s 719 (16 * lv + z / 64) (rJ s 719 (16 * lv + z / 64) ||| (I6 1 <<< (I6 ((z : Int) % 64) &&& I6 63)))) (by omega) (onlyB_tr hO (onlyB_w (by omega))) (fun i hi => by
        unfold BitAt
        rw [rJ_wJ']
        by_cases ei : 16 * lv + i / 64 = 16 * lv + z / 64
        · rw [if_pos ei, bt_set _ (by omega) (by omega), ← ei, Bool.or_eq_true, decide_eq_true_eq]
          have hb := hB i hi
          unfold BitAt at hb
          rw [hb]
          constructor
          · intro q
            rcases q with q | q
            · exact ⟨by omega, q.2⟩
            · have : i = z := by omega
              rw [this]
              exact ⟨by omega, g⟩
          · intro q
            by_cases ez : i = z
            · right; omega
            · left; exact ⟨by omega, q.2⟩
        · rw [if_neg ei]
          have hb := hB i hi
          unfold BitAt at hb
          rw [hb]
          constructor
          · intro q; exact ⟨by omega, q.2⟩
          · intro q
            refine ⟨?_, q.2⟩
            have : i ≠ z := by intro w; subst w; exact ei rfl
            omega)
      refine ⟨τ, ?_, r2, r3⟩
      rw [E_X8_rise_270]
      simp (disch := omega) only [I3_of, I6_of, I3_nat, I3_add, I3_sub, I3_mul, I3_neg, I6_add, I6_sub, I6_mul, I6_neg, I3_lt, I3_le, I3_eq, I6_lt, I6_le, I6_eq, I3_cl, I3_64, I6_32, cmp_pos', cmp_neg', cmp_eq', inb_I, cond_true, cond_false, aI_ok, aJ_ok, aA_ok, aV_ok', aI_thr, aJ_thr, aA_thr, aV_thr, ob_some, on_some, on_none, tg_wI, tg_wJ, tg_wR, ln_wI, ln_wJ, ln_wR, tg_cpI, ln_cpI, tg_cpR, ln_cpR, nx_wI, nx_wJ, nx_wR, sl_wI, sl_wJ, sl_wR, nx_cpI, sl_cpI, nx_cpR, sl_cpR, nx_nw, sl_nw, rJ_wI, rR_wI, rI_wJ, rR_wJ, rI_wR, rJ_wR, rJ_cpI, rR_cpI, rJ_cpR, rI_cpR, rI_wI, rJ_wJ, rq_wI, rq_wJ, rq_wR, rq_cpI, ↓reduceIte, Nat.reduceEqDiff, Nat.reduceAdd, Nat.reduceSub, Nat.reduceMul, Int.reduceAdd, Int.reduceSub, Int.reduceMul, Int.reduceNeg, Int.reduceLT, Int.reduceLE, Int.reduceEq, Int.reduceToNat, Int.sub_zero, Int.add_zero, Int.zero_add, true_and, and_true, false_and, and_false, or_true, true_or, or_false, false_or, not_true_eq_false, not_false_eq_true, eq_self, decide_true, decide_false, Bool.not_false, Bool.not_true, Bool.and_true, Bool.true_and, Bool.or_true, Bool.true_or, Bool.and_self, Bool.or_false, Bool.false_or, Bool.and_false, Bool.false_and, km, bi_pos g, i3_10, I3_divp, et, e64]
      rw [if_pos (by omega), ez]
      exact r1
    · obtain ⟨τ, r1, r2, r3⟩ := ih (z + 1) s (by omega) hO (fun i hi => by
        rw [hB i hi]
        constructor
        · intro q; exact ⟨by omega, q.2⟩
        · intro q
          refine ⟨?_, q.2⟩
          have : i ≠ z := by intro w; subst w; exact g q.2
          omega)
      refine ⟨τ, ?_, r2, r3⟩
      rw [E_X8_rise_270]
      simp (disch := omega) only [I3_of, I6_of, I3_nat, I3_add, I3_sub, I3_mul, I3_neg, I6_add, I6_sub, I6_mul, I6_neg, I3_lt, I3_le, I3_eq, I6_lt, I6_le, I6_eq, I3_cl, I3_64, I6_32, cmp_pos', cmp_neg', cmp_eq', inb_I, cond_true, cond_false, aI_ok, aJ_ok, aA_ok, aV_ok', aI_thr, aJ_thr, aA_thr, aV_thr, ob_some, on_some, on_none, tg_wI, tg_wJ, tg_wR, ln_wI, ln_wJ, ln_wR, tg_cpI, ln_cpI, tg_cpR, ln_cpR, nx_wI, nx_wJ, nx_wR, sl_wI, sl_wJ, sl_wR, nx_cpI, sl_cpI, nx_cpR, sl_cpR, nx_nw, sl_nw, rJ_wI, rR_wI, rI_wJ, rR_wJ, rI_wR, rJ_wR, rJ_cpI, rR_cpI, rJ_cpR, rI_cpR, rI_wI, rJ_wJ, rq_wI, rq_wJ, rq_wR, rq_cpI, ↓reduceIte, Nat.reduceEqDiff, Nat.reduceAdd, Nat.reduceSub, Nat.reduceMul, Int.reduceAdd, Int.reduceSub, Int.reduceMul, Int.reduceNeg, Int.reduceLT, Int.reduceLE, Int.reduceEq, Int.reduceToNat, Int.sub_zero, Int.add_zero, Int.zero_add, true_and, and_true, false_and, and_false, or_true, true_or, or_false, false_or, not_true_eq_false, not_false_eq_true, eq_self, decide_true, decide_false, Bool.not_false, Bool.not_true, Bool.and_true, Bool.true_and, Bool.or_true, Bool.true_or, Bool.and_self, Bool.or_false, Bool.false_or, Bool.and_false, Bool.false_and, km, bi_neg g]
      rw [if_pos (by omega), ez]
      exact r1
end BITS
