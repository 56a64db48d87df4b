/-! ===== the model's sets of cells, 2 ===== -/
section FLOOD2
variable {L : Nat}
theorem ltk {a b : Int} {k : Nat} (h1 : a < b) (h2 : b < ((k + 1 : Nat) : Int)) : a < (k : Int) := by omega
theorem ltk0 {a : Int} (h : 0 ≤ a) : a < ((a.toNat + 1 : Nat) : Int) := by omega
theorem not_lt0 {a : Int} (h : 0 ≤ a) (h2 : a < ((0 : Nat) : Int)) : False := by omega
theorem I3_m1 : Int32.ofInt (-1) = I3 (-1) := rfl
theorem bwd (d : Nat) {s0 : St} {n m c : Nat} {kv : Int32} (hn : rI s0 714 10 = I3 n) (hm : rI s0 714 11 = I3 m) (n1 : n ≤ 64) (m1 : m ≤ 64) (hk : kv = I3 0 ∨ kv = I3 1) :
    ∀ (k : Nat) (a b : Int) (f : Int32) (s : St), (b * 65 + a + 1).toNat ≤ k → -1 ≤ a → a < n → 0 ≤ b → b < m → GInv s0 s n m (rI s0 720) kv c →
    ∃ s' f', DD L (d + 1) 216 142 [.ref 714, .int kv, .int f, .int (I3 b), .int (I3 a)] s = DD L (d + 1) 216 15 [.ref 714, .int kv, .int f'] s' ∧ GInv s0 s' n m (rI s0 720) kv c ∧
      ((s' = s ∧ f' = f) ∨ (f' = I3 1 ∧ zer s' n m < zer s n m)) := by
  intro k
  induction k with
  | zero =>
    intro a b f s hk0 ha1 ha hb0 hb hi
    have hi0 := hi
    obtain ⟨h1, h2, h3, h4, h5, hc, h6⟩ := hi
    refine ⟨s, f, ?_, hi0, Or.inl ⟨rfl, rfl⟩⟩
    rw [E_X8_grow_142]
    simp (disch := omega) only [I3_of, I6_of, I3_nat, I3_add, I3_sub, I3_mul, I3_neg, I6_add, I6_sub, I6_mul, I6_neg, I3_lt, I3_le, I3_eq, I6_lt, I6_le, I6_eq, I3_cl, I3_64, I6_32, cmp_pos', cmp_neg', cmp_eq', cond_true, cond_false, aI_ok, aJ_ok, aA_ok, aV_ok', aI_thr, aJ_thr, aA_thr, aV_thr, ob_some, on_some, on_none, tg_wI, tg_wJ, tg_wR, ln_wI, ln_wJ, ln_wR, tg_cpI, ln_cpI, tg_cpR, ln_cpR, nx_wI, nx_wJ, nx_wR, sl_wI, sl_wJ, sl_wR, nx_cpI, sl_cpI, nx_cpR, sl_cpR, nx_nw, sl_nw, rJ_wI, rR_wI, rI_wJ, rR_wJ, rI_wR, rJ_wR, rJ_cpI, rR_cpI, rJ_cpR, rI_cpR, rI_wI, rJ_wJ, rq_wI, rq_wJ, rq_wR, rq_cpI, ↓reduceIte, Nat.reduceEqDiff, Nat.reduceAdd, Nat.reduceSub, Nat.reduceMul, Int.reduceAdd, Int.reduceSub, Int.reduceMul, Int.reduceNeg, Int.reduceLT, Int.reduceLE, Int.reduceEq, Int.reduceToNat, Int.sub_zero, Int.add_zero, Int.zero_add, true_and, and_true, false_and, and_false, or_true, true_or, or_false, false_or, not_true_eq_false, not_false_eq_true, eq_self, decide_true, decide_false, Bool.not_false, Bool.not_true, Bool.and_true, Bool.true_and, Bool.or_true, Bool.true_or, Bool.and_self, Bool.or_false, Bool.false_or, Bool.and_false, Bool.false_and, I3_m1]
    rw [if_pos (by omega), E_X8_grow_129]
    simp (disch := omega) only [I3_of, I6_of, I3_nat, I3_add, I3_sub, I3_mul, I3_neg, I6_add, I6_sub, I6_mul, I6_neg, I3_lt, I3_le, I3_eq, I6_lt, I6_le, I6_eq, I3_cl, I3_64, I6_32, cmp_pos', cmp_neg', cmp_eq', inb_I, cond_true, cond_false, aI_ok, aJ_ok, aA_ok, aV_ok', aI_thr, aJ_thr, aA_thr, aV_thr, ob_some, on_some, on_none, tg_wI, tg_wJ, tg_wR, ln_wI, ln_wJ, ln_wR, tg_cpI, ln_cpI, tg_cpR, ln_cpR, nx_wI, nx_wJ, nx_wR, sl_wI, sl_wJ, sl_wR, nx_cpI, sl_cpI, nx_cpR, sl_cpR, nx_nw, sl_nw, rJ_wI, rR_wI, rI_wJ, rR_wJ, rI_wR, rJ_wR, rJ_cpI, rR_cpI, rJ_cpR, rI_cpR, rI_wI, rJ_wJ, rq_wI, rq_wJ, rq_wR, rq_cpI, ↓reduceIte, Nat.reduceEqDiff, Nat.reduceAdd, Nat.reduceSub, Nat.reduceMul, Int.reduceAdd, Int.reduceSub, Int.reduceMul, Int.reduceNeg, Int.reduceLT, Int.reduceLE, Int.reduceEq, Int.reduceToNat, Int.sub_zero, Int.add_zero, Int.zero_add, true_and, and_true, false_and, and_false, or_true, true_or, or_false, false_or, not_true_eq_false, not_false_eq_true, eq_self, decide_true, decide_false, Bool.not_false, Bool.not_true, Bool.and_true, Bool.true_and, Bool.or_true, Bool.true_or, Bool.and_self, Bool.or_false, Bool.false_or, Bool.and_false, Bool.false_and]
    rw [if_pos (by omega)]
  | succ k ih =>
    intro a b f s hk0 ha1 ha hb0 hb hi
    have hi0 := hi
    obtain ⟨h1, h2, h3, h4, h5, hc, h6⟩ := hi
    have en : rI s 714 10 = I3 n := (h4 714 10 (by omega)).trans hn
    have em : rI s 714 11 = I3 m := (h4 714 11 (by omega)).trans hm
    have e7 : ∀ x, rI s 720 x = rI s0 720 x := fun x => h4 720 x (by omega)
    by_cases ca : 0 ≤ a
    · obtain ⟨a, rfl⟩ : ∃ t : Nat, a = t := ⟨a.toNat, by omega⟩
      obtain ⟨b, rfl⟩ : ∃ t : Nat, b = t := ⟨b.toNat, by omega⟩
      have gx : Gin n m (64 * b + a) := ⟨by omega, by omega⟩
      have et : (64 * (b : Int) + a).toNat = 64 * b + a := by omega
      by_cases c0 : rI s 722 (64 * b + a) = I3 0
      · by_cases c1 : rI s0 720 (64 * b + a) = kv
        · by_cases c2 : Tch s n m kv (64 * b + a)
          · obtain ⟨g1, g2⟩ := ginv_mark n1 m1 hi0 gx c0 c1 c2
            obtain ⟨s', f', r1, r2, r3⟩ := ih ((a : Int) + -1) b (I3 1) (wI s 722 (64 * b + a) (I3 1)) (by omega) (by omega) (by omega) (by omega) hb g1
            refine ⟨s', f', ?_, r2, Or.inr ?_⟩
            · rw [E_X8_grow_142]
              simp (disch := omega) only [I3_of, I6_of, I3_nat, I3_add, I3_sub, I3_mul, I3_neg, I6_add, I6_sub, I6_mul, I6_neg, I3_lt, I3_le, I3_eq, I6_lt, I6_le, I6_eq, I3_cl, I3_64, I6_32, cmp_pos', cmp_neg', cmp_eq', inb_I, cond_true, cond_false, aI_ok, aJ_ok, aA_ok, aV_ok', aI_thr, aJ_thr, aA_thr, aV_thr, ob_some, on_some, on_none, tg_wI, tg_wJ, tg_wR, ln_wI, ln_wJ, ln_wR, tg_cpI, ln_cpI, tg_cpR, ln_cpR, nx_wI, nx_wJ, nx_wR, sl_wI, sl_wJ, sl_wR, nx_cpI, sl_cpI, nx_cpR, sl_cpR, nx_nw, sl_nw, rJ_wI, rR_wI, rI_wJ, rR_wJ, rI_wR, rJ_wR, rJ_cpI, rR_cpI, rJ_cpR, rI_cpR, rI_wI, rJ_wJ, rq_wI, rq_wJ, rq_wR, rq_cpI, ↓reduceIte, Nat.reduceEqDiff, Nat.reduceAdd, Nat.reduceSub, Nat.reduceMul, Int.reduceAdd, Int.reduceSub, Int.reduceMul, Int.reduceNeg, Int.reduceLT, Int.reduceLE, Int.reduceEq, Int.reduceToNat, Int.sub_zero, Int.add_zero, Int.zero_add, true_and, and_true, false_and, and_false, or_true, true_or, or_false, false_or, not_true_eq_false, not_false_eq_true, eq_self, decide_true, decide_false, Bool.not_false, Bool.not_true, Bool.and_true, Bool.true_and, Bool.or_true, Bool.true_or, Bool.and_self, Bool.or_false, Bool.false_or, Bool.and_false, Bool.false_and, I3_m1, et, c0, e7, c1, touches_m d en em n1 m1 (by omega : a < n) (by omega : b < m) hk, bi_pos c2, i3_10]
              rw [if_neg (by omega)]
              exact r1
            · rcases r3 with ⟨rfl, rfl⟩ | ⟨rfl, q⟩
              · exact ⟨rfl, g2⟩
              · exact ⟨rfl, Int.lt_trans q g2⟩
          · obtain ⟨s', f', r1, r2, r3⟩ := ih ((a : Int) + -1) b f s (by omega) (by omega) (by omega) (by omega) hb hi0
            refine ⟨s', f', ?_, r2, r3⟩
            rw [E_X8_grow_142]
            simp (disch := omega) only [I3_of, I6_of, I3_nat, I3_add, I3_sub, I3_mul, I3_neg, I6_add, I6_sub, I6_mul, I6_neg, I3_lt, I3_le, I3_eq, I6_lt, I6_le, I6_eq, I3_cl, I3_64, I6_32, cmp_pos', cmp_neg', cmp_eq', inb_I, cond_true, cond_false, aI_ok, aJ_ok, aA_ok, aV_ok', aI_thr, aJ_thr, aA_thr, aV_thr, ob_some, on_some, on_none, tg_wI, tg_wJ, tg_wR, ln_wI, ln_wJ, ln_wR, tg_cpI, ln_cpI, tg_cpR, ln_cpR, nx_wI, nx_wJ, nx_wR, sl_wI, sl_wJ, sl_wR, nx_cpI, sl_cpI, nx_cpR, sl_cpR, nx_nw, sl_nw, rJ_wI, rR_wI, rI_wJ, rR_wJ, rI_wR, rJ_wR, rJ_cpI, rR_cpI, rJ_cpR, rI_cpR, rI_wI, rJ_wJ, rq_wI, rq_wJ, rq_wR, rq_cpI, ↓reduceIte, Nat.reduceEqDiff, Nat.reduceAdd, Nat.reduceSub, Nat.reduceMul, Int.reduceAdd, Int.reduceSub, Int.reduceMul, Int.reduceNeg, Int.reduceLT, Int.reduceLE, Int.reduceEq, Int.reduceToNat, Int.sub_zero, Int.add_zero, Int.zero_add, true_and, and_true, false_and, and_false, or_true, true_or, or_false, false_or, not_true_eq_false, not_false_eq_true, eq_self, decide_true, decide_false, Bool.not_false, Bool.not_true, Bool.and_true, Bool.true_and, Bool.or_true, Bool.true_or, Bool.and_self, Bool.or_false, Bool.false_or, Bool.and_false, Bool.false_and, I3_m1, et, c0, e7, c1, touches_m d en em n1 m1 (by omega : a < n) (by omega : b < m) hk, bi_neg c2]
            rw [if_neg (by omega)]
            exact r1
        · obtain ⟨s', f', r1, r2, r3⟩ := ih ((a : Int) + -1) b f s (by omega) (by omega) (by omega) (by omega) hb hi0
          refine ⟨s', f', ?_, r2, r3⟩
          rw [E_X8_grow_142]
          simp (disch := omega) only [I3_of, I6_of, I3_nat, I3_add, I3_sub, I3_mul, I3_neg, I6_add, I6_sub, I6_mul, I6_neg, I3_lt, I3_le, I3_eq, I6_lt, I6_le, I6_eq, I3_cl, I3_64, I6_32, cmp_pos', cmp_neg', cmp_eq', inb_I, cond_true, cond_false, aI_ok, aJ_ok, aA_ok, aV_ok', aI_thr, aJ_thr, aA_thr, aV_thr, ob_some, on_some, on_none, tg_wI, tg_wJ, tg_wR, ln_wI, ln_wJ, ln_wR, tg_cpI, ln_cpI, tg_cpR, ln_cpR, nx_wI, nx_wJ, nx_wR, sl_wI, sl_wJ, sl_wR, nx_cpI, sl_cpI, nx_cpR, sl_cpR, nx_nw, sl_nw, rJ_wI, rR_wI, rI_wJ, rR_wJ, rI_wR, rJ_wR, rJ_cpI, rR_cpI, rJ_cpR, rI_cpR, rI_wI, rJ_wJ, rq_wI, rq_wJ, rq_wR, rq_cpI, ↓reduceIte, Nat.reduceEqDiff, Nat.reduceAdd, Nat.reduceSub, Nat.reduceMul, Int.reduceAdd, Int.reduceSub, Int.reduceMul, Int.reduceNeg, Int.reduceLT, Int.reduceLE, Int.reduceEq, Int.reduceToNat, Int.sub_zero, Int.add_zero, Int.zero_add, true_and, and_true, false_and, and_false, or_true, true_or, or_false, false_or, not_true_eq_false, not_false_eq_true, eq_self, decide_true, decide_false, Bool.not_false, Bool.not_true, Bool.and_true, Bool.true_and, Bool.or_true, Bool.true_or, Bool.and_self, Bool.or_false, Bool.false_or, Bool.and_false, Bool.false_and, I3_m1, et, c0, e7, c1]
          rw [if_neg (by omega)]
          exact r1
      · obtain ⟨s', f', r1, r2, r3⟩ := ih ((a : Int) + -1) b f s (by omega) (by omega) (by omega) (by omega) hb hi0
        refine ⟨s', f', ?_, r2, r3⟩
        rw [E_X8_grow_142]
        simp (disch := omega) only [I3_of, I6_of, I3_nat, I3_add, I3_sub, I3_mul, I3_neg, I6_add, I6_sub, I6_mul, I6_neg, I3_lt, I3_le, I3_eq, I6_lt, I6_le, I6_eq, I3_cl, I3_64, I6_32, cmp_pos', cmp_neg', cmp_eq', inb_I, cond_true, cond_false, aI_ok, aJ_ok, aA_ok, aV_ok', aI_thr, aJ_thr, aA_thr, aV_thr, ob_some, on_some, on_none, tg_wI, tg_wJ, tg_wR, ln_wI, ln_wJ, ln_wR, tg_cpI, ln_cpI, tg_cpR, ln_cpR, nx_wI, nx_wJ, nx_wR, sl_wI, sl_wJ, sl_wR, nx_cpI, sl_cpI, nx_cpR, sl_cpR, nx_nw, sl_nw, rJ_wI, rR_wI, rI_wJ, rR_wJ, rI_wR, rJ_wR, rJ_cpI, rR_cpI, rJ_cpR, rI_cpR, rI_wI, rJ_wJ, rq_wI, rq_wJ, rq_wR, rq_cpI, ↓reduceIte, Nat.reduceEqDiff, Nat.reduceAdd, Nat.reduceSub, Nat.reduceMul, Int.reduceAdd, Int.reduceSub, Int.reduceMul, Int.reduceNeg, Int.reduceLT, Int.reduceLE, Int.reduceEq, Int.reduceToNat, Int.sub_zero, Int.add_zero, Int.zero_add, true_and, and_true, false_and, and_false, or_true, true_or, or_false, false_or, not_true_eq_false, not_false_eq_true, eq_self, decide_true, decide_false, Bool.not_false, Bool.not_true, Bool.and_true, Bool.true_and, Bool.or_true, Bool.true_or, Bool.and_self, Bool.or_false, Bool.false_or, Bool.and_false, Bool.false_and, I3_m1, et, c0]
        rw [if_neg (by omega)]
        exact r1
    · by_cases cb : 0 ≤ b + -1
      · obtain ⟨s', f', r1, r2, r3⟩ := ih ((n : Int) - 1) (b + -1) f s (by omega) (by omega) (by omega) cb (by omega) hi0
        refine ⟨s', f', ?_, r2, r3⟩
        rw [E_X8_grow_142]
        simp (disch := omega) only [I3_of, I6_of, I3_nat, I3_add, I3_sub, I3_mul, I3_neg, I6_add, I6_sub, I6_mul, I6_neg, I3_lt, I3_le, I3_eq, I6_lt, I6_le, I6_eq, I3_cl, I3_64, I6_32, cmp_pos', cmp_neg', cmp_eq', cond_true, cond_false, aI_ok, aJ_ok, aA_ok, aV_ok', aI_thr, aJ_thr, aA_thr, aV_thr, ob_some, on_some, on_none, tg_wI, tg_wJ, tg_wR, ln_wI, ln_wJ, ln_wR, tg_cpI, ln_cpI, tg_cpR, ln_cpR, nx_wI, nx_wJ, nx_wR, sl_wI, sl_wJ, sl_wR, nx_cpI, sl_cpI, nx_cpR, sl_cpR, nx_nw, sl_nw, rJ_wI, rR_wI, rI_wJ, rR_wJ, rI_wR, rJ_wR, rJ_cpI, rR_cpI, rJ_cpR, rI_cpR, rI_wI, rJ_wJ, rq_wI, rq_wJ, rq_wR, rq_cpI, ↓reduceIte, Nat.reduceEqDiff, Nat.reduceAdd, Nat.reduceSub, Nat.reduceMul, Int.reduceAdd, Int.reduceSub, Int.reduceMul, Int.reduceNeg, Int.reduceLT, Int.reduceLE, Int.reduceEq, Int.reduceToNat, Int.sub_zero, Int.add_zero, Int.zero_add, true_and, and_true, false_and, and_false, or_true, true_or, or_false, false_or, not_true_eq_false, not_false_eq_true, eq_self, decide_true, decide_false, Bool.not_false, Bool.not_true, Bool.and_true, Bool.true_and, Bool.or_true, Bool.true_or, Bool.and_self, Bool.or_false, Bool.false_or, Bool.and_false, Bool.false_and, I3_m1]
        rw [if_pos (by omega), E_X8_grow_129]
        simp (disch := omega) only [I3_of, I6_of, I3_nat, I3_add, I3_sub, I3_mul, I3_neg, I6_add, I6_sub, I6_mul, I6_neg, I3_lt, I3_le, I3_eq, I6_lt, I6_le, I6_eq, I3_cl, I3_64, I6_32, cmp_pos', cmp_neg', cmp_eq', inb_I, cond_true, cond_false, aI_ok, aJ_ok, aA_ok, aV_ok', aI_thr, aJ_thr, aA_thr, aV_thr, ob_some, on_some, on_none, tg_wI, tg_wJ, tg_wR, ln_wI, ln_wJ, ln_wR, tg_cpI, ln_cpI, tg_cpR, ln_cpR, nx_wI, nx_wJ, nx_wR, sl_wI, sl_wJ, sl_wR, nx_cpI, sl_cpI, nx_cpR, sl_cpR, nx_nw, sl_nw, rJ_wI, rR_wI, rI_wJ, rR_wJ, rI_wR, rJ_wR, rJ_cpI, rR_cpI, rJ_cpR, rI_cpR, rI_wI, rJ_wJ, rq_wI, rq_wJ, rq_wR, rq_cpI, ↓reduceIte, Nat.reduceEqDiff, Nat.reduceAdd, Nat.reduceSub, Nat.reduceMul, Int.reduceAdd, Int.reduceSub, Int.reduceMul, Int.reduceNeg, Int.reduceLT, Int.reduceLE, Int.reduceEq, Int.reduceToNat, Int.sub_zero, Int.add_zero, Int.zero_add, true_and, and_true, false_and, and_false, or_true, true_or, or_false, false_or, not_true_eq_false, not_false_eq_true, eq_self, decide_true, decide_false, Bool.not_false, Bool.not_true, Bool.and_true, Bool.true_and, Bool.or_true, Bool.true_or, Bool.and_self, Bool.or_false, Bool.false_or, Bool.and_false, Bool.false_and, en]
        rw [if_neg (by omega)]
        exact r1
      · refine ⟨s, f, ?_, hi0, Or.inl ⟨rfl, rfl⟩⟩
        rw [E_X8_grow_142]
        simp (disch := omega) only [I3_of, I6_of, I3_nat, I3_add, I3_sub, I3_mul, I3_neg, I6_add, I6_sub, I6_mul, I6_neg, I3_lt, I3_le, I3_eq, I6_lt, I6_le, I6_eq, I3_cl, I3_64, I6_32, cmp_pos', cmp_neg', cmp_eq', cond_true, cond_false, aI_ok, aJ_ok, aA_ok, aV_ok', aI_thr, aJ_thr, aA_thr, aV_thr, ob_some, on_some, on_none, tg_wI, tg_wJ, tg_wR, ln_wI, ln_wJ, ln_wR, tg_cpI, ln_cpI, tg_cpR, ln_cpR, nx_wI, nx_wJ, nx_wR, sl_wI, sl_wJ, sl_wR, nx_cpI, sl_cpI, nx_cpR, sl_cpR, nx_nw, sl_nw, rJ_wI, rR_wI, rI_wJ, rR_wJ, rI_wR, rJ_wR, rJ_cpI, rR_cpI, rJ_cpR, rI_cpR, rI_wI, rJ_wJ, rq_wI, rq_wJ, rq_wR, rq_cpI, ↓reduceIte, Nat.reduceEqDiff, Nat.reduceAdd, Nat.reduceSub, Nat.reduceMul, Int.reduceAdd, Int.reduceSub, Int.reduceMul, Int.reduceNeg, Int.reduceLT, Int.reduceLE, Int.reduceEq, Int.reduceToNat, Int.sub_zero, Int.add_zero, Int.zero_add, true_and, and_true, false_and, and_false, or_true, true_or, or_false, false_or, not_true_eq_false, not_false_eq_true, eq_self, decide_true, decide_false, Bool.not_false, Bool.not_true, Bool.and_true, Bool.true_and, Bool.or_true, Bool.true_or, Bool.and_self, Bool.or_false, Bool.false_or, Bool.and_false, Bool.false_and, I3_m1]
        rw [if_pos (by omega), E_X8_grow_129]
        simp (disch := omega) only [I3_of, I6_of, I3_nat, I3_add, I3_sub, I3_mul, I3_neg, I6_add, I6_sub, I6_mul, I6_neg, I3_lt, I3_le, I3_eq, I6_lt, I6_le, I6_eq, I3_cl, I3_64, I6_32, cmp_pos', cmp_neg', cmp_eq', inb_I, cond_true, cond_false, aI_ok, aJ_ok, aA_ok, aV_ok', aI_thr, aJ_thr, aA_thr, aV_thr, ob_some, on_some, on_none, tg_wI, tg_wJ, tg_wR, ln_wI, ln_wJ, ln_wR, tg_cpI, ln_cpI, tg_cpR, ln_cpR, nx_wI, nx_wJ, nx_wR, sl_wI, sl_wJ, sl_wR, nx_cpI, sl_cpI, nx_cpR, sl_cpR, nx_nw, sl_nw, rJ_wI, rR_wI, rI_wJ, rR_wJ, rI_wR, rJ_wR, rJ_cpI, rR_cpI, rJ_cpR, rI_cpR, rI_wI, rJ_wJ, rq_wI, rq_wJ, rq_wR, rq_cpI, ↓reduceIte, Nat.reduceEqDiff, Nat.reduceAdd, Nat.reduceSub, Nat.reduceMul, Int.reduceAdd, Int.reduceSub, Int.reduceMul, Int.reduceNeg, Int.reduceLT, Int.reduceLE, Int.reduceEq, Int.reduceToNat, Int.sub_zero, Int.add_zero, Int.zero_add, true_and, and_true, false_and, and_false, or_true, true_or, or_false, false_or, not_true_eq_false, not_false_eq_true, eq_self, decide_true, decide_false, Bool.not_false, Bool.not_true, Bool.and_true, Bool.true_and, Bool.or_true, Bool.true_or, Bool.and_self, Bool.or_false, Bool.false_or, Bool.and_false, Bool.false_and]
        rw [if_pos (by omega)]
/-- it grows till nothing more comes -/
theorem grow_loop (d : Nat) {s0 : St} {n m c : Nat} {kv : Int32} (hn : rI s0 714 10 = I3 n) (hm : rI s0 714 11 = I3 m) (n0 : 1 ≤ n) (m0 : 1 ≤ m) (n1 : n ≤ 64) (m1 : m ≤ 64) (hk : kv = I3 0 ∨ kv = I3 1) :
    ∀ (k : Nat) (s : St), zer s n m < k → GInv s0 s n m (rI s0 720) kv c →
    ∃ s', DD L (d + 1) 216 15 [.ref 714, .int kv, .int (I3 1)] s = DD L (d + 1) 216 230 [.ref 714, .int (I3 1), .int (I3 0)] s' ∧ GInv s0 s' n m (rI s0 720) kv c ∧ ∀ x, Gin n m x → rI s' 722 x = I3 0 → rI s0 720 x = kv → ¬ Tch s' n m kv x := by
  intro k
  induction k with
  | zero =>
    intro s h
    exact (not_lt0 (cnt_rng (P := fun x => Gin n m x ∧ rI s 722 x = I3 0) (n := 4096)).1 h).elim
  | succ k ih =>
    intro s hz hi
    have hi0 := hi
    obtain ⟨h1, h2, h3, h4, h5, hc, h6⟩ := hi
    have em : rI s 714 11 = I3 m := (h4 714 11 (by omega)).trans hm
    obtain ⟨s1, f1, r1, i1, c1⟩ := fwd (L := L) d hn hm n1 m1 hk _ 0 0 (I3 0) s (Nat.le_refl _) (by omega) (by omega) hi0
    have en1 : rI s1 714 10 = I3 n := (i1.2.2.2.1 714 10 (by omega)).trans hn
    obtain ⟨s2, f2, r2, i2, c2⟩ := bwd (L := L) d hn hm n1 m1 hk _ ((n : Int) - 1) ((m : Int) - 1) f1 s1 (Nat.le_refl _) (by omega) (by omega) (by omega) (by omega) i1
    have go : DD L (d + 1) 216 15 [.ref 714, .int kv, .int (I3 1)] s = DD L (d + 1) 216 15 [.ref 714, .int kv, .int f2] s2 := by
      rw [E_X8_grow_15]
      simp (disch := omega) only [I3_of, I6_of, I3_nat, I3_add, I3_sub, I3_mul, I3_neg, I6_add, I6_sub, I6_mul, I6_neg, I3_lt, I3_le, I3_eq, I6_lt, I6_le, I6_eq, I3_cl, I3_64, I6_32, cmp_pos', cmp_neg', cmp_eq', inb_I, cond_true, cond_false, aI_ok, aJ_ok, aA_ok, aV_ok', aI_thr, aJ_thr, aA_thr, aV_thr, ob_some, on_some, on_none, tg_wI, tg_wJ, tg_wR, ln_wI, ln_wJ, ln_wR, tg_cpI, ln_cpI, tg_cpR, ln_cpR, nx_wI, nx_wJ, nx_wR, sl_wI, sl_wJ, sl_wR, nx_cpI, sl_cpI, nx_cpR, sl_cpR, nx_nw, sl_nw, rJ_wI, rR_wI, rI_wJ, rR_wJ, rI_wR, rJ_wR, rJ_cpI, rR_cpI, rJ_cpR, rI_cpR, rI_wI, rJ_wJ, rq_wI, rq_wJ, rq_wR, rq_cpI, ↓reduceIte, Nat.reduceEqDiff, Nat.reduceAdd, Nat.reduceSub, Nat.reduceMul, Int.reduceAdd, Int.reduceSub, Int.reduceMul, Int.reduceNeg, Int.reduceLT, Int.reduceLE, Int.reduceEq, Int.reduceToNat, Int.sub_zero, Int.add_zero, Int.zero_add, true_and, and_true, false_and, and_false, or_true, true_or, or_false, false_or, not_true_eq_false, not_false_eq_true, eq_self, decide_true, decide_false, Bool.not_false, Bool.not_true, Bool.and_true, Bool.true_and, Bool.or_true, Bool.true_or, Bool.and_self, Bool.or_false, Bool.false_or, Bool.and_false, Bool.false_and, i3_10]
      rw [E_X8_grow_26]
      simp (disch := omega) only [I3_of, I6_of, I3_nat, I3_add, I3_sub, I3_mul, I3_neg, I6_add, I6_sub, I6_mul, I6_neg, I3_lt, I3_le, I3_eq, I6_lt, I6_le, I6_eq, I3_cl, I3_64, I6_32, cmp_pos', cmp_neg', cmp_eq', inb_I, cond_true, cond_false, aI_ok, aJ_ok, aA_ok, aV_ok', aI_thr, aJ_thr, aA_thr, aV_thr, ob_some, on_some, on_none, tg_wI, tg_wJ, tg_wR, ln_wI, ln_wJ, ln_wR, tg_cpI, ln_cpI, tg_cpR, ln_cpR, nx_wI, nx_wJ, nx_wR, sl_wI, sl_wJ, sl_wR, nx_cpI, sl_cpI, nx_cpR, sl_cpR, nx_nw, sl_nw, rJ_wI, rR_wI, rI_wJ, rR_wJ, rI_wR, rJ_wR, rJ_cpI, rR_cpI, rJ_cpR, rI_cpR, rI_wI, rJ_wJ, rq_wI, rq_wJ, rq_wR, rq_cpI, ↓reduceIte, Nat.reduceEqDiff, Nat.reduceAdd, Nat.reduceSub, Nat.reduceMul, Int.reduceAdd, Int.reduceSub, Int.reduceMul, Int.reduceNeg, Int.reduceLT, Int.reduceLE, Int.reduceEq, Int.reduceToNat, Int.sub_zero, Int.add_zero, Int.zero_add, true_and, and_true, false_and, and_false, or_true, true_or, or_false, false_or, not_true_eq_false, not_false_eq_true, eq_self, decide_true, decide_false, Bool.not_false, Bool.not_true, Bool.and_true, Bool.true_and, Bool.or_true, Bool.true_or, Bool.and_self, Bool.or_false, Bool.false_or, Bool.and_false, Bool.false_and, em]
      rw [if_pos (by omega)]
      refine r1.trans ?_
      rw [E_X8_grow_129]
      simp (disch := omega) only [I3_of, I6_of, I3_nat, I3_add, I3_sub, I3_mul, I3_neg, I6_add, I6_sub, I6_mul, I6_neg, I3_lt, I3_le, I3_eq, I6_lt, I6_le, I6_eq, I3_cl, I3_64, I6_32, cmp_pos', cmp_neg', cmp_eq', inb_I, cond_true, cond_false, aI_ok, aJ_ok, aA_ok, aV_ok', aI_thr, aJ_thr, aA_thr, aV_thr, ob_some, on_some, on_none, tg_wI, tg_wJ, tg_wR, ln_wI, ln_wJ, ln_wR, tg_cpI, ln_cpI, tg_cpR, ln_cpR, nx_wI, nx_wJ, nx_wR, sl_wI, sl_wJ, sl_wR, nx_cpI, sl_cpI, nx_cpR, sl_cpR, nx_nw, sl_nw, rJ_wI, rR_wI, rI_wJ, rR_wJ, rI_wR, rJ_wR, rJ_cpI, rR_cpI, rJ_cpR, rI_cpR, rI_wI, rJ_wJ, rq_wI, rq_wJ, rq_wR, rq_cpI, ↓reduceIte, Nat.reduceEqDiff, Nat.reduceAdd, Nat.reduceSub, Nat.reduceMul, Int.reduceAdd, Int.reduceSub, Int.reduceMul, Int.reduceNeg, Int.reduceLT, Int.reduceLE, Int.reduceEq, Int.reduceToNat, Int.sub_zero, Int.add_zero, Int.zero_add, true_and, and_true, false_and, and_false, or_true, true_or, or_false, false_or, not_true_eq_false, not_false_eq_true, eq_self, decide_true, decide_false, Bool.not_false, Bool.not_true, Bool.and_true, Bool.true_and, Bool.or_true, Bool.true_or, Bool.and_self, Bool.or_false, Bool.false_or, Bool.and_false, Bool.false_and, en1]
      rw [if_neg (by omega)]
      exact r2
    rw [go]
    rcases c2 with ⟨rfl, rfl⟩ | ⟨rfl, q2⟩
    · rcases c1 with ⟨rfl, rfl, q⟩ | ⟨rfl, q⟩
      · refine ⟨s2, ?_, i2, fun x hx => q x hx (by omega)⟩
        rw [E_X8_grow_15]
        simp (disch := omega) only [I3_of, I6_of, I3_nat, I3_add, I3_sub, I3_mul, I3_neg, I6_add, I6_sub, I6_mul, I6_neg, I3_lt, I3_le, I3_eq, I6_lt, I6_le, I6_eq, I3_cl, I3_64, I6_32, cmp_pos', cmp_neg', cmp_eq', inb_I, cond_true, cond_false, aI_ok, aJ_ok, aA_ok, aV_ok', aI_thr, aJ_thr, aA_thr, aV_thr, ob_some, on_some, on_none, tg_wI, tg_wJ, tg_wR, ln_wI, ln_wJ, ln_wR, tg_cpI, ln_cpI, tg_cpR, ln_cpR, nx_wI, nx_wJ, nx_wR, sl_wI, sl_wJ, sl_wR, nx_cpI, sl_cpI, nx_cpR, sl_cpR, nx_nw, sl_nw, rJ_wI, rR_wI, rI_wJ, rR_wJ, rI_wR, rJ_wR, rJ_cpI, rR_cpI, rJ_cpR, rI_cpR, rI_wI, rJ_wJ, rq_wI, rq_wJ, rq_wR, rq_cpI, ↓reduceIte, Nat.reduceEqDiff, Nat.reduceAdd, Nat.reduceSub, Nat.reduceMul, Int.reduceAdd, Int.reduceSub, Int.reduceMul, Int.reduceNeg, Int.reduceLT, Int.reduceLE, Int.reduceEq, Int.reduceToNat, Int.sub_zero, Int.add_zero, Int.zero_add, true_and, and_true, false_and, and_false, or_true, true_or, or_false, false_or, not_true_eq_false, not_false_eq_true, eq_self, decide_true, decide_false, Bool.not_false, Bool.not_true, Bool.and_true, Bool.true_and, Bool.or_true, Bool.true_or, Bool.and_self, Bool.or_false, Bool.false_or, Bool.and_false, Bool.false_and]
      · exact ih s2 (ltk q hz) i2
    · rcases c1 with ⟨rfl, rfl, q⟩ | ⟨rfl, q⟩
      · exact ih s2 (ltk q2 hz) i2
      · exact ih s2 (ltk (Int.lt_trans q2 q) hz) i2
/-- the set's cells are marked as done; whether none is at the edge -/
theorem fin_loop (d : Nat) {n m : Nat} (n1 : n ≤ 64) (m1 : m ≤ 64) :
    ∀ (k a b : Nat) (fr : Prop) (s : St), (m - 1 - b) * 65 + (n - a) ≤ k → a ≤ n → b < m → rI s 714 10 = I3 n → rI s 714 11 = I3 m →
    ∃ τ, DD L d 216 242 [.ref 714, .int (bi fr), .int (I3 b), .int (I3 a)] s = ok (some (.int (bi (fr ∧ ∀ x, Gin n m x → 64 * b + a ≤ x → rI s 722 x = I3 1 → inner n m x)))) τ ∧ Fr [7] s τ ∧ nx τ = nx s ∧ sl τ = sl s ∧ (∀ a k, a ≠ 722 → rI τ a k = rI s a k) ∧
      (∀ x, Gin n m x → 64 * b + a ≤ x → rI s 722 x = I3 1 → rI τ 722 x = I3 2) ∧ (∀ x, ¬ (Gin n m x ∧ 64 * b + a ≤ x ∧ rI s 722 x = I3 1) → rI τ 722 x = rI s 722 x) := by
  intro k
  induction k with
  | zero =>
    intro a b fr s hk0 ha hb en em
    have no : ∀ x, Gin n m x → 64 * b + a ≤ x → False := fun x hx hxb => by unfold Gin at hx; omega
    refine ⟨s, ?_, fr_refl, rfl, rfl, fun _ _ _ => rfl, fun x hx hxb => (no x hx hxb).elim, fun _ _ => rfl⟩
    rw [E_X8_grow_242]
    simp (disch := omega) only [I3_of, I6_of, I3_nat, I3_add, I3_sub, I3_mul, I3_neg, I6_add, I6_sub, I6_mul, I6_neg, I3_lt, I3_le, I3_eq, I6_lt, I6_le, I6_eq, I3_cl, I3_64, I6_32, cmp_pos', cmp_neg', cmp_eq', inb_I, cond_true, cond_false, aI_ok, aJ_ok, aA_ok, aV_ok', aI_thr, aJ_thr, aA_thr, aV_thr, ob_some, on_some, on_none, tg_wI, tg_wJ, tg_wR, ln_wI, ln_wJ, ln_wR, tg_cpI, ln_cpI, tg_cpR, ln_cpR, nx_wI, nx_wJ, nx_wR, sl_wI, sl_wJ, sl_wR, nx_cpI, sl_cpI, nx_cpR, sl_cpR, nx_nw, sl_nw, rJ_wI, rR_wI, rI_wJ, rR_wJ, rI_wR, rJ_wR, rJ_cpI, rR_cpI, rJ_cpR, rI_cpR, rI_wI, rJ_wJ, rq_wI, rq_wJ, rq_wR, rq_cpI, ↓reduceIte, Nat.reduceEqDiff, Nat.reduceAdd, Nat.reduceSub, Nat.reduceMul, Int.reduceAdd, Int.reduceSub, Int.reduceMul, Int.reduceNeg, Int.reduceLT, Int.reduceLE, Int.reduceEq, Int.reduceToNat, Int.sub_zero, Int.add_zero, Int.zero_add, true_and, and_true, false_and, and_false, or_true, true_or, or_false, false_or, not_true_eq_false, not_false_eq_true, eq_self, decide_true, decide_false, Bool.not_false, Bool.not_true, Bool.and_true, Bool.true_and, Bool.or_true, Bool.true_or, Bool.and_self, Bool.or_false, Bool.false_or, Bool.and_false, Bool.false_and, en]
    rw [if_neg (by omega), E_X8_grow_230]
    simp (disch := omega) only [I3_of, I6_of, I3_nat, I3_add, I3_sub, I3_mul, I3_neg, I6_add, I6_sub, I6_mul, I6_neg, I3_lt, I3_le, I3_eq, I6_lt, I6_le, I6_eq, I3_cl, I3_64, I6_32, cmp_pos', cmp_neg', cmp_eq', inb_I, cond_true, cond_false, aI_ok, aJ_ok, aA_ok, aV_ok', aI_thr, aJ_thr, aA_thr, aV_thr, ob_some, on_some, on_none, tg_wI, tg_wJ, tg_wR, ln_wI, ln_wJ, ln_wR, tg_cpI, ln_cpI, tg_cpR, ln_cpR, nx_wI, nx_wJ, nx_wR, sl_wI, sl_wJ, sl_wR, nx_cpI, sl_cpI, nx_cpR, sl_cpR, nx_nw, sl_nw, rJ_wI, rR_wI, rI_wJ, rR_wJ, rI_wR, rJ_wR, rJ_cpI, rR_cpI, rJ_cpR, rI_cpR, rI_wI, rJ_wJ, rq_wI, rq_wJ, rq_wR, rq_cpI, ↓reduceIte, Nat.reduceEqDiff, Nat.reduceAdd, Nat.reduceSub, Nat.reduceMul, Int.reduceAdd, Int.reduceSub, Int.reduceMul, Int.reduceNeg, Int.reduceLT, Int.reduceLE, Int.reduceEq, Int.reduceToNat, Int.sub_zero, Int.add_zero, Int.zero_add, true_and, and_true, false_and, and_false, or_true, true_or, or_false, false_or, not_true_eq_false, not_false_eq_true, eq_self, decide_true, decide_false, Bool.not_false, Bool.not_true, Bool.and_true, Bool.true_and, Bool.or_true, Bool.true_or, Bool.and_self, Bool.or_false, Bool.false_or, Bool.and_false, Bool.false_and, em, bi_01]
    rw [if_neg (by omega), bi_congr (p := fr)]
    exact ⟨fun h => ⟨h, fun x hx hxb => (no x hx hxb).elim⟩, fun h => h.1⟩
  | succ k ih =>
    intro a b fr s hk0 ha hb en em
    by_cases ca : a < n
    · have gx : Gin n m (64 * b + a) := ⟨by omega, by omega⟩
      have et : (64 * (b : Int) + a).toNat = 64 * b + a := by omega
      by_cases c1 : rI s 722 (64 * b + a) = I3 1
      · obtain ⟨τ, r1, r2, r3, r4, r5, r6, r7⟩ := ih (a + 1) b (fr ∧ inner n m (64 * b + a)) (wI s 722 (64 * b + a) (I3 2)) (by omega) (by omega) hb (by simp (disch := omega) only [I3_of, I6_of, I3_nat, I3_add, I3_sub, I3_mul, I3_neg, I6_add, I6_sub, I6_mul, I6_neg, I3_lt, I3_le, I3_eq, I6_lt, I6_le, I6_eq, I3_cl, I3_64, I6_32, cmp_pos', cmp_neg', cmp_eq', inb_I, cond_true, cond_false, aI_ok, aJ_ok, aA_ok, aV_ok', aI_thr, aJ_thr, aA_thr, aV_thr, ob_some, on_some, on_none, tg_wI, tg_wJ, tg_wR, ln_wI, ln_wJ, ln_wR, tg_cpI, ln_cpI, tg_cpR, ln_cpR, nx_wI, nx_wJ, nx_wR, sl_wI, sl_wJ, sl_wR, nx_cpI, sl_cpI, nx_cpR, sl_cpR, nx_nw, sl_nw, rJ_wI, rR_wI, rI_wJ, rR_wJ, rI_wR, rJ_wR, rJ_cpI, rR_cpI, rJ_cpR, rI_cpR, rI_wI, rJ_wJ, rq_wI, rq_wJ, rq_wR, rq_cpI, ↓reduceIte, Nat.reduceEqDiff, Nat.reduceAdd, Nat.reduceSub, Nat.reduceMul, Int.reduceAdd, Int.reduceSub, Int.reduceMul, Int.reduceNeg, Int.reduceLT, Int.reduceLE, Int.reduceEq, Int.reduceToNat, Int.sub_zero, Int.add_zero, Int.zero_add, true_and, and_true, false_and, and_false, or_true, true_or, or_false, false_or, not_true_eq_false, not_false_eq_true, eq_self, decide_true, decide_false, Bool.not_false, Bool.not_true, Bool.and_true, Bool.true_and, Bool.or_true, Bool.true_or, Bool.and_self, Bool.or_false, Bool.false_or, Bool.and_false, Bool.false_and, en]) (by simp (disch := omega) only [I3_of, I6_of, I3_nat, I3_add, I3_sub, I3_mul, I3_neg, I6_add, I6_sub, I6_mul, I6_neg, I3_lt, I3_le, I3_eq, I6_lt, I6_le, I6_eq, I3_cl, I3_64, I6_32, cmp_pos', cmp_neg', cmp_eq', inb_I, cond_true, cond_false, aI_ok, aJ_ok, aA_ok, aV_ok', aI_thr, aJ_thr, aA_thr, aV_thr, ob_some, on_some, on_none, tg_wI, tg_wJ, tg_wR, ln_wI, ln_wJ, ln_wR, tg_cpI, ln_cpI, tg_cpR, ln_cpR, nx_wI, nx_wJ, nx_wR, sl_wI, sl_wJ, sl_wR, nx_cpI, sl_cpI, nx_cpR, sl_cpR, nx_nw, sl_nw, rJ_wI, rR_wI, rI_wJ, rR_wJ, rI_wR, rJ_wR, rJ_cpI, rR_cpI, rJ_cpR, rI_cpR, rI_wI, rJ_wJ, rq_wI, rq_wJ, rq_wR, rq_cpI, ↓reduceIte, Nat.reduceEqDiff, Nat.reduceAdd, Nat.reduceSub, Nat.reduceMul, Int.reduceAdd, Int.reduceSub, Int.reduceMul, Int.reduceNeg, Int.reduceLT, Int.reduceLE, Int.reduceEq, Int.reduceToNat, Int.sub_zero, Int.add_zero, Int.zero_add, true_and, and_true, false_and, and_false, or_true, true_or, or_false, false_or, not_true_eq_false, not_false_eq_true, eq_self, decide_true, decide_false, Bool.not_false, Bool.not_true, Bool.and_true, Bool.true_and, Bool.or_true, Bool.true_or, Bool.and_self, Bool.or_false, Bool.false_or, Bool.and_false, Bool.false_and, em])
        have go : DD L d 216 242 [.ref 714, .int (bi fr), .int (I3 b), .int (I3 a)] s = DD L d 216 242 [.ref 714, .int (bi (fr ∧ inner n m (64 * b + a))), .int (I3 b), .int (I3 ((a + 1 : Nat) : Int))] (wI s 722 (64 * b + a) (I3 2)) := by
          have fin : ∀ v, DD L d 216 313 [.ref 714, .int (I3 b), .int (I3 a), .int v] s = DD L d 216 242 [.ref 714, .int v, .int (I3 b), .int (I3 ((a + 1 : Nat) : Int))] (wI s 722 (64 * b + a) (I3 2)) := by
            intro v
            rw [E_X8_grow_313]
            simp (disch := omega) only [I3_of, I6_of, I3_nat, I3_add, I3_sub, I3_mul, I3_neg, I6_add, I6_sub, I6_mul, I6_neg, I3_lt, I3_le, I3_eq, I6_lt, I6_le, I6_eq, I3_cl, I3_64, I6_32, cmp_pos', cmp_neg', cmp_eq', inb_I, cond_true, cond_false, aI_ok, aJ_ok, aA_ok, aV_ok', aI_thr, aJ_thr, aA_thr, aV_thr, ob_some, on_some, on_none, tg_wI, tg_wJ, tg_wR, ln_wI, ln_wJ, ln_wR, tg_cpI, ln_cpI, tg_cpR, ln_cpR, nx_wI, nx_wJ, nx_wR, sl_wI, sl_wJ, sl_wR, nx_cpI, sl_cpI, nx_cpR, sl_cpR, nx_nw, sl_nw, rJ_wI, rR_wI, rI_wJ, rR_wJ, rI_wR, rJ_wR, rJ_cpI, rR_cpI, rJ_cpR, rI_cpR, rI_wI, rJ_wJ, rq_wI, rq_wJ, rq_wR, rq_cpI, ↓reduceIte, Nat.reduceEqDiff, Nat.reduceAdd, Nat.reduceSub, Nat.reduceMul, Int.reduceAdd, Int.reduceSub, Int.reduceMul, Int.reduceNeg, Int.reduceLT, Int.reduceLE, Int.reduceEq, Int.reduceToNat, Int.sub_zero, Int.add_zero, Int.zero_add, true_and, and_true, false_and, and_false, or_true, true_or, or_false, false_or, not_true_eq_false, not_false_eq_true, eq_self, decide_true, decide_false, Bool.not_false, Bool.not_true, Bool.and_true, Bool.true_and, Bool.or_true, Bool.true_or, Bool.and_self, Bool.or_false, Bool.false_or, Bool.and_false, Bool.false_and, et]
            rw [show (a : Int) + 1 = ((a + 1 : Nat) : Int) by omega]
          rw [E_X8_grow_242]
          simp (disch := omega) only [I3_of, I6_of, I3_nat, I3_add, I3_sub, I3_mul, I3_neg, I6_add, I6_sub, I6_mul, I6_neg, I3_lt, I3_le, I3_eq, I6_lt, I6_le, I6_eq, I3_cl, I3_64, I6_32, cmp_pos', cmp_neg', cmp_eq', inb_I, cond_true, cond_false, aI_ok, aJ_ok, aA_ok, aV_ok', aI_thr, aJ_thr, aA_thr, aV_thr, ob_some, on_some, on_none, tg_wI, tg_wJ, tg_wR, ln_wI, ln_wJ, ln_wR, tg_cpI, ln_cpI, tg_cpR, ln_cpR, nx_wI, nx_wJ, nx_wR, sl_wI, sl_wJ, sl_wR, nx_cpI, sl_cpI, nx_cpR, sl_cpR, nx_nw, sl_nw, rJ_wI, rR_wI, rI_wJ, rR_wJ, rI_wR, rJ_wR, rJ_cpI, rR_cpI, rJ_cpR, rI_cpR, rI_wI, rJ_wJ, rq_wI, rq_wJ, rq_wR, rq_cpI, ↓reduceIte, Nat.reduceEqDiff, Nat.reduceAdd, Nat.reduceSub, Nat.reduceMul, Int.reduceAdd, Int.reduceSub, Int.reduceMul, Int.reduceNeg, Int.reduceLT, Int.reduceLE, Int.reduceEq, Int.reduceToNat, Int.sub_zero, Int.add_zero, Int.zero_add, true_and, and_true, false_and, and_false, or_true, true_or, or_false, false_or, not_true_eq_false, not_false_eq_true, eq_self, decide_true, decide_false, Bool.not_false, Bool.not_true, Bool.and_true, Bool.true_and, Bool.or_true, Bool.true_or, Bool.and_self, Bool.or_false, Bool.false_or, Bool.and_false, Bool.false_and, en, em, et, c1, E_X8_grow_312, fin]
          rw [if_pos (by omega)]
          by_cases f : fr
          · rw [bi_pos f]
            simp (disch := omega) only [I3_of, I6_of, I3_nat, I3_add, I3_sub, I3_mul, I3_neg, I6_add, I6_sub, I6_mul, I6_neg, I3_lt, I3_le, I3_eq, I6_lt, I6_le, I6_eq, I3_cl, I3_64, I6_32, cmp_pos', cmp_neg', cmp_eq', inb_I, cond_true, cond_false, aI_ok, aJ_ok, aA_ok, aV_ok', aI_thr, aJ_thr, aA_thr, aV_thr, ob_some, on_some, on_none, tg_wI, tg_wJ, tg_wR, ln_wI, ln_wJ, ln_wR, tg_cpI, ln_cpI, tg_cpR, ln_cpR, nx_wI, nx_wJ, nx_wR, sl_wI, sl_wJ, sl_wR, nx_cpI, sl_cpI, nx_cpR, sl_cpR, nx_nw, sl_nw, rJ_wI, rR_wI, rI_wJ, rR_wJ, rI_wR, rJ_wR, rJ_cpI, rR_cpI, rJ_cpR, rI_cpR, rI_wI, rJ_wJ, rq_wI, rq_wJ, rq_wR, rq_cpI, ↓reduceIte, Nat.reduceEqDiff, Nat.reduceAdd, Nat.reduceSub, Nat.reduceMul, Int.reduceAdd, Int.reduceSub, Int.reduceMul, Int.reduceNeg, Int.reduceLT, Int.reduceLE, Int.reduceEq, Int.reduceToNat, Int.sub_zero, Int.add_zero, Int.zero_add, true_and, and_true, false_and, and_false, or_true, true_or, or_false, false_or, not_true_eq_false, not_false_eq_true, eq_self, decide_true, decide_false, Bool.not_false, Bool.not_true, Bool.and_true, Bool.true_and, Bool.or_true, Bool.true_or, Bool.and_self, Bool.or_false, Bool.false_or, Bool.and_false, Bool.false_and, i3_10]
            by_cases g : inner n m (64 * b + a)
            · have g' := g
              unfold inner at g'
              rw [bi_pos ⟨f, g⟩, if_pos (by omega), if_pos (by omega), if_pos (by omega), if_pos (by omega)]
            · rw [bi_neg (fun q => g q.2)]
              have g' := g
              unfold inner at g'
              repeat' split
              all_goals first | rfl | (exfalso; omega)
          · rw [bi_neg f, bi_neg (fun q => f q.1)]
            simp (disch := omega) only [I3_of, I6_of, I3_nat, I3_add, I3_sub, I3_mul, I3_neg, I6_add, I6_sub, I6_mul, I6_neg, I3_lt, I3_le, I3_eq, I6_lt, I6_le, I6_eq, I3_cl, I3_64, I6_32, cmp_pos', cmp_neg', cmp_eq', inb_I, cond_true, cond_false, aI_ok, aJ_ok, aA_ok, aV_ok', aI_thr, aJ_thr, aA_thr, aV_thr, ob_some, on_some, on_none, tg_wI, tg_wJ, tg_wR, ln_wI, ln_wJ, ln_wR, tg_cpI, ln_cpI, tg_cpR, ln_cpR, nx_wI, nx_wJ, nx_wR, sl_wI, sl_wJ, sl_wR, nx_cpI, sl_cpI, nx_cpR, sl_cpR, nx_nw, sl_nw, rJ_wI, rR_wI, rI_wJ, rR_wJ, rI_wR, rJ_wR, rJ_cpI, rR_cpI, rJ_cpR, rI_cpR, rI_wI, rJ_wJ, rq_wI, rq_wJ, rq_wR, rq_cpI, ↓reduceIte, Nat.reduceEqDiff, Nat.reduceAdd, Nat.reduceSub, Nat.reduceMul, Int.reduceAdd, Int.reduceSub, Int.reduceMul, Int.reduceNeg, Int.reduceLT, Int.reduceLE, Int.reduceEq, Int.reduceToNat, Int.sub_zero, Int.add_zero, Int.zero_add, true_and, and_true, false_and, and_false, or_true, true_or, or_false, false_or, not_true_eq_false, not_false_eq_true, eq_self, decide_true, decide_false, Bool.not_false, Bool.not_true, Bool.and_true, Bool.true_and, Bool.or_true, Bool.true_or, Bool.and_self, Bool.or_false, Bool.false_or, Bool.and_false, Bool.false_and]
        refine ⟨τ, ?_, fr_tr (fr_wI rfl) r2, r3, r4, fun a k h => (r5 a k h).trans (rI_wIn h), fun x hx hxb x1 => ?_, fun x hx => ?_⟩
        · rw [go, r1]
          refine congrArg (fun v => ok (some (Value.int v)) τ) (bi_congr ⟨fun h => ⟨h.1.1, fun x hx hxb x1 => ?_⟩, fun h => ⟨⟨h.1, h.2 _ gx (Nat.le_refl _) c1⟩, fun x hx hxb x1 => ?_⟩⟩)
          · by_cases e : x = 64 * b + a
            · rw [e]; exact h.1.2
            · exact h.2 x hx (by omega) (by rw [rI_wI', if_neg e]; exact x1)
          · rw [rI_wI', if_neg (by omega)] at x1
            exact h.2 x hx (by omega) x1
        · by_cases e : x = 64 * b + a
          · rw [r7 x (fun q => by omega), rI_wI', if_pos e]
          · exact r6 x hx (by omega) (by rw [rI_wI', if_neg e]; exact x1)
        · by_cases e : x = 64 * b + a
          · exact absurd ⟨e ▸ gx, by omega, e ▸ c1⟩ hx
          · rw [r7 x (fun q => hx ⟨q.1, by omega, by have := q.2.2; rw [rI_wI', if_neg e] at this; exact this⟩), rI_wI', if_neg e]
      · obtain ⟨τ, r1, r2, r3, r4, r5, r6, r7⟩ := ih (a + 1) b fr s (by omega) (by omega) hb en em
        refine ⟨τ, ?_, r2, r3, r4, r5, fun x hx hxb x1 => ?_, fun x hx => ?_⟩
        · rw [E_X8_grow_242]
          simp (disch := omega) only [I3_of, I6_of, I3_nat, I3_add, I3_sub, I3_mul, I3_neg, I6_add, I6_sub, I6_mul, I6_neg, I3_lt, I3_le, I3_eq, I6_lt, I6_le, I6_eq, I3_cl, I3_64, I6_32, cmp_pos', cmp_neg', cmp_eq', inb_I, cond_true, cond_false, aI_ok, aJ_ok, aA_ok, aV_ok', aI_thr, aJ_thr, aA_thr, aV_thr, ob_some, on_some, on_none, tg_wI, tg_wJ, tg_wR, ln_wI, ln_wJ, ln_wR, tg_cpI, ln_cpI, tg_cpR, ln_cpR, nx_wI, nx_wJ, nx_wR, sl_wI, sl_wJ, sl_wR, nx_cpI, sl_cpI, nx_cpR, sl_cpR, nx_nw, sl_nw, rJ_wI, rR_wI, rI_wJ, rR_wJ, rI_wR, rJ_wR, rJ_cpI, rR_cpI, rJ_cpR, rI_cpR, rI_wI, rJ_wJ, rq_wI, rq_wJ, rq_wR, rq_cpI, ↓reduceIte, Nat.reduceEqDiff, Nat.reduceAdd, Nat.reduceSub, Nat.reduceMul, Int.reduceAdd, Int.reduceSub, Int.reduceMul, Int.reduceNeg, Int.reduceLT, Int.reduceLE, Int.reduceEq, Int.reduceToNat, Int.sub_zero, Int.add_zero, Int.zero_add, true_and, and_true, false_and, and_false, or_true, true_or, or_false, false_or, not_true_eq_false, not_false_eq_true, eq_self, decide_true, decide_false, Bool.not_false, Bool.not_true, Bool.and_true, Bool.true_and, Bool.or_true, Bool.true_or, Bool.and_self, Bool.or_false, Bool.false_or, Bool.and_false, Bool.false_and, en, et, c1]
          rw [if_pos (by omega), show (a : Int) + 1 = ((a + 1 : Nat) : Int) by omega, r1]
          refine congrArg (fun v => ok (some (Value.int v)) τ) (bi_congr ⟨fun h => ⟨h.1, fun x hx hxb x1 => ?_⟩, fun h => ⟨h.1, fun x hx hxb x1 => h.2 x hx (by omega) x1⟩⟩)
          by_cases e : x = 64 * b + a
          · rw [e] at x1; exact absurd x1 c1
          · exact h.2 x hx (by omega) x1
        · by_cases e : x = 64 * b + a
          · rw [e] at x1; exact absurd x1 c1
          · exact r6 x hx (by omega) x1
        · exact r7 x (fun q => hx ⟨q.1, by omega, q.2.2⟩)
    · by_cases cb : b + 1 < m
      · obtain ⟨τ, r1, r2, r3, r4, r5, r6, r7⟩ := ih 0 (b + 1) fr s (by omega) (by omega) cb en em
        have le : ∀ x, Gin n m x → 64 * b + a ≤ x → 64 * (b + 1) + 0 ≤ x := fun x hx hxb => by unfold Gin at hx; omega
        refine ⟨τ, ?_, r2, r3, r4, r5, fun x hx hxb x1 => r6 x hx (le x hx hxb) x1, fun x hx => r7 x (fun q => hx ⟨q.1, by omega, q.2.2⟩)⟩
        rw [E_X8_grow_242]
        simp (disch := omega) only [I3_of, I6_of, I3_nat, I3_add, I3_sub, I3_mul, I3_neg, I6_add, I6_sub, I6_mul, I6_neg, I3_lt, I3_le, I3_eq, I6_lt, I6_le, I6_eq, I3_cl, I3_64, I6_32, cmp_pos', cmp_neg', cmp_eq', inb_I, cond_true, cond_false, aI_ok, aJ_ok, aA_ok, aV_ok', aI_thr, aJ_thr, aA_thr, aV_thr, ob_some, on_some, on_none, tg_wI, tg_wJ, tg_wR, ln_wI, ln_wJ, ln_wR, tg_cpI, ln_cpI, tg_cpR, ln_cpR, nx_wI, nx_wJ, nx_wR, sl_wI, sl_wJ, sl_wR, nx_cpI, sl_cpI, nx_cpR, sl_cpR, nx_nw, sl_nw, rJ_wI, rR_wI, rI_wJ, rR_wJ, rI_wR, rJ_wR, rJ_cpI, rR_cpI, rJ_cpR, rI_cpR, rI_wI, rJ_wJ, rq_wI, rq_wJ, rq_wR, rq_cpI, ↓reduceIte, Nat.reduceEqDiff, Nat.reduceAdd, Nat.reduceSub, Nat.reduceMul, Int.reduceAdd, Int.reduceSub, Int.reduceMul, Int.reduceNeg, Int.reduceLT, Int.reduceLE, Int.reduceEq, Int.reduceToNat, Int.sub_zero, Int.add_zero, Int.zero_add, true_and, and_true, false_and, and_false, or_true, true_or, or_false, false_or, not_true_eq_false, not_false_eq_true, eq_self, decide_true, decide_false, Bool.not_false, Bool.not_true, Bool.and_true, Bool.true_and, Bool.or_true, Bool.true_or, Bool.and_self, Bool.or_false, Bool.false_or, Bool.and_false, Bool.false_and, en]
        rw [if_neg (by omega), E_X8_grow_230]
        simp (disch := omega) only [I3_of, I6_of, I3_nat, I3_add, I3_sub, I3_mul, I3_neg, I6_add, I6_sub, I6_mul, I6_neg, I3_lt, I3_le, I3_eq, I6_lt, I6_le, I6_eq, I3_cl, I3_64, I6_32, cmp_pos', cmp_neg', cmp_eq', inb_I, cond_true, cond_false, aI_ok, aJ_ok, aA_ok, aV_ok', aI_thr, aJ_thr, aA_thr, aV_thr, ob_some, on_some, on_none, tg_wI, tg_wJ, tg_wR, ln_wI, ln_wJ, ln_wR, tg_cpI, ln_cpI, tg_cpR, ln_cpR, nx_wI, nx_wJ, nx_wR, sl_wI, sl_wJ, sl_wR, nx_cpI, sl_cpI, nx_cpR, sl_cpR, nx_nw, sl_nw, rJ_wI, rR_wI, rI_wJ, rR_wJ, rI_wR, rJ_wR, rJ_cpI, rR_cpI, rJ_cpR, rI_cpR, rI_wI, rJ_wJ, rq_wI, rq_wJ, rq_wR, rq_cpI, ↓reduceIte, Nat.reduceEqDiff, Nat.reduceAdd, Nat.reduceSub, Nat.reduceMul, Int.reduceAdd, Int.reduceSub, Int.reduceMul, Int.reduceNeg, Int.reduceLT, Int.reduceLE, Int.reduceEq, Int.reduceToNat, Int.sub_zero, Int.add_zero, Int.zero_add, true_and, and_true, false_and, and_false, or_true, true_or, or_false, false_or, not_true_eq_false, not_false_eq_true, eq_self, decide_true, decide_false, Bool.not_false, Bool.not_true, Bool.and_true, Bool.true_and, Bool.or_true, Bool.true_or, Bool.and_self, Bool.or_false, Bool.false_or, Bool.and_false, Bool.false_and, em]
        rw [if_pos (by omega), show (b : Int) + 1 = ((b + 1 : Nat) : Int) by omega]
        refine Eq.trans r1 ?_
        exact congrArg (fun v => ok (some (Value.int v)) τ) (bi_congr ⟨fun h => ⟨h.1, fun x hx hxb x1 => h.2 x hx (le x hx hxb) x1⟩, fun h => ⟨h.1, fun x hx hxb x1 => h.2 x hx (by omega) x1⟩⟩)
      · have no : ∀ x, Gin n m x → 64 * b + a ≤ x → False := fun x hx hxb => by unfold Gin at hx; omega
        refine ⟨s, ?_, fr_refl, rfl, rfl, fun _ _ _ => rfl, fun x hx hxb => (no x hx hxb).elim, fun _ _ => rfl⟩
        rw [E_X8_grow_242]
        simp (disch := omega) only [I3_of, I6_of, I3_nat, I3_add, I3_sub, I3_mul, I3_neg, I6_add, I6_sub, I6_mul, I6_neg, I3_lt, I3_le, I3_eq, I6_lt, I6_le, I6_eq, I3_cl, I3_64, I6_32, cmp_pos', cmp_neg', cmp_eq', inb_I, cond_true, cond_false, aI_ok, aJ_ok, aA_ok, aV_ok', aI_thr, aJ_thr, aA_thr, aV_thr, ob_some, on_some, on_none, tg_wI, tg_wJ, tg_wR, ln_wI, ln_wJ, ln_wR, tg_cpI, ln_cpI, tg_cpR, ln_cpR, nx_wI, nx_wJ, nx_wR, sl_wI, sl_wJ, sl_wR, nx_cpI, sl_cpI, nx_cpR, sl_cpR, nx_nw, sl_nw, rJ_wI, rR_wI, rI_wJ, rR_wJ, rI_wR, rJ_wR, rJ_cpI, rR_cpI, rJ_cpR, rI_cpR, rI_wI, rJ_wJ, rq_wI, rq_wJ, rq_wR, rq_cpI, ↓reduceIte, Nat.reduceEqDiff, Nat.reduceAdd, Nat.reduceSub, Nat.reduceMul, Int.reduceAdd, Int.reduceSub, Int.reduceMul, Int.reduceNeg, Int.reduceLT, Int.reduceLE, Int.reduceEq, Int.reduceToNat, Int.sub_zero, Int.add_zero, Int.zero_add, true_and, and_true, false_and, and_false, or_true, true_or, or_false, false_or, not_true_eq_false, not_false_eq_true, eq_self, decide_true, decide_false, Bool.not_false, Bool.not_true, Bool.and_true, Bool.true_and, Bool.or_true, Bool.true_or, Bool.and_self, Bool.or_false, Bool.false_or, Bool.and_false, Bool.false_and, en]
        rw [if_neg (by omega), E_X8_grow_230]
        simp (disch := omega) only [I3_of, I6_of, I3_nat, I3_add, I3_sub, I3_mul, I3_neg, I6_add, I6_sub, I6_mul, I6_neg, I3_lt, I3_le, I3_eq, I6_lt, I6_le, I6_eq, I3_cl, I3_64, I6_32, cmp_pos', cmp_neg', cmp_eq', inb_I, cond_true, cond_false, aI_ok, aJ_ok, aA_ok, aV_ok', aI_thr, aJ_thr, aA_thr, aV_thr, ob_some, on_some, on_none, tg_wI, tg_wJ, tg_wR, ln_wI, ln_wJ, ln_wR, tg_cpI, ln_cpI, tg_cpR, ln_cpR, nx_wI, nx_wJ, nx_wR, sl_wI, sl_wJ, sl_wR, nx_cpI, sl_cpI, nx_cpR, sl_cpR, nx_nw, sl_nw, rJ_wI, rR_wI, rI_wJ, rR_wJ, rI_wR, rJ_wR, rJ_cpI, rR_cpI, rJ_cpR, rI_cpR, rI_wI, rJ_wJ, rq_wI, rq_wJ, rq_wR, rq_cpI, ↓reduceIte, Nat.reduceEqDiff, Nat.reduceAdd, Nat.reduceSub, Nat.reduceMul, Int.reduceAdd, Int.reduceSub, Int.reduceMul, Int.reduceNeg, Int.reduceLT, Int.reduceLE, Int.reduceEq, Int.reduceToNat, Int.sub_zero, Int.add_zero, Int.zero_add, true_and, and_true, false_and, and_false, or_true, true_or, or_false, false_or, not_true_eq_false, not_false_eq_true, eq_self, decide_true, decide_false, Bool.not_false, Bool.not_true, Bool.and_true, Bool.true_and, Bool.or_true, Bool.true_or, Bool.and_self, Bool.or_false, Bool.false_or, Bool.and_false, Bool.false_and, em, bi_01]
        rw [if_neg (by omega), bi_congr (p := fr)]
        exact ⟨fun h => ⟨h, fun x hx hxb => (no x hx hxb).elim⟩, fun h => h.1⟩
theorem conn_in {n m : Nat} {A : Nat → Int32} {kv : Int32} {c x : Nat} (hc : Gin n m c) (hk : A c = kv) (h : Conn (Adj n m A kv) c x) : Gin n m x ∧ A x = kv :=
  h (fun y => Gin n m y ∧ A y = kv) ⟨hc, hk⟩ fun x y _ hxy => ⟨hxy.2.1, hxy.2.2.2.1⟩
theorem grow_m (d : Nat) {s0 : St} {n m a b : Nat} {kv : Int32} (hn : rI s0 714 10 = I3 n) (hm : rI s0 714 11 = I3 m) (n1 : n ≤ 64) (m1 : m ≤ 64) (ha : a < n) (hb : b < m) (hk : kv = I3 0 ∨ kv = I3 1) (hc : rI s0 720 (64 * b + a) = kv) (h0 : rI s0 722 (64 * b + a) = I3 0)
    (h02 : ∀ x, Gin n m x → rI s0 722 x = I3 0 ∨ rI s0 722 x = I3 2) (hcl : ∀ x y, Adj n m (rI s0 720) kv x y → rI s0 722 x = I3 2 → rI s0 722 y = I3 2) :
    ∃ τ, DD L (d + 1) 216 0 [.ref 714, .int (I3 a), .int (I3 b), .int kv] s0 = ok (some (.int (bi (∀ x, Conn (Adj n m (rI s0 720) kv) (64 * b + a) x → inner n m x)))) τ ∧ Fr [7] s0 τ ∧ nx τ = nx s0 ∧ sl τ = sl s0 ∧ (∀ a k, a ≠ 722 → rI τ a k = rI s0 a k) ∧
      ∀ x, Gin n m x → (rI τ 722 x = I3 2 ∧ (rI s0 722 x = I3 2 ∨ Conn (Adj n m (rI s0 720) kv) (64 * b + a) x)) ∨ (rI τ 722 x = I3 0 ∧ rI s0 722 x = I3 0 ∧ ¬ Conn (Adj n m (rI s0 720) kv) (64 * b + a) x) := by
  have gc : Gin n m (64 * b + a) := ⟨by omega, by omega⟩
  have et : (64 * (b : Int) + a).toNat = 64 * b + a := by omega
  have i0 : GInv s0 (wI s0 722 (64 * b + a) (I3 1)) n m (rI s0 720) kv (64 * b + a) := by
    refine ⟨fr_wI rfl, rfl, rfl, fun a k h => rI_wIn h, fun x hx => ?_, rI_wIs, fun x hx => ?_⟩
    · rw [rI_wI', if_neg (fun e : x = 64 * b + a => hx (e ▸ gc))]
    · rw [rI_wI']
      by_cases e : x = 64 * b + a
      · rw [if_pos e, e]; exact Or.inr (Or.inl ⟨rfl, h0, hc, conn_refl⟩)
      · rw [if_neg e]
        rcases h02 x hx with q | q
        · exact Or.inl ⟨q, q⟩
        · exact Or.inr (Or.inr ⟨q, q⟩)
  obtain ⟨s1, r1, i1, c1⟩ := grow_loop (L := L) d hn hm (by omega) (by omega) n1 m1 hk ((zer (wI s0 722 (64 * b + a) (I3 1)) n m).toNat + 1) (wI s0 722 (64 * b + a) (I3 1)) (ltk0 (cnt_rng (P := fun x => Gin n m x ∧ rI (wI s0 722 (64 * b + a) (I3 1)) 722 x = I3 0) (n := 4096)).1) i0
  obtain ⟨h1, h2, h3, h4, h5, hcc, h6⟩ := i1
  have en : rI s1 714 10 = I3 n := (h4 714 10 (by omega)).trans hn
  have em : rI s1 714 11 = I3 m := (h4 714 11 (by omega)).trans hm
  -- marked is connected
  have cl : ∀ x, Conn (Adj n m (rI s0 720) kv) (64 * b + a) x → rI s1 722 x = I3 1 := by
    intro x hx
    refine conn_closed (S := fun x => rI s1 722 x = I3 1) hx hcc fun x y x1 xy => ?_
    have gx := xy.1
    have gy := xy.2.1
    rcases h6 y gy with ⟨q1, q2⟩ | ⟨q1, -⟩ | ⟨q1, q2⟩
    · exact absurd ⟨x, gx, near_sym xy.2.2.2.2, x1⟩ (c1 y gy q1 xy.2.2.2.1)
    · exact q1
    · have := hcl y x (adj_sym _ _ xy) q2
      rcases h6 x gx with ⟨w1, w2⟩ | ⟨w1, w2, -⟩ | ⟨w1, -⟩
      · rw [x1] at w1; exact absurd w1 (by decide)
      · rw [this] at w2; exact absurd w2 (by decide)
      · rw [x1] at w1; exact absurd w1 (by decide)
  have cm : ∀ x, Gin n m x → rI s1 722 x = I3 1 → Conn (Adj n m (rI s0 720) kv) (64 * b + a) x := by
    intro x hx x1
    rcases h6 x hx with ⟨w1, w2⟩ | ⟨-, -, -, w⟩ | ⟨w1, -⟩
    · rw [x1] at w1; exact absurd w1 (by decide)
    · exact w
    · rw [x1] at w1; exact absurd w1 (by decide)
  obtain ⟨τ, f1, f2, f3, f4, f5, f6, f7⟩ := fin_loop (L := L) (d + 1) n1 m1 _ 0 0 True s1 (Nat.le_refl _) (by omega) (by omega) en em
  refine ⟨τ, ?_, fr_tr h1 f2, f3.trans h2, f4.trans h3, fun a k h => (f5 a k h).trans (h4 a k h), fun x hx => ?_⟩
  · rw [E_X8_grow_0]
    simp (disch := omega) only [I3_of, I6_of, I3_nat, I3_add, I3_sub, I3_mul, I3_neg, I6_add, I6_sub, I6_mul, I6_neg, I3_lt, I3_le, I3_eq, I6_lt, I6_le, I6_eq, I3_cl, I3_64, I6_32, cmp_pos', cmp_neg', cmp_eq', inb_I, cond_true, cond_false, aI_ok, aJ_ok, aA_ok, aV_ok', aI_thr, aJ_thr, aA_thr, aV_thr, ob_some, on_some, on_none, tg_wI, tg_wJ, tg_wR, ln_wI, ln_wJ, ln_wR, tg_cpI, ln_cpI, tg_cpR, ln_cpR, nx_wI, nx_wJ, nx_wR, sl_wI, sl_wJ, sl_wR, nx_cpI, sl_cpI, nx_cpR, sl_cpR, nx_nw, sl_nw, rJ_wI, rR_wI, rI_wJ, rR_wJ, rI_wR, rJ_wR, rJ_cpI, rR_cpI, rJ_cpR, rI_cpR, rI_wI, rJ_wJ, rq_wI, rq_wJ, rq_wR, rq_cpI, ↓reduceIte, Nat.reduceEqDiff, Nat.reduceAdd, Nat.reduceSub, Nat.reduceMul, Int.reduceAdd, Int.reduceSub, Int.reduceMul, Int.reduceNeg, Int.reduceLT, Int.reduceLE, Int.reduceEq, Int.reduceToNat, Int.sub_zero, Int.add_zero, Int.zero_add, true_and, and_true, false_and, and_false, or_true, true_or, or_false, false_or, not_true_eq_false, not_false_eq_true, eq_self, decide_true, decide_false, Bool.not_false, Bool.not_true, Bool.and_true, Bool.true_and, Bool.or_true, Bool.true_or, Bool.and_self, Bool.or_false, Bool.false_or, Bool.and_false, Bool.false_and, et]
    refine r1.trans ?_
    rw [E_X8_grow_230]
    simp (disch := omega) only [I3_of, I6_of, I3_nat, I3_add, I3_sub, I3_mul, I3_neg, I6_add, I6_sub, I6_mul, I6_neg, I3_lt, I3_le, I3_eq, I6_lt, I6_le, I6_eq, I3_cl, I3_64, I6_32, cmp_pos', cmp_neg', cmp_eq', inb_I, cond_true, cond_false, aI_ok, aJ_ok, aA_ok, aV_ok', aI_thr, aJ_thr, aA_thr, aV_thr, ob_some, on_some, on_none, tg_wI, tg_wJ, tg_wR, ln_wI, ln_wJ, ln_wR, tg_cpI, ln_cpI, tg_cpR, ln_cpR, nx_wI, nx_wJ, nx_wR, sl_wI, sl_wJ, sl_wR, nx_cpI, sl_cpI, nx_cpR, sl_cpR, nx_nw, sl_nw, rJ_wI, rR_wI, rI_wJ, rR_wJ, rI_wR, rJ_wR, rJ_cpI, rR_cpI, rJ_cpR, rI_cpR, rI_wI, rJ_wJ, rq_wI, rq_wJ, rq_wR, rq_cpI, ↓reduceIte, Nat.reduceEqDiff, Nat.reduceAdd, Nat.reduceSub, Nat.reduceMul, Int.reduceAdd, Int.reduceSub, Int.reduceMul, Int.reduceNeg, Int.reduceLT, Int.reduceLE, Int.reduceEq, Int.reduceToNat, Int.sub_zero, Int.add_zero, Int.zero_add, true_and, and_true, false_and, and_false, or_true, true_or, or_false, false_or, not_true_eq_false, not_false_eq_true, eq_self, decide_true, decide_false, Bool.not_false, Bool.not_true, Bool.and_true, Bool.true_and, Bool.or_true, Bool.true_or, Bool.and_self, Bool.or_false, Bool.false_or, Bool.and_false, Bool.false_and, em]
    rw [if_pos (by omega)]
    have : bi True = I3 1 := bi_pos trivial
    rw [this] at f1
    refine Eq.trans f1 ?_
    refine congrArg (fun v => ok (some (Value.int v)) τ) (bi_congr ⟨fun h x hx => h.2 x (conn_in gc hc hx).1 (by omega) (cl x hx), fun h => ⟨trivial, fun x hx _ x1 => h x (cm x hx x1)⟩⟩)
  · by_cases q : Conn (Adj n m (rI s0 720) kv) (64 * b + a) x
    · exact Or.inl ⟨f6 x hx (by omega) (cl x q), Or.inr q⟩
    · have e := f7 x (fun w => q (cm x hx w.2.2))
      rcases h6 x hx with ⟨w1, w2⟩ | ⟨-, -, -, w⟩ | ⟨w1, w2⟩
      · exact Or.inr ⟨e.trans w1, w2, q⟩
      · exact absurd w q
      · exact Or.inl ⟨e.trans w1, Or.inl w2⟩
theorem cnt_skip {P : Nat → Prop} {a : Nat} : ∀ {b : Nat}, a ≤ b → (∀ k, a ≤ k → k < b → ¬ P k) → cnt P b = cnt P a := by
  intro b
  induction b with
  | zero => intro h _; rw [show a = 0 by omega]
  | succ b ih =>
    intro h hp
    by_cases e : a = b + 1
    · rw [e]
    · rw [cnt_neg (hp b (by omega) (by omega)), ih (by omega) (fun k k1 k2 => hp k k1 (by omega))]
/-- a cell at which a set that counts is met first -/
def Fst (n m : Nat) (A : Nat → Int32) (kv : Int32) (c : Nat) : Prop := Gin n m c ∧ A c = kv ∧ (∀ y, y < c → ¬ Conn (Adj n m A kv) y c) ∧ (kv = I3 1 ∨ ∀ x, Conn (Adj n m A kv) c x → inner n m x)
theorem zero_loop (d : Nat) {kv c : Int32} : ∀ (k : Nat) (i : Nat) (s : St), i + k = 4096 →
    ∃ τ, DD L d 215 4 [.ref 714, .int kv, .int c, .int (I3 i)] s = DD L d 215 28 [.ref 714, .int kv, .int c, .int (I3 0)] τ ∧ Fr [7] s τ ∧ nx τ = nx s ∧ sl τ = sl s ∧ (∀ a k, a ≠ 722 → rI τ a k = rI s a k) ∧ (∀ x, i ≤ x → x < 4096 → rI τ 722 x = I3 0) ∧ (∀ x, x < i → rI τ 722 x = rI s 722 x) := by
  intro k
  induction k with
  | zero =>
    intro i s hi
    refine ⟨s, ?_, fr_refl, rfl, rfl, fun _ _ _ => rfl, fun x h1 h2 => by omega, fun _ _ => rfl⟩
    rw [E_X8_sets_4]
    simp (disch := omega) only [I3_of, I6_of, I3_nat, I3_add, I3_sub, I3_mul, I3_neg, I6_add, I6_sub, I6_mul, I6_neg, I3_lt, I3_le, I3_eq, I6_lt, I6_le, I6_eq, I3_cl, I3_64, I6_32, cmp_pos', cmp_neg', cmp_eq', inb_I, cond_true, cond_false, aI_ok, aJ_ok, aA_ok, aV_ok', aI_thr, aJ_thr, aA_thr, aV_thr, ob_some, on_some, on_none, tg_wI, tg_wJ, tg_wR, ln_wI, ln_wJ, ln_wR, tg_cpI, ln_cpI, tg_cpR, ln_cpR, nx_wI, nx_wJ, nx_wR, sl_wI, sl_wJ, sl_wR, nx_cpI, sl_cpI, nx_cpR, sl_cpR, nx_nw, sl_nw, rJ_wI, rR_wI, rI_wJ, rR_wJ, rI_wR, rJ_wR, rJ_cpI, rR_cpI, rJ_cpR, rI_cpR, rI_wI, rJ_wJ, rq_wI, rq_wJ, rq_wR, rq_cpI, ↓reduceIte, Nat.reduceEqDiff, Nat.reduceAdd, Nat.reduceSub, Nat.reduceMul, Int.reduceAdd, Int.reduceSub, Int.reduceMul, Int.reduceNeg, Int.reduceLT, Int.reduceLE, Int.reduceEq, Int.reduceToNat, Int.sub_zero, Int.add_zero, Int.zero_add, true_and, and_true, false_and, and_false, or_true, true_or, or_false, false_or, not_true_eq_false, not_false_eq_true, eq_self, decide_true, decide_false, Bool.not_false, Bool.not_true, Bool.and_true, Bool.true_and, Bool.or_true, Bool.true_or, Bool.and_self, Bool.or_false, Bool.false_or, Bool.and_false, Bool.false_and]
    rw [if_neg (by omega)]
  | succ k ih =>
    intro i s hi
    obtain ⟨τ, r1, r2, r3, r4, r5, r6, r7⟩ := ih (i + 1) (wI s 722 i (I3 0)) (by omega)
    refine ⟨τ, ?_, fr_tr (fr_wI rfl) r2, r3, r4, fun a k h => (r5 a k h).trans (rI_wIn h), fun x h1 h2 => ?_, fun x h1 => ?_⟩
    · rw [E_X8_sets_4]
      simp (disch := omega) only [I3_of, I6_of, I3_nat, I3_add, I3_sub, I3_mul, I3_neg, I6_add, I6_sub, I6_mul, I6_neg, I3_lt, I3_le, I3_eq, I6_lt, I6_le, I6_eq, I3_cl, I3_64, I6_32, cmp_pos', cmp_neg', cmp_eq', inb_I, cond_true, cond_false, aI_ok, aJ_ok, aA_ok, aV_ok', aI_thr, aJ_thr, aA_thr, aV_thr, ob_some, on_some, on_none, tg_wI, tg_wJ, tg_wR, ln_wI, ln_wJ, ln_wR, tg_cpI, ln_cpI, tg_cpR, ln_cpR, nx_wI, nx_wJ, nx_wR, sl_wI, sl_wJ, sl_wR, nx_cpI, sl_cpI, nx_cpR, sl_cpR, nx_nw, sl_nw, rJ_wI, rR_wI, rI_wJ, rR_wJ, rI_wR, rJ_wR, rJ_cpI, rR_cpI, rJ_cpR, rI_cpR, rI_wI, rJ_wJ, rq_wI, rq_wJ, rq_wR, rq_cpI, ↓reduceIte, Nat.reduceEqDiff, Nat.reduceAdd, Nat.reduceSub, Nat.reduceMul, Int.reduceAdd, Int.reduceSub, Int.reduceMul, Int.reduceNeg, Int.reduceLT, Int.reduceLE, Int.reduceEq, Int.reduceToNat, Int.sub_zero, Int.add_zero, Int.zero_add, true_and, and_true, false_and, and_false, or_true, true_or, or_false, false_or, not_true_eq_false, not_false_eq_true, eq_self, decide_true, decide_false, Bool.not_false, Bool.not_true, Bool.and_true, Bool.true_and, Bool.or_true, Bool.true_or, Bool.and_self, Bool.or_false, Bool.false_or, Bool.and_false, Bool.false_and, Int.toNat_natCast]
      rw [if_pos (by omega), show (i : Int) + 1 = ((i + 1 : Nat) : Int) by omega]
      exact r1
    · by_cases e : x = i
      · rw [r7 x (by omega), rI_wI', if_pos e]
      · exact r6 x (by omega) h2
    · rw [r7 x (by omega), rI_wI', if_neg (by omega)]
/-- all cells in their order -/
theorem sets_loop (d : Nat) {s0 : St} {n m : Nat} {kv : Int32} (hn : rI s0 714 10 = I3 n) (hm : rI s0 714 11 = I3 m) (n1 : n ≤ 64) (m1 : m ≤ 64) (hk : kv = I3 0 ∨ kv = I3 1) :
    ∀ (k a b : Nat) (s : St), (m - 1 - b) * 65 + (n - a) ≤ k → a ≤ n → b < m → Fr [7] s0 s → nx s = nx s0 → sl s = sl s0 → (∀ a k, a ≠ 722 → rI s a k = rI s0 a k) →
    (∀ x, Gin n m x → (rI s 722 x = I3 2 ∧ ∃ y, y < 64 * b + a ∧ Gin n m y ∧ rI s0 720 y = kv ∧ Conn (Adj n m (rI s0 720) kv) y x) ∨ (rI s 722 x = I3 0 ∧ ∀ y, y < 64 * b + a → Gin n m y → rI s0 720 y = kv → ¬ Conn (Adj n m (rI s0 720) kv) y x)) →
    ∃ τ, DD L (d + 2) 215 39 [.ref 714, .int kv, .int (I3 (cnt (Fst n m (rI s0 720) kv) (64 * b + a))), .int (I3 b), .int (I3 a)] s = ok (some (.int (I3 (cnt (Fst n m (rI s0 720) kv) (64 * m))))) τ ∧ Fr [7] s0 τ ∧ nx τ = nx s0 ∧ sl τ = sl s0 ∧ (∀ a k, a ≠ 722 → rI τ a k = rI s0 a k) := by
  intro k
  induction k with
  | zero =>
    intro a b s hk0 ha hb f1 f2 f3 f4 hM
    have en : rI s 714 10 = I3 n := (f4 714 10 (by omega)).trans hn
    have em : rI s 714 11 = I3 m := (f4 714 11 (by omega)).trans hm
    refine ⟨s, ?_, f1, f2, f3, f4⟩
    rw [E_X8_sets_39]
    simp (disch := omega) only [I3_of, I6_of, I3_nat, I3_add, I3_sub, I3_mul, I3_neg, I6_add, I6_sub, I6_mul, I6_neg, I3_lt, I3_le, I3_eq, I6_lt, I6_le, I6_eq, I3_cl, I3_64, I6_32, cmp_pos', cmp_neg', cmp_eq', inb_I, cond_true, cond_false, aI_ok, aJ_ok, aA_ok, aV_ok', aI_thr, aJ_thr, aA_thr, aV_thr, ob_some, on_some, on_none, tg_wI, tg_wJ, tg_wR, ln_wI, ln_wJ, ln_wR, tg_cpI, ln_cpI, tg_cpR, ln_cpR, nx_wI, nx_wJ, nx_wR, sl_wI, sl_wJ, sl_wR, nx_cpI, sl_cpI, nx_cpR, sl_cpR, nx_nw, sl_nw, rJ_wI, rR_wI, rI_wJ, rR_wJ, rI_wR, rJ_wR, rJ_cpI, rR_cpI, rJ_cpR, rI_cpR, rI_wI, rJ_wJ, rq_wI, rq_wJ, rq_wR, rq_cpI, ↓reduceIte, Nat.reduceEqDiff, Nat.reduceAdd, Nat.reduceSub, Nat.reduceMul, Int.reduceAdd, Int.reduceSub, Int.reduceMul, Int.reduceNeg, Int.reduceLT, Int.reduceLE, Int.reduceEq, Int.reduceToNat, Int.sub_zero, Int.add_zero, Int.zero_add, true_and, and_true, false_and, and_false, or_true, true_or, or_false, false_or, not_true_eq_false, not_false_eq_true, eq_self, decide_true, decide_false, Bool.not_false, Bool.not_true, Bool.and_true, Bool.true_and, Bool.or_true, Bool.true_or, Bool.and_self, Bool.or_false, Bool.false_or, Bool.and_false, Bool.false_and, en]
    rw [if_neg (by omega), E_X8_sets_28]
    simp (disch := omega) only [I3_of, I6_of, I3_nat, I3_add, I3_sub, I3_mul, I3_neg, I6_add, I6_sub, I6_mul, I6_neg, I3_lt, I3_le, I3_eq, I6_lt, I6_le, I6_eq, I3_cl, I3_64, I6_32, cmp_pos', cmp_neg', cmp_eq', inb_I, cond_true, cond_false, aI_ok, aJ_ok, aA_ok, aV_ok', aI_thr, aJ_thr, aA_thr, aV_thr, ob_some, on_some, on_none, tg_wI, tg_wJ, tg_wR, ln_wI, ln_wJ, ln_wR, tg_cpI, ln_cpI, tg_cpR, ln_cpR, nx_wI, nx_wJ, nx_wR, sl_wI, sl_wJ, sl_wR, nx_cpI, sl_cpI, nx_cpR, sl_cpR, nx_nw, sl_nw, rJ_wI, rR_wI, rI_wJ, rR_wJ, rI_wR, rJ_wR, rJ_cpI, rR_cpI, rJ_cpR, rI_cpR, rI_wI, rJ_wJ, rq_wI, rq_wJ, rq_wR, rq_cpI, ↓reduceIte, Nat.reduceEqDiff, Nat.reduceAdd, Nat.reduceSub, Nat.reduceMul, Int.reduceAdd, Int.reduceSub, Int.reduceMul, Int.reduceNeg, Int.reduceLT, Int.reduceLE, Int.reduceEq, Int.reduceToNat, Int.sub_zero, Int.add_zero, Int.zero_add, true_and, and_true, false_and, and_false, or_true, true_or, or_false, false_or, not_true_eq_false, not_false_eq_true, eq_self, decide_true, decide_false, Bool.not_false, Bool.not_true, Bool.and_true, Bool.true_and, Bool.or_true, Bool.true_or, Bool.and_self, Bool.or_false, Bool.false_or, Bool.and_false, Bool.false_and, em]
    rw [if_neg (by omega), cnt_skip (a := 64 * b + a) (b := 64 * m) (by omega) (fun k k1 k2 q => by have := q.1; unfold Gin at this; omega)]
  | succ k ih =>
    intro a b s hk0 ha hb f1 f2 f3 f4 hM
    have en : rI s 714 10 = I3 n := (f4 714 10 (by omega)).trans hn
    have em : rI s 714 11 = I3 m := (f4 714 11 (by omega)).trans hm
    have e7 : ∀ x, rI s 720 x = rI s0 720 x := fun x => f4 720 x (by omega)
    have e7' : rI s 720 = rI s0 720 := funext e7
    by_cases ca : a < n
    · have gx : Gin n m (64 * b + a) := ⟨by omega, by omega⟩
      have et : (64 * (b : Int) + a).toNat = 64 * b + a := by omega
      have ea : (a : Int) + 1 = ((a + 1 : Nat) : Int) := by omega
      by_cases c1 : rI s0 720 (64 * b + a) = kv
      · rcases hM _ gx with ⟨q1, y, y1, y2, y3, y4⟩ | ⟨q1, q2⟩
        · -- met before
          have nF : ¬ Fst n m (rI s0 720) kv (64 * b + a) := fun q => q.2.2.1 y y1 y4
          obtain ⟨τ, r1, r2⟩ := ih (a + 1) b s (by omega) (by omega) hb f1 f2 f3 f4 (fun x hx => by
            rcases hM x hx with ⟨w1, z, z1, z2⟩ | ⟨w1, w2⟩
            · exact Or.inl ⟨w1, z, by omega, z2⟩
            · refine Or.inr ⟨w1, fun z z1 z2 z3 z4 => ?_⟩
              by_cases e : z = 64 * b + a
              · subst e
                exact w2 y y1 y2 y3 (conn_tr y4 z4)
              · exact w2 z (by omega) z2 z3 z4)
          refine ⟨τ, ?_, r2⟩
          rw [E_X8_sets_39]
          simp (disch := omega) only [I3_of, I6_of, I3_nat, I3_add, I3_sub, I3_mul, I3_neg, I6_add, I6_sub, I6_mul, I6_neg, I3_lt, I3_le, I3_eq, I6_lt, I6_le, I6_eq, I3_cl, I3_64, I6_32, cmp_pos', cmp_neg', cmp_eq', inb_I, cond_true, cond_false, aI_ok, aJ_ok, aA_ok, aV_ok', aI_thr, aJ_thr, aA_thr, aV_thr, ob_some, on_some, on_none, tg_wI, tg_wJ, tg_wR, ln_wI, ln_wJ, ln_wR, tg_cpI, ln_cpI, tg_cpR, ln_cpR, nx_wI, nx_wJ, nx_wR, sl_wI, sl_wJ, sl_wR, nx_cpI, sl_cpI, nx_cpR, sl_cpR, nx_nw, sl_nw, rJ_wI, rR_wI, rI_wJ, rR_wJ, rI_wR, rJ_wR, rJ_cpI, rR_cpI, rJ_cpR, rI_cpR, rI_wI, rJ_wJ, rq_wI, rq_wJ, rq_wR, rq_cpI, ↓reduceIte, Nat.reduceEqDiff, Nat.reduceAdd, Nat.reduceSub, Nat.reduceMul, Int.reduceAdd, Int.reduceSub, Int.reduceMul, Int.reduceNeg, Int.reduceLT, Int.reduceLE, Int.reduceEq, Int.reduceToNat, Int.sub_zero, Int.add_zero, Int.zero_add, true_and, and_true, false_and, and_false, or_true, true_or, or_false, false_or, not_true_eq_false, not_false_eq_true, eq_self, decide_true, decide_false, Bool.not_false, Bool.not_true, Bool.and_true, Bool.true_and, Bool.or_true, Bool.true_or, Bool.and_self, Bool.or_false, Bool.false_or, Bool.and_false, Bool.false_and, en, et, e7, c1, q1]
          rw [if_pos (by omega), ea, ← cnt_neg nF]
          exact r1
        · -- a new one
          obtain ⟨τ, g1, g2, g3, g4, g5, g6⟩ := grow_m (L := L) d en em n1 m1 ca hb hk ((e7 _).trans c1) q1 (fun x hx => by
            rcases hM x hx with ⟨w, -⟩ | ⟨w, -⟩
            · exact Or.inr w
            · exact Or.inl w) (fun x y xy x2 => by
            rw [e7'] at xy
            rcases hM y xy.2.1 with ⟨w, -⟩ | ⟨w1, w2⟩
            · exact w
            · rcases hM x xy.1 with ⟨v1, z, z1, z2, z3, z4⟩ | ⟨v1, -⟩
              · exact absurd (conn_step z4 xy) (w2 z z1 z2 z3)
              · rw [x2] at v1; exact absurd v1 (by decide))
          rw [e7'] at g1 g6
          have fs : (∀ y, y < 64 * b + a → ¬ Conn (Adj n m (rI s0 720) kv) y (64 * b + a)) := by
            intro y y1 y4
            have := conn_in gx c1 (conn_sym adj_sym y4)
            exact q2 y y1 this.1 this.2 y4
          obtain ⟨τ2, r1, r2⟩ := ih (a + 1) b τ (by omega) (by omega) hb (fr_tr f1 g2) (g3.trans f2) (g4.trans f3) (fun a k h => (g5 a k h).trans (f4 a k h)) (fun x hx => by
            rcases g6 x hx with ⟨w1, (w2 | w2)⟩ | ⟨w1, w2, w3⟩
            · rcases hM x hx with ⟨-, z, z1, z2⟩ | ⟨v, -⟩
              · exact Or.inl ⟨w1, z, by omega, z2⟩
              · rw [w2] at v; exact absurd v (by decide)
            · exact Or.inl ⟨w1, 64 * b + a, by omega, gx, c1, w2⟩
            · refine Or.inr ⟨w1, fun z z1 z2 z3 z4 => ?_⟩
              by_cases e : z = 64 * b + a
              · subst e; exact w3 z4
              · rcases hM x hx with ⟨v, -⟩ | ⟨-, v⟩
                · rw [w2] at v; exact absurd v (by decide)
                · exact v z (by omega) z2 z3 z4)
          refine ⟨τ2, ?_, r2⟩
          have lz : (I3 0 < I3 0) = False := by rw [eq_iff_iff]; exact ⟨fun h => absurd h (by decide), False.elim⟩
          rw [E_X8_sets_39]
          simp (disch := omega) only [I3_of, I6_of, I3_nat, I3_add, I3_sub, I3_mul, I3_neg, I6_add, I6_sub, I6_mul, I6_neg, I3_lt, I3_le, I3_eq, I6_lt, I6_le, I6_eq, I3_cl, I3_64, I6_32, cmp_pos', cmp_neg', cmp_eq', inb_I, cond_true, cond_false, aI_ok, aJ_ok, aA_ok, aV_ok', aI_thr, aJ_thr, aA_thr, aV_thr, ob_some, on_some, on_none, tg_wI, tg_wJ, tg_wR, ln_wI, ln_wJ, ln_wR, tg_cpI, ln_cpI, tg_cpR, ln_cpR, nx_wI, nx_wJ, nx_wR, sl_wI, sl_wJ, sl_wR, nx_cpI, sl_cpI, nx_cpR, sl_cpR, nx_nw, sl_nw, rJ_wI, rR_wI, rI_wJ, rR_wJ, rI_wR, rJ_wR, rJ_cpI, rR_cpI, rJ_cpR, rI_cpR, rI_wI, rJ_wJ, rq_wI, rq_wJ, rq_wR, rq_cpI, ↓reduceIte, Nat.reduceEqDiff, Nat.reduceAdd, Nat.reduceSub, Nat.reduceMul, Int.reduceAdd, Int.reduceSub, Int.reduceMul, Int.reduceNeg, Int.reduceLT, Int.reduceLE, Int.reduceEq, Int.reduceToNat, Int.sub_zero, Int.add_zero, Int.zero_add, true_and, and_true, false_and, and_false, or_true, true_or, or_false, false_or, not_true_eq_false, not_false_eq_true, eq_self, decide_true, decide_false, Bool.not_false, Bool.not_true, Bool.and_true, Bool.true_and, Bool.or_true, Bool.true_or, Bool.and_self, Bool.or_false, Bool.false_or, Bool.and_false, Bool.false_and, en, et, e7, c1, q1]
          rw [if_pos (by omega)]
          by_cases ff : ∀ x, Conn (Adj n m (rI s0 720) kv) (64 * b + a) x → inner n m x
          · have F : Fst n m (rI s0 720) kv (64 * b + a) := ⟨gx, c1, fs, Or.inr ff⟩
            rw [bi_pos ff] at g1
            rcases hk with rfl | rfl
            · simp (disch := omega) only [I3_of, I6_of, I3_nat, I3_add, I3_sub, I3_mul, I3_neg, I6_add, I6_sub, I6_mul, I6_neg, I3_lt, I3_le, I3_eq, I6_lt, I6_le, I6_eq, I3_cl, I3_64, I6_32, cmp_pos', cmp_neg', cmp_eq', inb_I, cond_true, cond_false, aI_ok, aJ_ok, aA_ok, aV_ok', aI_thr, aJ_thr, aA_thr, aV_thr, ob_some, on_some, on_none, tg_wI, tg_wJ, tg_wR, ln_wI, ln_wJ, ln_wR, tg_cpI, ln_cpI, tg_cpR, ln_cpR, nx_wI, nx_wJ, nx_wR, sl_wI, sl_wJ, sl_wR, nx_cpI, sl_cpI, nx_cpR, sl_cpR, nx_nw, sl_nw, rJ_wI, rR_wI, rI_wJ, rR_wJ, rI_wR, rJ_wR, rJ_cpI, rR_cpI, rJ_cpR, rI_cpR, rI_wI, rJ_wJ, rq_wI, rq_wJ, rq_wR, rq_cpI, ↓reduceIte, Nat.reduceEqDiff, Nat.reduceAdd, Nat.reduceSub, Nat.reduceMul, Int.reduceAdd, Int.reduceSub, Int.reduceMul, Int.reduceNeg, Int.reduceLT, Int.reduceLE, Int.reduceEq, Int.reduceToNat, Int.sub_zero, Int.add_zero, Int.zero_add, true_and, and_true, false_and, and_false, or_true, true_or, or_false, false_or, not_true_eq_false, not_false_eq_true, eq_self, decide_true, decide_false, Bool.not_false, Bool.not_true, Bool.and_true, Bool.true_and, Bool.or_true, Bool.true_or, Bool.and_self, Bool.or_false, Bool.false_or, Bool.and_false, Bool.false_and, g1, i3_10]
              rw [ea, ← cnt_pos F]; exact r1
            · simp (disch := omega) only [I3_of, I6_of, I3_nat, I3_add, I3_sub, I3_mul, I3_neg, I6_add, I6_sub, I6_mul, I6_neg, I3_lt, I3_le, I3_eq, I6_lt, I6_le, I6_eq, I3_cl, I3_64, I6_32, cmp_pos', cmp_neg', cmp_eq', inb_I, cond_true, cond_false, aI_ok, aJ_ok, aA_ok, aV_ok', aI_thr, aJ_thr, aA_thr, aV_thr, ob_some, on_some, on_none, tg_wI, tg_wJ, tg_wR, ln_wI, ln_wJ, ln_wR, tg_cpI, ln_cpI, tg_cpR, ln_cpR, nx_wI, nx_wJ, nx_wR, sl_wI, sl_wJ, sl_wR, nx_cpI, sl_cpI, nx_cpR, sl_cpR, nx_nw, sl_nw, rJ_wI, rR_wI, rI_wJ, rR_wJ, rI_wR, rJ_wR, rJ_cpI, rR_cpI, rJ_cpR, rI_cpR, rI_wI, rJ_wJ, rq_wI, rq_wJ, rq_wR, rq_cpI, ↓reduceIte, Nat.reduceEqDiff, Nat.reduceAdd, Nat.reduceSub, Nat.reduceMul, Int.reduceAdd, Int.reduceSub, Int.reduceMul, Int.reduceNeg, Int.reduceLT, Int.reduceLE, Int.reduceEq, Int.reduceToNat, Int.sub_zero, Int.add_zero, Int.zero_add, true_and, and_true, false_and, and_false, or_true, true_or, or_false, false_or, not_true_eq_false, not_false_eq_true, eq_self, decide_true, decide_false, Bool.not_false, Bool.not_true, Bool.and_true, Bool.true_and, Bool.or_true, Bool.true_or, Bool.and_self, Bool.or_false, Bool.false_or, Bool.and_false, Bool.false_and, g1, i3_10]
              rw [ea, ← cnt_pos F]; exact r1
          · rw [bi_neg ff] at g1
            rcases hk with rfl | rfl
            · have nF : ¬ Fst n m (rI s0 720) (I3 0) (64 * b + a) := fun q => q.2.2.2.elim (fun h => absurd h (by decide)) ff
              simp (disch := omega) only [I3_of, I6_of, I3_nat, I3_add, I3_sub, I3_mul, I3_neg, I6_add, I6_sub, I6_mul, I6_neg, I3_lt, I3_le, I3_eq, I6_lt, I6_le, I6_eq, I3_cl, I3_64, I6_32, cmp_pos', cmp_neg', cmp_eq', inb_I, cond_true, cond_false, aI_ok, aJ_ok, aA_ok, aV_ok', aI_thr, aJ_thr, aA_thr, aV_thr, ob_some, on_some, on_none, tg_wI, tg_wJ, tg_wR, ln_wI, ln_wJ, ln_wR, tg_cpI, ln_cpI, tg_cpR, ln_cpR, nx_wI, nx_wJ, nx_wR, sl_wI, sl_wJ, sl_wR, nx_cpI, sl_cpI, nx_cpR, sl_cpR, nx_nw, sl_nw, rJ_wI, rR_wI, rI_wJ, rR_wJ, rI_wR, rJ_wR, rJ_cpI, rR_cpI, rJ_cpR, rI_cpR, rI_wI, rJ_wJ, rq_wI, rq_wJ, rq_wR, rq_cpI, ↓reduceIte, Nat.reduceEqDiff, Nat.reduceAdd, Nat.reduceSub, Nat.reduceMul, Int.reduceAdd, Int.reduceSub, Int.reduceMul, Int.reduceNeg, Int.reduceLT, Int.reduceLE, Int.reduceEq, Int.reduceToNat, Int.sub_zero, Int.add_zero, Int.zero_add, true_and, and_true, false_and, and_false, or_true, true_or, or_false, false_or, not_true_eq_false, not_false_eq_true, eq_self, decide_true, decide_false, Bool.not_false, Bool.not_true, Bool.and_true, Bool.true_and, Bool.or_true, Bool.true_or, Bool.and_self, Bool.or_false, Bool.false_or, Bool.and_false, Bool.false_and, g1, i3_10]
              rw [ea, ← cnt_neg nF]; exact r1
            · have F : Fst n m (rI s0 720) (I3 1) (64 * b + a) := ⟨gx, c1, fs, Or.inl rfl⟩
              simp (disch := omega) only [I3_of, I6_of, I3_nat, I3_add, I3_sub, I3_mul, I3_neg, I6_add, I6_sub, I6_mul, I6_neg, I3_lt, I3_le, I3_eq, I6_lt, I6_le, I6_eq, I3_cl, I3_64, I6_32, cmp_pos', cmp_neg', cmp_eq', inb_I, cond_true, cond_false, aI_ok, aJ_ok, aA_ok, aV_ok', aI_thr, aJ_thr, aA_thr, aV_thr, ob_some, on_some, on_none, tg_wI, tg_wJ, tg_wR, ln_wI, ln_wJ, ln_wR, tg_cpI, ln_cpI, tg_cpR, ln_cpR, nx_wI, nx_wJ, nx_wR, sl_wI, sl_wJ, sl_wR, nx_cpI, sl_cpI, nx_cpR, sl_cpR, nx_nw, sl_nw, rJ_wI, rR_wI, rI_wJ, rR_wJ, rI_wR, rJ_wR, rJ_cpI, rR_cpI, rJ_cpR, rI_cpR, rI_wI, rJ_wJ, rq_wI, rq_wJ, rq_wR, rq_cpI, ↓reduceIte, Nat.reduceEqDiff, Nat.reduceAdd, Nat.reduceSub, Nat.reduceMul, Int.reduceAdd, Int.reduceSub, Int.reduceMul, Int.reduceNeg, Int.reduceLT, Int.reduceLE, Int.reduceEq, Int.reduceToNat, Int.sub_zero, Int.add_zero, Int.zero_add, true_and, and_true, false_and, and_false, or_true, true_or, or_false, false_or, not_true_eq_false, not_false_eq_true, eq_self, decide_true, decide_false, Bool.not_false, Bool.not_true, Bool.and_true, Bool.true_and, Bool.or_true, Bool.true_or, Bool.and_self, Bool.or_false, Bool.false_or, Bool.and_false, Bool.false_and, g1, i3_10]
              rw [ea, ← cnt_pos F]; exact r1
      · have nF : ¬ Fst n m (rI s0 720) kv (64 * b + a) := fun q => c1 q.2.1
        obtain ⟨τ, r1, r2⟩ := ih (a + 1) b s (by omega) (by omega) hb f1 f2 f3 f4 (fun x hx => by
          rcases hM x hx with ⟨w1, z, z1, z2⟩ | ⟨w1, w2⟩
          · exact Or.inl ⟨w1, z, by omega, z2⟩
          · refine Or.inr ⟨w1, fun z z1 z2 z3 z4 => ?_⟩
            by_cases e : z = 64 * b + a
            · subst e; exact absurd z3 c1
            · exact w2 z (by omega) z2 z3 z4)
        refine ⟨τ, ?_, r2⟩
        rw [E_X8_sets_39]
        simp (disch := omega) only [I3_of, I6_of, I3_nat, I3_add, I3_sub, I3_mul, I3_neg, I6_add, I6_sub, I6_mul, I6_neg, I3_lt, I3_le, I3_eq, I6_lt, I6_le, I6_eq, I3_cl, I3_64, I6_32, cmp_pos', cmp_neg', cmp_eq', inb_I, cond_true, cond_false, aI_ok, aJ_ok, aA_ok, aV_ok', aI_thr, aJ_thr, aA_thr, aV_thr, ob_some, on_some, on_none, tg_wI, tg_wJ, tg_wR, ln_wI, ln_wJ, ln_wR, tg_cpI, ln_cpI, tg_cpR, ln_cpR, nx_wI, nx_wJ, nx_wR, sl_wI, sl_wJ, sl_wR, nx_cpI, sl_cpI, nx_cpR, sl_cpR, nx_nw, sl_nw, rJ_wI, rR_wI, rI_wJ, rR_wJ, rI_wR, rJ_wR, rJ_cpI, rR_cpI, rJ_cpR, rI_cpR, rI_wI, rJ_wJ, rq_wI, rq_wJ, rq_wR, rq_cpI, ↓reduceIte, Nat.reduceEqDiff, Nat.reduceAdd, Nat.reduceSub, Nat.reduceMul, Int.reduceAdd, Int.reduceSub, Int.reduceMul, Int.reduceNeg, Int.reduceLT, Int.reduceLE, Int.reduceEq, Int.reduceToNat, Int.sub_zero, Int.add_zero, Int.zero_add, true_and, and_true, false_and, and_false, or_true, true_or, or_false, false_or, not_true_eq_false, not_false_eq_true, eq_self, decide_true, decide_false, Bool.not_false, Bool.not_true, Bool.and_true, Bool.true_and, Bool.or_true, Bool.true_or, Bool.and_self, Bool.or_false, Bool.false_or, Bool.and_false, Bool.false_and, en, et, e7, c1]
        rw [if_pos (by omega), ea, ← cnt_neg nF]
        exact r1
    · by_cases cb : b + 1 < m
      · have ec : cnt (Fst n m (rI s0 720) kv) (64 * (b + 1) + 0) = cnt (Fst n m (rI s0 720) kv) (64 * b + a) := cnt_skip (by omega) (fun k k1 k2 q => by have := q.1; unfold Gin at this; omega)
        obtain ⟨τ, r1, r2⟩ := ih 0 (b + 1) s (by omega) (by omega) cb f1 f2 f3 f4 (fun x hx => by
          rcases hM x hx with ⟨w1, z, z1, z2⟩ | ⟨w1, w2⟩
          · exact Or.inl ⟨w1, z, by omega, z2⟩
          · refine Or.inr ⟨w1, fun z z1 z2 => w2 z ?_ z2⟩
            unfold Gin at z2; omega)
        refine ⟨τ, ?_, r2⟩
        rw [ec] at r1
        rw [E_X8_sets_39]
        simp (disch := omega) only [I3_of, I6_of, I3_nat, I3_add, I3_sub, I3_mul, I3_neg, I6_add, I6_sub, I6_mul, I6_neg, I3_lt, I3_le, I3_eq, I6_lt, I6_le, I6_eq, I3_cl, I3_64, I6_32, cmp_pos', cmp_neg', cmp_eq', inb_I, cond_true, cond_false, aI_ok, aJ_ok, aA_ok, aV_ok', aI_thr, aJ_thr, aA_thr, aV_thr, ob_some, on_some, on_none, tg_wI, tg_wJ, tg_wR, ln_wI, ln_wJ, ln_wR, tg_cpI, ln_cpI, tg_cpR, ln_cpR, nx_wI, nx_wJ, nx_wR, sl_wI, sl_wJ, sl_wR, nx_cpI, sl_cpI, nx_cpR, sl_cpR, nx_nw, sl_nw, rJ_wI, rR_wI, rI_wJ, rR_wJ, rI_wR, rJ_wR, rJ_cpI, rR_cpI, rJ_cpR, rI_cpR, rI_wI, rJ_wJ, rq_wI, rq_wJ, rq_wR, rq_cpI, ↓reduceIte, Nat.reduceEqDiff, Nat.reduceAdd, Nat.reduceSub, Nat.reduceMul, Int.reduceAdd, Int.reduceSub, Int.reduceMul, Int.reduceNeg, Int.reduceLT, Int.reduceLE, Int.reduceEq, Int.reduceToNat, Int.sub_zero, Int.add_zero, Int.zero_add, true_and, and_true, false_and, and_false, or_true, true_or, or_false, false_or, not_true_eq_false, not_false_eq_true, eq_self, decide_true, decide_false, Bool.not_false, Bool.not_true, Bool.and_true, Bool.true_and, Bool.or_true, Bool.true_or, Bool.and_self, Bool.or_false, Bool.false_or, Bool.and_false, Bool.false_and, en]
        rw [if_neg (by omega), E_X8_sets_28]
        simp (disch := omega) only [I3_of, I6_of, I3_nat, I3_add, I3_sub, I3_mul, I3_neg, I6_add, I6_sub, I6_mul, I6_neg, I3_lt, I3_le, I3_eq, I6_lt, I6_le, I6_eq, I3_cl, I3_64, I6_32, cmp_pos', cmp_neg', cmp_eq', inb_I, cond_true, cond_false, aI_ok, aJ_ok, aA_ok, aV_ok', aI_thr, aJ_thr, aA_thr, aV_thr, ob_some, on_some, on_none, tg_wI, tg_wJ, tg_wR, ln_wI, ln_wJ, ln_wR, tg_cpI, ln_cpI, tg_cpR, ln_cpR, nx_wI, nx_wJ, nx_wR, sl_wI, sl_wJ, sl_wR, nx_cpI, sl_cpI, nx_cpR, sl_cpR, nx_nw, sl_nw, rJ_wI, rR_wI, rI_wJ, rR_wJ, rI_wR, rJ_wR, rJ_cpI, rR_cpI, rJ_cpR, rI_cpR, rI_wI, rJ_wJ, rq_wI, rq_wJ, rq_wR, rq_cpI, ↓reduceIte, Nat.reduceEqDiff, Nat.reduceAdd, Nat.reduceSub, Nat.reduceMul, Int.reduceAdd, Int.reduceSub, Int.reduceMul, Int.reduceNeg, Int.reduceLT, Int.reduceLE, Int.reduceEq, Int.reduceToNat, Int.sub_zero, Int.add_zero, Int.zero_add, true_and, and_true, false_and, and_false, or_true, true_or, or_false, false_or, not_true_eq_false, not_false_eq_true, eq_self, decide_true, decide_false, Bool.not_false, Bool.not_true, Bool.and_true, Bool.true_and, Bool.or_true, Bool.true_or, Bool.and_self, Bool.or_false, Bool.false_or, Bool.and_false, Bool.false_and, em]
        rw [if_pos (by omega), show (b : Int) + 1 = ((b + 1 : Nat) : Int) by omega]
        exact r1
      · refine ⟨s, ?_, f1, f2, f3, f4⟩
        rw [E_X8_sets_39]
        simp (disch := omega) only [I3_of, I6_of, I3_nat, I3_add, I3_sub, I3_mul, I3_neg, I6_add, I6_sub, I6_mul, I6_neg, I3_lt, I3_le, I3_eq, I6_lt, I6_le, I6_eq, I3_cl, I3_64, I6_32, cmp_pos', cmp_neg', cmp_eq', inb_I, cond_true, cond_false, aI_ok, aJ_ok, aA_ok, aV_ok', aI_thr, aJ_thr, aA_thr, aV_thr, ob_some, on_some, on_none, tg_wI, tg_wJ, tg_wR, ln_wI, ln_wJ, ln_wR, tg_cpI, ln_cpI, tg_cpR, ln_cpR, nx_wI, nx_wJ, nx_wR, sl_wI, sl_wJ, sl_wR, nx_cpI, sl_cpI, nx_cpR, sl_cpR, nx_nw, sl_nw, rJ_wI, rR_wI, rI_wJ, rR_wJ, rI_wR, rJ_wR, rJ_cpI, rR_cpI, rJ_cpR, rI_cpR, rI_wI, rJ_wJ, rq_wI, rq_wJ, rq_wR, rq_cpI, ↓reduceIte, Nat.reduceEqDiff, Nat.reduceAdd, Nat.reduceSub, Nat.reduceMul, Int.reduceAdd, Int.reduceSub, Int.reduceMul, Int.reduceNeg, Int.reduceLT, Int.reduceLE, Int.reduceEq, Int.reduceToNat, Int.sub_zero, Int.add_zero, Int.zero_add, true_and, and_true, false_and, and_false, or_true, true_or, or_false, false_or, not_true_eq_false, not_false_eq_true, eq_self, decide_true, decide_false, Bool.not_false, Bool.not_true, Bool.and_true, Bool.true_and, Bool.or_true, Bool.true_or, Bool.and_self, Bool.or_false, Bool.false_or, Bool.and_false, Bool.false_and, en]
        rw [if_neg (by omega), E_X8_sets_28]
        simp (disch := omega) only [I3_of, I6_of, I3_nat, I3_add, I3_sub, I3_mul, I3_neg, I6_add, I6_sub, I6_mul, I6_neg, I3_lt, I3_le, I3_eq, I6_lt, I6_le, I6_eq, I3_cl, I3_64, I6_32, cmp_pos', cmp_neg', cmp_eq', inb_I, cond_true, cond_false, aI_ok, aJ_ok, aA_ok, aV_ok', aI_thr, aJ_thr, aA_thr, aV_thr, ob_some, on_some, on_none, tg_wI, tg_wJ, tg_wR, ln_wI, ln_wJ, ln_wR, tg_cpI, ln_cpI, tg_cpR, ln_cpR, nx_wI, nx_wJ, nx_wR, sl_wI, sl_wJ, sl_wR, nx_cpI, sl_cpI, nx_cpR, sl_cpR, nx_nw, sl_nw, rJ_wI, rR_wI, rI_wJ, rR_wJ, rI_wR, rJ_wR, rJ_cpI, rR_cpI, rJ_cpR, rI_cpR, rI_wI, rJ_wJ, rq_wI, rq_wJ, rq_wR, rq_cpI, ↓reduceIte, Nat.reduceEqDiff, Nat.reduceAdd, Nat.reduceSub, Nat.reduceMul, Int.reduceAdd, Int.reduceSub, Int.reduceMul, Int.reduceNeg, Int.reduceLT, Int.reduceLE, Int.reduceEq, Int.reduceToNat, Int.sub_zero, Int.add_zero, Int.zero_add, true_and, and_true, false_and, and_false, or_true, true_or, or_false, false_or, not_true_eq_false, not_false_eq_true, eq_self, decide_true, decide_false, Bool.not_false, Bool.not_true, Bool.and_true, Bool.true_and, Bool.or_true, Bool.true_or, Bool.and_self, Bool.or_false, Bool.false_or, Bool.and_false, Bool.false_and, em]
        rw [if_neg (by omega), cnt_skip (a := 64 * b + a) (b := 64 * m) (by omega) (fun k k1 k2 q => by have := q.1; unfold Gin at this; omega)]
/-- how many sets the model finds -/
theorem sets_m (d : Nat) {s : St} {n m : Nat} {kv : Int32} (hn : rI s 714 10 = I3 n) (hm : rI s 714 11 = I3 m) (n0 : 1 ≤ n) (m0 : 1 ≤ m) (n1 : n ≤ 64) (m1 : m ≤ 64) (hk : kv = I3 0 ∨ kv = I3 1) :
    ∃ τ, DD L (d + 2) 215 0 [.ref 714, .int kv] s = ok (some (.int (I3 (cnt (Fst n m (rI s 720) kv) (64 * m))))) τ ∧ Fr [7] s τ ∧ nx τ = nx s ∧ sl τ = sl s ∧ (∀ a k, a ≠ 722 → rI τ a k = rI s a k) := by
  obtain ⟨s1, z1, z2, z3, z4, z5, z6, z7⟩ := zero_loop (L := L) (d + 2) (kv := kv) (c := I3 0) 4096 0 s (by omega)
  have e7' : rI s1 720 = rI s 720 := funext fun x => z5 720 x (by omega)
  have en : rI s1 714 10 = I3 n := (z5 714 10 (by omega)).trans hn
  have em : rI s1 714 11 = I3 m := (z5 714 11 (by omega)).trans hm
  obtain ⟨τ, r1, r2, r3, r4, r5⟩ := sets_loop (L := L) d en em n1 m1 hk _ 0 0 s1 (Nat.le_refl _) (by omega) (by omega) fr_refl rfl rfl (fun _ _ _ => rfl) (fun x hx => Or.inr ⟨z6 x (by omega) (by unfold Gin at hx; omega), fun y hy => by omega⟩)
  rw [e7'] at r1
  refine ⟨τ, ?_, fr_tr z2 r2, r3.trans z3, r4.trans z4, fun a k h => (r5 a k h).trans (z5 a k h)⟩
  rw [E_X8_sets_0]
  refine Eq.trans z1 ?_
  rw [E_X8_sets_28]
  simp (disch := omega) only [I3_of, I6_of, I3_nat, I3_add, I3_sub, I3_mul, I3_neg, I6_add, I6_sub, I6_mul, I6_neg, I3_lt, I3_le, I3_eq, I6_lt, I6_le, I6_eq, I3_cl, I3_64, I6_32, cmp_pos', cmp_neg', cmp_eq', inb_I, cond_true, cond_false, aI_ok, aJ_ok, aA_ok, aV_ok', aI_thr, aJ_thr, aA_thr, aV_thr, ob_some, on_some, on_none, tg_wI, tg_wJ, tg_wR, ln_wI, ln_wJ, ln_wR, tg_cpI, ln_cpI, tg_cpR, ln_cpR, nx_wI, nx_wJ, nx_wR, sl_wI, sl_wJ, sl_wR, nx_cpI, sl_cpI, nx_cpR, sl_cpR, nx_nw, sl_nw, rJ_wI, rR_wI, rI_wJ, rR_wJ, rI_wR, rJ_wR, rJ_cpI, rR_cpI, rJ_cpR, rI_cpR, rI_wI, rJ_wJ, rq_wI, rq_wJ, rq_wR, rq_cpI, ↓reduceIte, Nat.reduceEqDiff, Nat.reduceAdd, Nat.reduceSub, Nat.reduceMul, Int.reduceAdd, Int.reduceSub, Int.reduceMul, Int.reduceNeg, Int.reduceLT, Int.reduceLE, Int.reduceEq, Int.reduceToNat, Int.sub_zero, Int.add_zero, Int.zero_add, true_and, and_true, false_and, and_false, or_true, true_or, or_false, false_or, not_true_eq_false, not_false_eq_true, eq_self, decide_true, decide_false, Bool.not_false, Bool.not_true, Bool.and_true, Bool.true_and, Bool.or_true, Bool.true_or, Bool.and_self, Bool.or_false, Bool.false_or, Bool.and_false, Bool.false_and, em]
  rw [if_pos (by omega)]
  exact r1
end FLOOD2
