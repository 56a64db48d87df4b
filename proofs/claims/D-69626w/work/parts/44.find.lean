/-! ===== the class's runs of cells ===== -/
section FIND
variable {L : Nat}
def opn (n m : Nat) (ro fr to : Nat → Nat) (k : Nat) : Prop := fr k = 0 ∨ to k + 1 = n ∨ ro k = 0 ∨ ro k + 1 = m
def Runs (s : St) (n m : Nat) (A : Nat → Int32) (kv : Int32) (r : Nat) (ro fr to : Nat → Nat) : Prop := rI s 629 10 = I3 r ∧
  (∀ k, k < r → rI s 633 k = I3 (ro k) ∧ rI s 634 k = I3 (fr k) ∧ rI s 635 k = I3 (to k) ∧ ro k < m ∧ fr k ≤ to k ∧ to k < n ∧ ∀ x, fr k ≤ x → x ≤ to k → A (64 * ro k + x) = kv) ∧
  (∀ k l, k < l → l < r → ro k < ro l ∨ (ro k = ro l ∧ to k + 1 < fr l))
/-- found so far: all before row j, column i -/
def FInv (s0 s : St) (n m : Nat) (kv : Int32) (j i r : Nat) (ro fr to : Nat → Nat) : Prop := Fr [6] s0 s ∧ nx s = nx s0 ∧ sl s = sl s0 ∧ (∀ a k, a ≠ 629 → a ≠ 633 → a ≠ 634 → a ≠ 635 → a ≠ 636 → a ≠ 637 → rI s a k = rI s0 a k) ∧ (∀ k, k ≠ 10 → rI s 629 k = rI s0 629 k) ∧
  Runs s n m (rI s0 630) kv r ro fr to ∧ (∀ k, k < r → rI s 636 k = I3 k ∧ rI s 637 k = bi (opn n m ro fr to k)) ∧ r ≤ 64 * j + i ∧
  (∀ k, k < r → ro k < j ∨ (ro k = j ∧ (to k + 1 < i ∨ (to k + 1 = i ∧ (i = n ∨ rI s0 630 (64 * j + i) ≠ kv))))) ∧
  (∀ x y, x < n → y < m → (y < j ∨ (y = j ∧ x < i)) → rI s0 630 (64 * y + x) = kv → ∃ k, k < r ∧ ro k = y ∧ fr k ≤ x ∧ x ≤ to k)
theorem scan (d : Nat) {s : St} {n m j b : Nat} {kv : Int32} (hn : rI s 629 0 = I3 n) (n1 : n ≤ 64) (m1 : m ≤ 64) (hj : j < m) : ∀ (t i : Nat), n - i ≤ t → i ≤ n →
    ∃ i', i ≤ i' ∧ i' ≤ n ∧ DD L d 142 28 [.ref 629, .int kv, .int (I3 j), .int (I3 i), .int (I3 b)] s = DD L d 142 57 [.ref 629, .int kv, .int (I3 j), .int (I3 i'), .int (I3 b)] s ∧ (∀ x, i ≤ x → x < i' → rI s 630 (64 * j + x) = kv) ∧ (i' = n ∨ rI s 630 (64 * j + i') ≠ kv) := by
  intro t
  induction t with
  | zero =>
    intro i h1 h2
    refine ⟨i, Nat.le_refl _, h2, ?_, fun x a b => by omega, Or.inl (by omega)⟩
    rw [E_X2_find_28]
    simp (disch := omega) only [I3_of, I6_of, I3_nat, I3_add, I3_sub, I3_mul, I3_neg, I6_add, I6_sub, I6_mul, I6_neg, I3_lt, I3_le, I3_eq, I6_lt, I6_le, I6_eq, I3_cl, I3_64, I6_32, cmp_pos', cmp_neg', cmp_eq', inb_I, cond_true, cond_false, aI_ok, aJ_ok, aA_ok, aV_ok', aI_thr, aJ_thr, aA_thr, aV_thr, ob_some, on_some, on_none, tg_wI, tg_wJ, tg_wR, ln_wI, ln_wJ, ln_wR, tg_cpI, ln_cpI, tg_cpR, ln_cpR, nx_wI, nx_wJ, nx_wR, sl_wI, sl_wJ, sl_wR, nx_cpI, sl_cpI, nx_cpR, sl_cpR, nx_nw, sl_nw, rJ_wI, rR_wI, rI_wJ, rR_wJ, rI_wR, rJ_wR, rJ_cpI, rR_cpI, rJ_cpR, rI_cpR, rI_wI, rJ_wJ, rq_wI, rq_wJ, rq_wR, rq_cpI, ↓reduceIte, Nat.reduceEqDiff, Nat.reduceAdd, Nat.reduceSub, Nat.reduceMul, Int.reduceAdd, Int.reduceSub, Int.reduceMul, Int.reduceNeg, Int.reduceLT, Int.reduceLE, Int.reduceEq, Int.reduceToNat, Int.sub_zero, Int.add_zero, Int.zero_add, true_and, and_true, false_and, and_false, or_true, true_or, or_false, false_or, not_true_eq_false, not_false_eq_true, eq_self, decide_true, decide_false, Bool.not_false, Bool.not_true, Bool.and_true, Bool.true_and, Bool.or_true, Bool.true_or, Bool.and_self, Bool.or_false, Bool.false_or, Bool.and_false, Bool.false_and, hn]
    rw [if_neg (by omega)]
  | succ t ih =>
    intro i h1 h2
    by_cases hi : i < n
    · have et : ((j : Int) * 64 + i).toNat = 64 * j + i := by omega
      by_cases c : rI s 630 (64 * j + i) = kv
      · obtain ⟨i', a1, a2, a3, a4, a5⟩ := ih (i + 1) (by omega) (by omega)
        refine ⟨i', by omega, a2, ?_, fun x x1 x2 => ?_, a5⟩
        · rw [E_X2_find_28]
          simp (disch := omega) only [I3_of, I6_of, I3_nat, I3_add, I3_sub, I3_mul, I3_neg, I6_add, I6_sub, I6_mul, I6_neg, I3_lt, I3_le, I3_eq, I6_lt, I6_le, I6_eq, I3_cl, I3_64, I6_32, cmp_pos', cmp_neg', cmp_eq', inb_I, cond_true, cond_false, aI_ok, aJ_ok, aA_ok, aV_ok', aI_thr, aJ_thr, aA_thr, aV_thr, ob_some, on_some, on_none, tg_wI, tg_wJ, tg_wR, ln_wI, ln_wJ, ln_wR, tg_cpI, ln_cpI, tg_cpR, ln_cpR, nx_wI, nx_wJ, nx_wR, sl_wI, sl_wJ, sl_wR, nx_cpI, sl_cpI, nx_cpR, sl_cpR, nx_nw, sl_nw, rJ_wI, rR_wI, rI_wJ, rR_wJ, rI_wR, rJ_wR, rJ_cpI, rR_cpI, rJ_cpR, rI_cpR, rI_wI, rJ_wJ, rq_wI, rq_wJ, rq_wR, rq_cpI, ↓reduceIte, Nat.reduceEqDiff, Nat.reduceAdd, Nat.reduceSub, Nat.reduceMul, Int.reduceAdd, Int.reduceSub, Int.reduceMul, Int.reduceNeg, Int.reduceLT, Int.reduceLE, Int.reduceEq, Int.reduceToNat, Int.sub_zero, Int.add_zero, Int.zero_add, true_and, and_true, false_and, and_false, or_true, true_or, or_false, false_or, not_true_eq_false, not_false_eq_true, eq_self, decide_true, decide_false, Bool.not_false, Bool.not_true, Bool.and_true, Bool.true_and, Bool.or_true, Bool.true_or, Bool.and_self, Bool.or_false, Bool.false_or, Bool.and_false, Bool.false_and, hn, et, c]
          rw [if_pos (by omega), show (i : Int) + 1 = ((i + 1 : Nat) : Int) by omega]
          exact a3
        · by_cases e : x = i
          · rw [e]; exact c
          · exact a4 x (by omega) x2
      · refine ⟨i, Nat.le_refl _, h2, ?_, fun x a b => by omega, Or.inr c⟩
        rw [E_X2_find_28]
        simp (disch := omega) only [I3_of, I6_of, I3_nat, I3_add, I3_sub, I3_mul, I3_neg, I6_add, I6_sub, I6_mul, I6_neg, I3_lt, I3_le, I3_eq, I6_lt, I6_le, I6_eq, I3_cl, I3_64, I6_32, cmp_pos', cmp_neg', cmp_eq', inb_I, cond_true, cond_false, aI_ok, aJ_ok, aA_ok, aV_ok', aI_thr, aJ_thr, aA_thr, aV_thr, ob_some, on_some, on_none, tg_wI, tg_wJ, tg_wR, ln_wI, ln_wJ, ln_wR, tg_cpI, ln_cpI, tg_cpR, ln_cpR, nx_wI, nx_wJ, nx_wR, sl_wI, sl_wJ, sl_wR, nx_cpI, sl_cpI, nx_cpR, sl_cpR, nx_nw, sl_nw, rJ_wI, rR_wI, rI_wJ, rR_wJ, rI_wR, rJ_wR, rJ_cpI, rR_cpI, rJ_cpR, rI_cpR, rI_wI, rJ_wJ, rq_wI, rq_wJ, rq_wR, rq_cpI, ↓reduceIte, Nat.reduceEqDiff, Nat.reduceAdd, Nat.reduceSub, Nat.reduceMul, Int.reduceAdd, Int.reduceSub, Int.reduceMul, Int.reduceNeg, Int.reduceLT, Int.reduceLE, Int.reduceEq, Int.reduceToNat, Int.sub_zero, Int.add_zero, Int.zero_add, true_and, and_true, false_and, and_false, or_true, true_or, or_false, false_or, not_true_eq_false, not_false_eq_true, eq_self, decide_true, decide_false, Bool.not_false, Bool.not_true, Bool.and_true, Bool.true_and, Bool.or_true, Bool.true_or, Bool.and_self, Bool.or_false, Bool.false_or, Bool.and_false, Bool.false_and, hn, et, c]
        rw [if_pos (by omega)]
    · refine ⟨i, Nat.le_refl _, h2, ?_, fun x a b => by omega, Or.inl (by omega)⟩
      rw [E_X2_find_28]
      simp (disch := omega) only [I3_of, I6_of, I3_nat, I3_add, I3_sub, I3_mul, I3_neg, I6_add, I6_sub, I6_mul, I6_neg, I3_lt, I3_le, I3_eq, I6_lt, I6_le, I6_eq, I3_cl, I3_64, I6_32, cmp_pos', cmp_neg', cmp_eq', inb_I, cond_true, cond_false, aI_ok, aJ_ok, aA_ok, aV_ok', aI_thr, aJ_thr, aA_thr, aV_thr, ob_some, on_some, on_none, tg_wI, tg_wJ, tg_wR, ln_wI, ln_wJ, ln_wR, tg_cpI, ln_cpI, tg_cpR, ln_cpR, nx_wI, nx_wJ, nx_wR, sl_wI, sl_wJ, sl_wR, nx_cpI, sl_cpI, nx_cpR, sl_cpR, nx_nw, sl_nw, rJ_wI, rR_wI, rI_wJ, rR_wJ, rI_wR, rJ_wR, rJ_cpI, rR_cpI, rJ_cpR, rI_cpR, rI_wI, rJ_wJ, rq_wI, rq_wJ, rq_wR, rq_cpI, ↓reduceIte, Nat.reduceEqDiff, Nat.reduceAdd, Nat.reduceSub, Nat.reduceMul, Int.reduceAdd, Int.reduceSub, Int.reduceMul, Int.reduceNeg, Int.reduceLT, Int.reduceLE, Int.reduceEq, Int.reduceToNat, Int.sub_zero, Int.add_zero, Int.zero_add, true_and, and_true, false_and, and_false, or_true, true_or, or_false, false_or, not_true_eq_false, not_false_eq_true, eq_self, decide_true, decide_false, Bool.not_false, Bool.not_true, Bool.and_true, Bool.true_and, Bool.or_true, Bool.true_or, Bool.and_self, Bool.or_false, Bool.false_or, Bool.and_false, Bool.false_and, hn]
      rw [if_neg (by omega)]
/-- a run is put down -/
theorem push_run (d : Nat) {s : St} {n m j b i r : Nat} {kv : Int32} (hn : rI s 629 0 = I3 n) (hm : rI s 629 1 = I3 m) (hr : rI s 629 10 = I3 r) (n1 : n ≤ 64) (m1 : m ≤ 64) (hj : j < m) (hb : b < i) (hi : i ≤ n) (r1 : r < 4096) :
    DD L d 142 57 [.ref 629, .int kv, .int (I3 j), .int (I3 i), .int (I3 b)] s = DD L d 142 17 [.ref 629, .int kv, .int (I3 j), .int (I3 i)] (wI (wI (wI (wI (wI (wI s 633 r (I3 j)) 634 r (I3 b)) 635 r (I3 ((i : Int) - 1))) 636 r (I3 r)) 637 r (bi (b = 0 ∨ i = n ∨ j = 0 ∨ j + 1 = m))) 629 10 (I3 ((r : Int) + 1))) := by
  have t1 : ∀ s : St, tg (FF L) s 637 = 67 := fun _ => rfl
  have t2 : ∀ s : St, ln (FF L) s 637 = 4096 := fun _ => rfl
  have m1' : Nat.beq 67 66 = false := rfl
  have m2' : Nat.beq 67 67 = true := rfl
  have z0 : (I3 0 == I3 0 || I3 0 == I3 1) = true := rfl
  have z1 : (I3 1 == I3 0 || I3 1 == I3 1) = true := rfl
  rw [E_X2_find_57]
  simp (disch := omega) only [I3_of, I6_of, I3_nat, I3_add, I3_sub, I3_mul, I3_neg, I6_add, I6_sub, I6_mul, I6_neg, I3_lt, I3_le, I3_eq, I6_lt, I6_le, I6_eq, I3_cl, I3_64, I6_32, cmp_pos', cmp_neg', cmp_eq', inb_I, cond_true, cond_false, aI_ok, aJ_ok, aA_ok, aV_ok', aI_thr, aJ_thr, aA_thr, aV_thr, ob_some, on_some, on_none, tg_wI, tg_wJ, tg_wR, ln_wI, ln_wJ, ln_wR, tg_cpI, ln_cpI, tg_cpR, ln_cpR, nx_wI, nx_wJ, nx_wR, sl_wI, sl_wJ, sl_wR, nx_cpI, sl_cpI, nx_cpR, sl_cpR, nx_nw, sl_nw, rJ_wI, rR_wI, rI_wJ, rR_wJ, rI_wR, rJ_wR, rJ_cpI, rR_cpI, rJ_cpR, rI_cpR, rI_wI, rJ_wJ, rq_wI, rq_wJ, rq_wR, rq_cpI, ↓reduceIte, Nat.reduceEqDiff, Nat.reduceAdd, Nat.reduceSub, Nat.reduceMul, Int.reduceAdd, Int.reduceSub, Int.reduceMul, Int.reduceNeg, Int.reduceLT, Int.reduceLE, Int.reduceEq, Int.reduceToNat, Int.sub_zero, Int.add_zero, Int.zero_add, true_and, and_true, false_and, and_false, or_true, true_or, or_false, false_or, not_true_eq_false, not_false_eq_true, eq_self, decide_true, decide_false, Bool.not_false, Bool.not_true, Bool.and_true, Bool.true_and, Bool.or_true, Bool.true_or, Bool.and_self, Bool.or_false, Bool.false_or, Bool.and_false, Bool.false_and, hn, hm, hr, E_X2_find_144, E_X2_find_149, t1, t2, m1', m2', Int.toNat_natCast, z0, z1]
  rw [if_pos (by omega)]
  by_cases c0 : b = 0
  · rw [if_pos (by omega), bi_pos (Or.inl c0)]
  rw [if_neg (by omega)]
  by_cases c1 : i = n
  · rw [if_pos (by omega), bi_pos (Or.inr (Or.inl c1))]
  rw [if_neg (by omega)]
  by_cases c2 : j = 0
  · rw [if_pos (by omega), bi_pos (Or.inr (Or.inr (Or.inl c2)))]
  rw [if_neg (by omega)]
  by_cases c3 : j + 1 = m
  · rw [if_pos (by omega), bi_pos (Or.inr (Or.inr (Or.inr c3)))]
  · rw [if_neg (by omega), bi_neg (by omega)]
theorem find_loop (d : Nat) {s0 : St} {n m : Nat} {kv : Int32} (hn : rI s0 629 0 = I3 n) (hm : rI s0 629 1 = I3 m) (n1 : n ≤ 64) (m1 : m ≤ 64) :
    ∀ (t i j : Nat) (s : St) (r : Nat) (ro fr to : Nat → Nat), (m - 1 - j) * 67 + (n + 2 - i) ≤ t → i ≤ n → j < m → FInv s0 s n m kv j i r ro fr to →
    ∃ τ r ro fr to, DD L d 142 17 [.ref 629, .int kv, .int (I3 j), .int (I3 i)] s = ok none τ ∧ FInv s0 τ n m kv m 0 r ro fr to := by
  intro t
  induction t with
  | zero => intro i j s r ro fr to h1 h2 h3; omega
  | succ t ih =>
    intro i j s r ro fr to ht hi hj hI
    have hI0 := hI
    obtain ⟨f1, f2, f3, f4, f5, ⟨g1, g2, g3⟩, g4, g5, g6, g7⟩ := hI
    have en : rI s 629 0 = I3 n := (f5 0 (by omega)).trans hn
    have em : rI s 629 1 = I3 m := (f5 1 (by omega)).trans hm
    have e6 : ∀ x, rI s 630 x = rI s0 630 x := fun x => f4 630 x (by omega) (by omega) (by omega) (by omega) (by omega) (by omega)
    by_cases hin : i < n
    · have go0 : DD L d 142 17 [.ref 629, .int kv, .int (I3 j), .int (I3 i)] s = DD L d 142 28 [.ref 629, .int kv, .int (I3 j), .int (I3 i), .int (I3 i)] s := by
        rw [E_X2_find_17]
        simp (disch := omega) only [I3_of, I6_of, I3_nat, I3_add, I3_sub, I3_mul, I3_neg, I6_add, I6_sub, I6_mul, I6_neg, I3_lt, I3_le, I3_eq, I6_lt, I6_le, I6_eq, I3_cl, I3_64, I6_32, cmp_pos', cmp_neg', cmp_eq', inb_I, cond_true, cond_false, aI_ok, aJ_ok, aA_ok, aV_ok', aI_thr, aJ_thr, aA_thr, aV_thr, ob_some, on_some, on_none, tg_wI, tg_wJ, tg_wR, ln_wI, ln_wJ, ln_wR, tg_cpI, ln_cpI, tg_cpR, ln_cpR, nx_wI, nx_wJ, nx_wR, sl_wI, sl_wJ, sl_wR, nx_cpI, sl_cpI, nx_cpR, sl_cpR, nx_nw, sl_nw, rJ_wI, rR_wI, rI_wJ, rR_wJ, rI_wR, rJ_wR, rJ_cpI, rR_cpI, rJ_cpR, rI_cpR, rI_wI, rJ_wJ, rq_wI, rq_wJ, rq_wR, rq_cpI, ↓reduceIte, Nat.reduceEqDiff, Nat.reduceAdd, Nat.reduceSub, Nat.reduceMul, Int.reduceAdd, Int.reduceSub, Int.reduceMul, Int.reduceNeg, Int.reduceLT, Int.reduceLE, Int.reduceEq, Int.reduceToNat, Int.sub_zero, Int.add_zero, Int.zero_add, true_and, and_true, false_and, and_false, or_true, true_or, or_false, false_or, not_true_eq_false, not_false_eq_true, eq_self, decide_true, decide_false, Bool.not_false, Bool.not_true, Bool.and_true, Bool.true_and, Bool.or_true, Bool.true_or, Bool.and_self, Bool.or_false, Bool.false_or, Bool.and_false, Bool.false_and, en]
        rw [if_pos (by omega)]
      obtain ⟨i', a1, a2, a3, a4, a5⟩ := scan (L := L) d (m := m) (j := j) (b := i) (kv := kv) en n1 m1 hj _ i (Nat.le_refl _) (by omega)
      rw [go0, a3]
      by_cases hp : i < i'
      · rw [push_run d en em g1 n1 m1 hj hp a2 (by omega)]
        refine ih i' j _ (r + 1) (fun k => if k = r then j else ro k) (fun k => if k = r then i else fr k) (fun k => if k = r then i' - 1 else to k) (by omega) (by omega) hj ?_
        have gap : ∀ k, k < r → ro k = j → to k + 1 < i := by
          intro k hk e
          rcases g6 k hk with q | ⟨-, (q | ⟨q1, (q | q)⟩)⟩
          · omega
          · exact q
          · omega
          · have := a4 i (Nat.le_refl _) hp
            rw [e6] at this
            exact absurd this q
        refine ⟨?_, f2, f3, fun a k h1 h2 h3 h4 h5 h6 => ?_, fun k hk => ?_, ⟨?_, fun k hk => ?_, fun k l hkl hl => ?_⟩, fun k hk => ?_, by omega, fun k hk => ?_, fun x y hx hy hxy hA => ?_⟩
        · exact fr_wI' (fr_wI' (fr_wI' (fr_wI' (fr_wI' (fr_wI' f1 rfl) rfl) rfl) rfl) rfl) rfl
        · simp (disch := omega) only [I3_of, I6_of, I3_nat, I3_add, I3_sub, I3_mul, I3_neg, I6_add, I6_sub, I6_mul, I6_neg, I3_lt, I3_le, I3_eq, I6_lt, I6_le, I6_eq, I3_cl, I3_64, I6_32, cmp_pos', cmp_neg', cmp_eq', inb_I, cond_true, cond_false, aI_ok, aJ_ok, aA_ok, aV_ok', aI_thr, aJ_thr, aA_thr, aV_thr, ob_some, on_some, on_none, tg_wI, tg_wJ, tg_wR, ln_wI, ln_wJ, ln_wR, tg_cpI, ln_cpI, tg_cpR, ln_cpR, nx_wI, nx_wJ, nx_wR, sl_wI, sl_wJ, sl_wR, nx_cpI, sl_cpI, nx_cpR, sl_cpR, nx_nw, sl_nw, rJ_wI, rR_wI, rI_wJ, rR_wJ, rI_wR, rJ_wR, rJ_cpI, rR_cpI, rJ_cpR, rI_cpR, rI_wI, rJ_wJ, rq_wI, rq_wJ, rq_wR, rq_cpI, ↓reduceIte, Nat.reduceEqDiff, Nat.reduceAdd, Nat.reduceSub, Nat.reduceMul, Int.reduceAdd, Int.reduceSub, Int.reduceMul, Int.reduceNeg, Int.reduceLT, Int.reduceLE, Int.reduceEq, Int.reduceToNat, Int.sub_zero, Int.add_zero, Int.zero_add, true_and, and_true, false_and, and_false, or_true, true_or, or_false, false_or, not_true_eq_false, not_false_eq_true, eq_self, decide_true, decide_false, Bool.not_false, Bool.not_true, Bool.and_true, Bool.true_and, Bool.or_true, Bool.true_or, Bool.and_self, Bool.or_false, Bool.false_or, Bool.and_false, Bool.false_and, h1, h2, h3, h4, h5, h6]
          exact f4 a k h1 h2 h3 h4 h5 h6
        · simp (disch := omega) only [I3_of, I6_of, I3_nat, I3_add, I3_sub, I3_mul, I3_neg, I6_add, I6_sub, I6_mul, I6_neg, I3_lt, I3_le, I3_eq, I6_lt, I6_le, I6_eq, I3_cl, I3_64, I6_32, cmp_pos', cmp_neg', cmp_eq', inb_I, cond_true, cond_false, aI_ok, aJ_ok, aA_ok, aV_ok', aI_thr, aJ_thr, aA_thr, aV_thr, ob_some, on_some, on_none, tg_wI, tg_wJ, tg_wR, ln_wI, ln_wJ, ln_wR, tg_cpI, ln_cpI, tg_cpR, ln_cpR, nx_wI, nx_wJ, nx_wR, sl_wI, sl_wJ, sl_wR, nx_cpI, sl_cpI, nx_cpR, sl_cpR, nx_nw, sl_nw, rJ_wI, rR_wI, rI_wJ, rR_wJ, rI_wR, rJ_wR, rJ_cpI, rR_cpI, rJ_cpR, rI_cpR, rI_wI, rJ_wJ, rq_wI, rq_wJ, rq_wR, rq_cpI, ↓reduceIte, Nat.reduceEqDiff, Nat.reduceAdd, Nat.reduceSub, Nat.reduceMul, Int.reduceAdd, Int.reduceSub, Int.reduceMul, Int.reduceNeg, Int.reduceLT, Int.reduceLE, Int.reduceEq, Int.reduceToNat, Int.sub_zero, Int.add_zero, Int.zero_add, true_and, and_true, false_and, and_false, or_true, true_or, or_false, false_or, not_true_eq_false, not_false_eq_true, eq_self, decide_true, decide_false, Bool.not_false, Bool.not_true, Bool.and_true, Bool.true_and, Bool.or_true, Bool.true_or, Bool.and_self, Bool.or_false, Bool.false_or, Bool.and_false, Bool.false_and, hk]
          exact f5 k hk
        · simp (disch := omega) only [I3_of, I6_of, I3_nat, I3_add, I3_sub, I3_mul, I3_neg, I6_add, I6_sub, I6_mul, I6_neg, I3_lt, I3_le, I3_eq, I6_lt, I6_le, I6_eq, I3_cl, I3_64, I6_32, cmp_pos', cmp_neg', cmp_eq', inb_I, cond_true, cond_false, aI_ok, aJ_ok, aA_ok, aV_ok', aI_thr, aJ_thr, aA_thr, aV_thr, ob_some, on_some, on_none, tg_wI, tg_wJ, tg_wR, ln_wI, ln_wJ, ln_wR, tg_cpI, ln_cpI, tg_cpR, ln_cpR, nx_wI, nx_wJ, nx_wR, sl_wI, sl_wJ, sl_wR, nx_cpI, sl_cpI, nx_cpR, sl_cpR, nx_nw, sl_nw, rJ_wI, rR_wI, rI_wJ, rR_wJ, rI_wR, rJ_wR, rJ_cpI, rR_cpI, rJ_cpR, rI_cpR, rI_wI, rJ_wJ, rq_wI, rq_wJ, rq_wR, rq_cpI, ↓reduceIte, Nat.reduceEqDiff, Nat.reduceAdd, Nat.reduceSub, Nat.reduceMul, Int.reduceAdd, Int.reduceSub, Int.reduceMul, Int.reduceNeg, Int.reduceLT, Int.reduceLE, Int.reduceEq, Int.reduceToNat, Int.sub_zero, Int.add_zero, Int.zero_add, true_and, and_true, false_and, and_false, or_true, true_or, or_false, false_or, not_true_eq_false, not_false_eq_true, eq_self, decide_true, decide_false, Bool.not_false, Bool.not_true, Bool.and_true, Bool.true_and, Bool.or_true, Bool.true_or, Bool.and_self, Bool.or_false, Bool.false_or, Bool.and_false, Bool.false_and]
          rfl
        · by_cases e : k = r
          · simp only [if_pos e]
            simp (disch := omega) only [I3_of, I6_of, I3_nat, I3_add, I3_sub, I3_mul, I3_neg, I6_add, I6_sub, I6_mul, I6_neg, I3_lt, I3_le, I3_eq, I6_lt, I6_le, I6_eq, I3_cl, I3_64, I6_32, cmp_pos', cmp_neg', cmp_eq', inb_I, cond_true, cond_false, aI_ok, aJ_ok, aA_ok, aV_ok', aI_thr, aJ_thr, aA_thr, aV_thr, ob_some, on_some, on_none, tg_wI, tg_wJ, tg_wR, ln_wI, ln_wJ, ln_wR, tg_cpI, ln_cpI, tg_cpR, ln_cpR, nx_wI, nx_wJ, nx_wR, sl_wI, sl_wJ, sl_wR, nx_cpI, sl_cpI, nx_cpR, sl_cpR, nx_nw, sl_nw, rJ_wI, rR_wI, rI_wJ, rR_wJ, rI_wR, rJ_wR, rJ_cpI, rR_cpI, rJ_cpR, rI_cpR, rI_wI, rJ_wJ, rq_wI, rq_wJ, rq_wR, rq_cpI, ↓reduceIte, Nat.reduceEqDiff, Nat.reduceAdd, Nat.reduceSub, Nat.reduceMul, Int.reduceAdd, Int.reduceSub, Int.reduceMul, Int.reduceNeg, Int.reduceLT, Int.reduceLE, Int.reduceEq, Int.reduceToNat, Int.sub_zero, Int.add_zero, Int.zero_add, true_and, and_true, false_and, and_false, or_true, true_or, or_false, false_or, not_true_eq_false, not_false_eq_true, eq_self, decide_true, decide_false, Bool.not_false, Bool.not_true, Bool.and_true, Bool.true_and, Bool.or_true, Bool.true_or, Bool.and_self, Bool.or_false, Bool.false_or, Bool.and_false, Bool.false_and, e]
            refine ⟨by omega, hj, by omega, by omega, fun x x1 x2 => ?_⟩
            rw [← e6]; exact a4 x x1 (by omega)
          · simp only [if_neg e]
            simp (disch := omega) only [I3_of, I6_of, I3_nat, I3_add, I3_sub, I3_mul, I3_neg, I6_add, I6_sub, I6_mul, I6_neg, I3_lt, I3_le, I3_eq, I6_lt, I6_le, I6_eq, I3_cl, I3_64, I6_32, cmp_pos', cmp_neg', cmp_eq', inb_I, cond_true, cond_false, aI_ok, aJ_ok, aA_ok, aV_ok', aI_thr, aJ_thr, aA_thr, aV_thr, ob_some, on_some, on_none, tg_wI, tg_wJ, tg_wR, ln_wI, ln_wJ, ln_wR, tg_cpI, ln_cpI, tg_cpR, ln_cpR, nx_wI, nx_wJ, nx_wR, sl_wI, sl_wJ, sl_wR, nx_cpI, sl_cpI, nx_cpR, sl_cpR, nx_nw, sl_nw, rJ_wI, rR_wI, rI_wJ, rR_wJ, rI_wR, rJ_wR, rJ_cpI, rR_cpI, rJ_cpR, rI_cpR, rI_wI, rJ_wJ, rq_wI, rq_wJ, rq_wR, rq_cpI, ↓reduceIte, Nat.reduceEqDiff, Nat.reduceAdd, Nat.reduceSub, Nat.reduceMul, Int.reduceAdd, Int.reduceSub, Int.reduceMul, Int.reduceNeg, Int.reduceLT, Int.reduceLE, Int.reduceEq, Int.reduceToNat, Int.sub_zero, Int.add_zero, Int.zero_add, true_and, and_true, false_and, and_false, or_true, true_or, or_false, false_or, not_true_eq_false, not_false_eq_true, eq_self, decide_true, decide_false, Bool.not_false, Bool.not_true, Bool.and_true, Bool.true_and, Bool.or_true, Bool.true_or, Bool.and_self, Bool.or_false, Bool.false_or, Bool.and_false, Bool.false_and, e]
            exact g2 k (by omega)
        · by_cases e : l = r
          · simp only [if_pos e, if_neg (show ¬ k = r by omega)]
            rcases g6 k (by omega) with q | ⟨q, -⟩
            · exact Or.inl q
            · exact Or.inr ⟨q, gap k (by omega) q⟩
          · simp only [if_neg e, if_neg (show ¬ k = r by omega)]
            exact g3 k l hkl (by omega)
        · by_cases e : k = r
          · unfold opn
            simp only [if_pos e]
            simp (disch := omega) only [I3_of, I6_of, I3_nat, I3_add, I3_sub, I3_mul, I3_neg, I6_add, I6_sub, I6_mul, I6_neg, I3_lt, I3_le, I3_eq, I6_lt, I6_le, I6_eq, I3_cl, I3_64, I6_32, cmp_pos', cmp_neg', cmp_eq', inb_I, cond_true, cond_false, aI_ok, aJ_ok, aA_ok, aV_ok', aI_thr, aJ_thr, aA_thr, aV_thr, ob_some, on_some, on_none, tg_wI, tg_wJ, tg_wR, ln_wI, ln_wJ, ln_wR, tg_cpI, ln_cpI, tg_cpR, ln_cpR, nx_wI, nx_wJ, nx_wR, sl_wI, sl_wJ, sl_wR, nx_cpI, sl_cpI, nx_cpR, sl_cpR, nx_nw, sl_nw, rJ_wI, rR_wI, rI_wJ, rR_wJ, rI_wR, rJ_wR, rJ_cpI, rR_cpI, rJ_cpR, rI_cpR, rI_wI, rJ_wJ, rq_wI, rq_wJ, rq_wR, rq_cpI, ↓reduceIte, Nat.reduceEqDiff, Nat.reduceAdd, Nat.reduceSub, Nat.reduceMul, Int.reduceAdd, Int.reduceSub, Int.reduceMul, Int.reduceNeg, Int.reduceLT, Int.reduceLE, Int.reduceEq, Int.reduceToNat, Int.sub_zero, Int.add_zero, Int.zero_add, true_and, and_true, false_and, and_false, or_true, true_or, or_false, false_or, not_true_eq_false, not_false_eq_true, eq_self, decide_true, decide_false, Bool.not_false, Bool.not_true, Bool.and_true, Bool.true_and, Bool.or_true, Bool.true_or, Bool.and_self, Bool.or_false, Bool.false_or, Bool.and_false, Bool.false_and, e]
            exact bi_congr (by omega)
          · have := g4 k (by omega)
            unfold opn at this ⊢
            simp only [if_neg e]
            simp (disch := omega) only [I3_of, I6_of, I3_nat, I3_add, I3_sub, I3_mul, I3_neg, I6_add, I6_sub, I6_mul, I6_neg, I3_lt, I3_le, I3_eq, I6_lt, I6_le, I6_eq, I3_cl, I3_64, I6_32, cmp_pos', cmp_neg', cmp_eq', inb_I, cond_true, cond_false, aI_ok, aJ_ok, aA_ok, aV_ok', aI_thr, aJ_thr, aA_thr, aV_thr, ob_some, on_some, on_none, tg_wI, tg_wJ, tg_wR, ln_wI, ln_wJ, ln_wR, tg_cpI, ln_cpI, tg_cpR, ln_cpR, nx_wI, nx_wJ, nx_wR, sl_wI, sl_wJ, sl_wR, nx_cpI, sl_cpI, nx_cpR, sl_cpR, nx_nw, sl_nw, rJ_wI, rR_wI, rI_wJ, rR_wJ, rI_wR, rJ_wR, rJ_cpI, rR_cpI, rJ_cpR, rI_cpR, rI_wI, rJ_wJ, rq_wI, rq_wJ, rq_wR, rq_cpI, ↓reduceIte, Nat.reduceEqDiff, Nat.reduceAdd, Nat.reduceSub, Nat.reduceMul, Int.reduceAdd, Int.reduceSub, Int.reduceMul, Int.reduceNeg, Int.reduceLT, Int.reduceLE, Int.reduceEq, Int.reduceToNat, Int.sub_zero, Int.add_zero, Int.zero_add, true_and, and_true, false_and, and_false, or_true, true_or, or_false, false_or, not_true_eq_false, not_false_eq_true, eq_self, decide_true, decide_false, Bool.not_false, Bool.not_true, Bool.and_true, Bool.true_and, Bool.or_true, Bool.true_or, Bool.and_self, Bool.or_false, Bool.false_or, Bool.and_false, Bool.false_and, e]
            exact this
        · by_cases e : k = r
          · simp only [if_pos e]
            refine Or.inr ⟨by trivial, Or.inr ⟨by omega, ?_⟩⟩
            rcases a5 with q | q
            · exact Or.inl q
            · exact Or.inr (by rw [← e6]; exact q)
          · simp only [if_neg e]
            rcases g6 k (by omega) with q | ⟨q, -⟩
            · exact Or.inl q
            · exact Or.inr ⟨q, Or.inl (by have := gap k (by omega) q; omega)⟩
        · by_cases c : y < j ∨ (y = j ∧ x < i)
          · obtain ⟨k, k1, k2, k3, k4⟩ := g7 x y hx hy c hA
            refine ⟨k, by omega, ?_, ?_, ?_⟩ <;> simp only [if_neg (show ¬ k = r by omega)]
            · exact k2
            · exact k3
            · exact k4
          · refine ⟨r, by omega, ?_, ?_, ?_⟩ <;> simp only [if_pos]
            · omega
            · omega
            · omega
      · have e : i' = i := by omega
        subst e
        rw [E_X2_find_57]
        simp (disch := omega) only [I3_of, I6_of, I3_nat, I3_add, I3_sub, I3_mul, I3_neg, I6_add, I6_sub, I6_mul, I6_neg, I3_lt, I3_le, I3_eq, I6_lt, I6_le, I6_eq, I3_cl, I3_64, I6_32, cmp_pos', cmp_neg', cmp_eq', inb_I, cond_true, cond_false, aI_ok, aJ_ok, aA_ok, aV_ok', aI_thr, aJ_thr, aA_thr, aV_thr, ob_some, on_some, on_none, tg_wI, tg_wJ, tg_wR, ln_wI, ln_wJ, ln_wR, tg_cpI, ln_cpI, tg_cpR, ln_cpR, nx_wI, nx_wJ, nx_wR, sl_wI, sl_wJ, sl_wR, nx_cpI, sl_cpI, nx_cpR, sl_cpR, nx_nw, sl_nw, rJ_wI, rR_wI, rI_wJ, rR_wJ, rI_wR, rJ_wR, rJ_cpI, rR_cpI, rJ_cpR, rI_cpR, rI_wI, rJ_wJ, rq_wI, rq_wJ, rq_wR, rq_cpI, ↓reduceIte, Nat.reduceEqDiff, Nat.reduceAdd, Nat.reduceSub, Nat.reduceMul, Int.reduceAdd, Int.reduceSub, Int.reduceMul, Int.reduceNeg, Int.reduceLT, Int.reduceLE, Int.reduceEq, Int.reduceToNat, Int.sub_zero, Int.add_zero, Int.zero_add, true_and, and_true, false_and, and_false, or_true, true_or, or_false, false_or, not_true_eq_false, not_false_eq_true, eq_self, decide_true, decide_false, Bool.not_false, Bool.not_true, Bool.and_true, Bool.true_and, Bool.or_true, Bool.true_or, Bool.and_self, Bool.or_false, Bool.false_or, Bool.and_false, Bool.false_and]
        rw [if_neg (by omega), show (i' : Int) + 1 = ((i' + 1 : Nat) : Int) by omega]
        have hne : rI s0 630 (64 * j + i') ≠ kv := by
          rcases a5 with q | q
          · omega
          · rw [← e6]; exact q
        refine ih (i' + 1) j s r ro fr to (by omega) (by omega) hj ⟨f1, f2, f3, f4, f5, ⟨g1, g2, g3⟩, g4, by omega, fun k hk => ?_, fun x y hx hy hxy hA => ?_⟩
        · rcases g6 k hk with q | ⟨q, w⟩
          · exact Or.inl q
          · exact Or.inr ⟨q, Or.inl (by omega)⟩
        · by_cases c : y < j ∨ (y = j ∧ x < i')
          · exact g7 x y hx hy c hA
          · have e1 : y = j := by omega
            have e2 : x = i' := by omega
            subst e1; subst e2
            exact absurd hA hne
    · have go0 : DD L d 142 17 [.ref 629, .int kv, .int (I3 j), .int (I3 i)] s = DD L d 142 7 [.ref 629, .int kv, .int (I3 ((j + 1 : Nat) : Int))] s := by
        rw [E_X2_find_17]
        simp (disch := omega) only [I3_of, I6_of, I3_nat, I3_add, I3_sub, I3_mul, I3_neg, I6_add, I6_sub, I6_mul, I6_neg, I3_lt, I3_le, I3_eq, I6_lt, I6_le, I6_eq, I3_cl, I3_64, I6_32, cmp_pos', cmp_neg', cmp_eq', inb_I, cond_true, cond_false, aI_ok, aJ_ok, aA_ok, aV_ok', aI_thr, aJ_thr, aA_thr, aV_thr, ob_some, on_some, on_none, tg_wI, tg_wJ, tg_wR, ln_wI, ln_wJ, ln_wR, tg_cpI, ln_cpI, tg_cpR, ln_cpR, nx_wI, nx_wJ, nx_wR, sl_wI, sl_wJ, sl_wR, nx_cpI, sl_cpI, nx_cpR, sl_cpR, nx_nw, sl_nw, rJ_wI, rR_wI, rI_wJ, rR_wJ, rI_wR, rJ_wR, rJ_cpI, rR_cpI, rJ_cpR, rI_cpR, rI_wI, rJ_wJ, rq_wI, rq_wJ, rq_wR, rq_cpI, ↓reduceIte, Nat.reduceEqDiff, Nat.reduceAdd, Nat.reduceSub, Nat.reduceMul, Int.reduceAdd, Int.reduceSub, Int.reduceMul, Int.reduceNeg, Int.reduceLT, Int.reduceLE, Int.reduceEq, Int.reduceToNat, Int.sub_zero, Int.add_zero, Int.zero_add, true_and, and_true, false_and, and_false, or_true, true_or, or_false, false_or, not_true_eq_false, not_false_eq_true, eq_self, decide_true, decide_false, Bool.not_false, Bool.not_true, Bool.and_true, Bool.true_and, Bool.or_true, Bool.true_or, Bool.and_self, Bool.or_false, Bool.false_or, Bool.and_false, Bool.false_and, en]
        rw [if_neg (by omega), show (j : Int) + 1 = ((j + 1 : Nat) : Int) by omega]
      have inv : FInv s0 s n m kv (j + 1) 0 r ro fr to := by
        refine ⟨f1, f2, f3, f4, f5, ⟨g1, g2, g3⟩, g4, ?_, fun k hk => ?_, fun x y hx hy hxy hA => g7 x y hx hy (by omega) hA⟩
        · omega
        · rcases g6 k hk with q | ⟨q, -⟩
          · exact Or.inl (by omega)
          · exact Or.inl (by omega)
      rw [go0, E_X2_find_7]
      simp (disch := omega) only [I3_of, I6_of, I3_nat, I3_add, I3_sub, I3_mul, I3_neg, I6_add, I6_sub, I6_mul, I6_neg, I3_lt, I3_le, I3_eq, I6_lt, I6_le, I6_eq, I3_cl, I3_64, I6_32, cmp_pos', cmp_neg', cmp_eq', inb_I, cond_true, cond_false, aI_ok, aJ_ok, aA_ok, aV_ok', aI_thr, aJ_thr, aA_thr, aV_thr, ob_some, on_some, on_none, tg_wI, tg_wJ, tg_wR, ln_wI, ln_wJ, ln_wR, tg_cpI, ln_cpI, tg_cpR, ln_cpR, nx_wI, nx_wJ, nx_wR, sl_wI, sl_wJ, sl_wR, nx_cpI, sl_cpI, nx_cpR, sl_cpR, nx_nw, sl_nw, rJ_wI, rR_wI, rI_wJ, rR_wJ, rI_wR, rJ_wR, rJ_cpI, rR_cpI, rJ_cpR, rI_cpR, rI_wI, rJ_wJ, rq_wI, rq_wJ, rq_wR, rq_cpI, ↓reduceIte, Nat.reduceEqDiff, Nat.reduceAdd, Nat.reduceSub, Nat.reduceMul, Int.reduceAdd, Int.reduceSub, Int.reduceMul, Int.reduceNeg, Int.reduceLT, Int.reduceLE, Int.reduceEq, Int.reduceToNat, Int.sub_zero, Int.add_zero, Int.zero_add, true_and, and_true, false_and, and_false, or_true, true_or, or_false, false_or, not_true_eq_false, not_false_eq_true, eq_self, decide_true, decide_false, Bool.not_false, Bool.not_true, Bool.and_true, Bool.true_and, Bool.or_true, Bool.true_or, Bool.and_self, Bool.or_false, Bool.false_or, Bool.and_false, Bool.false_and, em]
      by_cases cj : j + 1 < m
      · rw [if_pos (by omega)]
        exact ih 0 (j + 1) s r ro fr to (by omega) (by omega) cj inv
      · rw [if_neg (by omega)]
        have e : j + 1 = m := by omega
        rw [e] at inv
        exact ⟨s, r, ro, fr, to, rfl, inv⟩
theorem find_h (d : Nat) {s : St} {n m : Nat} {kv : Int32} (hn : rI s 629 0 = I3 n) (hm : rI s 629 1 = I3 m) (n0 : 1 ≤ n) (m0 : 1 ≤ m) (n1 : n ≤ 64) (m1 : m ≤ 64) :
    ∃ τ r ro fr to, DD L d 142 0 [.ref 629, .int kv] s = ok none τ ∧ FInv s τ n m kv m 0 r ro fr to := by
  have go0 : DD L d 142 0 [.ref 629, .int kv] s = DD L d 142 17 [.ref 629, .int kv, .int (I3 ((0 : Nat) : Int)), .int (I3 ((0 : Nat) : Int))] (wI s 629 10 (I3 0)) := by
    rw [E_X2_find_0, E_X2_find_7]
    simp (disch := omega) only [I3_of, I6_of, I3_nat, I3_add, I3_sub, I3_mul, I3_neg, I6_add, I6_sub, I6_mul, I6_neg, I3_lt, I3_le, I3_eq, I6_lt, I6_le, I6_eq, I3_cl, I3_64, I6_32, cmp_pos', cmp_neg', cmp_eq', inb_I, cond_true, cond_false, aI_ok, aJ_ok, aA_ok, aV_ok', aI_thr, aJ_thr, aA_thr, aV_thr, ob_some, on_some, on_none, tg_wI, tg_wJ, tg_wR, ln_wI, ln_wJ, ln_wR, tg_cpI, ln_cpI, tg_cpR, ln_cpR, nx_wI, nx_wJ, nx_wR, sl_wI, sl_wJ, sl_wR, nx_cpI, sl_cpI, nx_cpR, sl_cpR, nx_nw, sl_nw, rJ_wI, rR_wI, rI_wJ, rR_wJ, rI_wR, rJ_wR, rJ_cpI, rR_cpI, rJ_cpR, rI_cpR, rI_wI, rJ_wJ, rq_wI, rq_wJ, rq_wR, rq_cpI, ↓reduceIte, Nat.reduceEqDiff, Nat.reduceAdd, Nat.reduceSub, Nat.reduceMul, Int.reduceAdd, Int.reduceSub, Int.reduceMul, Int.reduceNeg, Int.reduceLT, Int.reduceLE, Int.reduceEq, Int.reduceToNat, Int.sub_zero, Int.add_zero, Int.zero_add, true_and, and_true, false_and, and_false, or_true, true_or, or_false, false_or, not_true_eq_false, not_false_eq_true, eq_self, decide_true, decide_false, Bool.not_false, Bool.not_true, Bool.and_true, Bool.true_and, Bool.or_true, Bool.true_or, Bool.and_self, Bool.or_false, Bool.false_or, Bool.and_false, Bool.false_and, hm]
    rw [if_pos (by omega)]
    rfl
  obtain ⟨τ, r, ro, fr, to, h1, h2⟩ := find_loop (L := L) d (s0 := s) (kv := kv) hn hm n1 m1 _ 0 0 (wI s 629 10 (I3 0)) 0 (fun _ => 0) (fun _ => 0) (fun _ => 0) (Nat.le_refl _) (by omega) (by omega)
    ⟨fr_wI rfl, rfl, rfl, fun a k h _ _ _ _ _ => rI_wIn h, fun k hk => by simp (disch := omega) only [I3_of, I6_of, I3_nat, I3_add, I3_sub, I3_mul, I3_neg, I6_add, I6_sub, I6_mul, I6_neg, I3_lt, I3_le, I3_eq, I6_lt, I6_le, I6_eq, I3_cl, I3_64, I6_32, cmp_pos', cmp_neg', cmp_eq', inb_I, cond_true, cond_false, aI_ok, aJ_ok, aA_ok, aV_ok', aI_thr, aJ_thr, aA_thr, aV_thr, ob_some, on_some, on_none, tg_wI, tg_wJ, tg_wR, ln_wI, ln_wJ, ln_wR, tg_cpI, ln_cpI, tg_cpR, ln_cpR, nx_wI, nx_wJ, nx_wR, sl_wI, sl_wJ, sl_wR, nx_cpI, sl_cpI, nx_cpR, sl_cpR, nx_nw, sl_nw, rJ_wI, rR_wI, rI_wJ, rR_wJ, rI_wR, rJ_wR, rJ_cpI, rR_cpI, rJ_cpR, rI_cpR, rI_wI, rJ_wJ, rq_wI, rq_wJ, rq_wR, rq_cpI, ↓reduceIte, Nat.reduceEqDiff, Nat.reduceAdd, Nat.reduceSub, Nat.reduceMul, Int.reduceAdd, Int.reduceSub, Int.reduceMul, Int.reduceNeg, Int.reduceLT, Int.reduceLE, Int.reduceEq, Int.reduceToNat, Int.sub_zero, Int.add_zero, Int.zero_add, true_and, and_true, false_and, and_false, or_true, true_or, or_false, false_or, not_true_eq_false, not_false_eq_true, eq_self, decide_true, decide_false, Bool.not_false, Bool.not_true, Bool.and_true, Bool.true_and, Bool.or_true, Bool.true_or, Bool.and_self, Bool.or_false, Bool.false_or, Bool.and_false, Bool.false_and, hk], ⟨by simp (disch := omega) only [I3_of, I6_of, I3_nat, I3_add, I3_sub, I3_mul, I3_neg, I6_add, I6_sub, I6_mul, I6_neg, I3_lt, I3_le, I3_eq, I6_lt, I6_le, I6_eq, I3_cl, I3_64, I6_32, cmp_pos', cmp_neg', cmp_eq', inb_I, cond_true, cond_false, aI_ok, aJ_ok, aA_ok, aV_ok', aI_thr, aJ_thr, aA_thr, aV_thr, ob_some, on_some, on_none, tg_wI, tg_wJ, tg_wR, ln_wI, ln_wJ, ln_wR, tg_cpI, ln_cpI, tg_cpR, ln_cpR, nx_wI, nx_wJ, nx_wR, sl_wI, sl_wJ, sl_wR, nx_cpI, sl_cpI, nx_cpR, sl_cpR, nx_nw, sl_nw, rJ_wI, rR_wI, rI_wJ, rR_wJ, rI_wR, rJ_wR, rJ_cpI, rR_cpI, rJ_cpR, rI_cpR, rI_wI, rJ_wJ, rq_wI, rq_wJ, rq_wR, rq_cpI, ↓reduceIte, Nat.reduceEqDiff, Nat.reduceAdd, Nat.reduceSub, Nat.reduceMul, Int.reduceAdd, Int.reduceSub, Int.reduceMul, Int.reduceNeg, Int.reduceLT, Int.reduceLE, Int.reduceEq, Int.reduceToNat, Int.sub_zero, Int.add_zero, Int.zero_add, true_and, and_true, false_and, and_false, or_true, true_or, or_false, false_or, not_true_eq_false, not_false_eq_true, eq_self, decide_true, decide_false, Bool.not_false, Bool.not_true, Bool.and_true, Bool.true_and, Bool.or_true, Bool.true_or, Bool.and_self, Bool.or_false, Bool.false_or, Bool.and_false, Bool.false_and]; rfl, fun k hk => by omega, fun k l _ hl => by omega⟩, fun k hk => by omega, by omega, fun k hk => by omega, fun x y _ _ h => by omega⟩
  exact ⟨τ, r, ro, fr, to, go0.trans h1, h2⟩
end FIND
