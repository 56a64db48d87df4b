/-! ===== the model's sets of cells ===== -/
section FLOOD
variable {L : Nat}
def Gin (n m c : Nat) : Prop := c % 64 < n ∧ c / 64 < m
def near (sd : Prop) (x y : Nat) : Prop := x ≠ y ∧ x % 64 ≤ y % 64 + 1 ∧ y % 64 ≤ x % 64 + 1 ∧ x / 64 ≤ y / 64 + 1 ∧ y / 64 ≤ x / 64 + 1 ∧ (sd → x % 64 = y % 64 ∨ x / 64 = y / 64)
def Adj (n m : Nat) (A : Nat → Int32) (kv : Int32) (x y : Nat) : Prop := Gin n m x ∧ Gin n m y ∧ A x = kv ∧ A y = kv ∧ near (kv = I3 1) x y
theorem near_sym {sd : Prop} {x y : Nat} (h : near sd x y) : near sd y x := by
  obtain ⟨h1, h2, h3, h4, h5, h6⟩ := h
  exact ⟨fun e => h1 e.symm, h3, h2, h5, h4, fun q => (h6 q).elim (fun e => Or.inl e.symm) (fun e => Or.inr e.symm)⟩
theorem adj_sym {n m : Nat} {A : Nat → Int32} {kv : Int32} (x y : Nat) (h : Adj n m A kv x y) : Adj n m A kv y x := ⟨h.2.1, h.1, h.2.2.2.1, h.2.2.1, near_sym h.2.2.2.2⟩
def inner (n m c : Nat) : Prop := 0 < c % 64 ∧ 0 < c / 64 ∧ c % 64 + 1 < n ∧ c / 64 + 1 < m
/-- a marked neighbour by dx and dy -/
def TT (s : St) (n m : Nat) (kv : Int32) (a b : Nat) (dx dy : Int) : Prop := ¬ (dx = 0 ∧ dy = 0) ∧ (kv = I3 1 → dx = 0 ∨ dy = 0) ∧ 0 ≤ (a : Int) + dx ∧ (a : Int) + dx < n ∧ 0 ≤ (b : Int) + dy ∧ (b : Int) + dy < m ∧ rI s 722 (64 * ((b : Int) + dy) + a + dx).toNat = I3 1
theorem t_step (d : Nat) {s : St} {n m a b : Nat} {kv : Int32} {dx dy : Int} (hn : rI s 714 10 = I3 n) (hm : rI s 714 11 = I3 m) (n1 : n ≤ 64) (m1 : m ≤ 64) (ha : a < n) (hb : b < m) (hk : kv = I3 0 ∨ kv = I3 1) (hx : dx = -1 ∨ dx = 0 ∨ dx = 1) (hy : dy = -1 ∨ dy = 0 ∨ dy = 1) :
    (TT s n m kv a b dx dy → DD L d 217 12 [.ref 714, .int (I3 a), .int (I3 b), .int kv, .int (I3 dy), .int (I3 dx)] s = ok (some (.int (I3 1))) s) ∧
    (¬ TT s n m kv a b dx dy → DD L d 217 12 [.ref 714, .int (I3 a), .int (I3 b), .int kv, .int (I3 dy), .int (I3 dx)] s = DD L d 217 12 [.ref 714, .int (I3 a), .int (I3 b), .int kv, .int (I3 dy), .int (I3 (dx + 1))] s) := by
  have key : DD L d 217 60 [.ref 714, .int (I3 a), .int (I3 b), .int kv, .int (I3 dy), .int (I3 dx), .int (I3 1)] s = (if (a : Int) + dx < 0 then DD L d 217 12 [.ref 714, .int (I3 a), .int (I3 b), .int kv, .int (I3 dy), .int (I3 (dx + 1))] s else if (b : Int) + dy < 0 then DD L d 217 12 [.ref 714, .int (I3 a), .int (I3 b), .int kv, .int (I3 dy), .int (I3 (dx + 1))] s else if (a : Int) + dx < n then (if (b : Int) + dy < m then (bif inb (I3 (64 * ((b : Int) + dy) + a + dx)) 4096 then (if rI s 722 (64 * ((b : Int) + dy) + a + dx).toNat = I3 1 then ok (some (.int (I3 1))) s else DD L d 217 12 [.ref 714, .int (I3 a), .int (I3 b), .int kv, .int (I3 dy), .int (I3 (dx + 1))] s) else none) else DD L d 217 12 [.ref 714, .int (I3 a), .int (I3 b), .int kv, .int (I3 dy), .int (I3 (dx + 1))] s) else DD L d 217 12 [.ref 714, .int (I3 a), .int (I3 b), .int kv, .int (I3 dy), .int (I3 (dx + 1))] s) := by
    rw [E_X8_touches_60]
    simp (disch := omega) only [I3_of, I6_of, I3_nat, I3_add, I3_sub, I3_mul, I3_neg, I6_add, I6_sub, I6_mul, I6_neg, I3_lt, I3_le, I3_eq, I6_lt, I6_le, I6_eq, I3_cl, I3_64, I6_32, cmp_pos', cmp_neg', cmp_eq', cond_true, cond_false, aI_ok, aJ_ok, aA_ok, aV_ok', aI_thr, aJ_thr, aA_thr, aV_thr, ob_some, on_some, on_none, tg_wI, tg_wJ, tg_wR, ln_wI, ln_wJ, ln_wR, tg_cpI, ln_cpI, tg_cpR, ln_cpR, nx_wI, nx_wJ, nx_wR, sl_wI, sl_wJ, sl_wR, nx_cpI, sl_cpI, nx_cpR, sl_cpR, nx_nw, sl_nw, rJ_wI, rR_wI, rI_wJ, rR_wJ, rI_wR, rJ_wR, rJ_cpI, rR_cpI, rJ_cpR, rI_cpR, rI_wI, rJ_wJ, rq_wI, rq_wJ, rq_wR, rq_cpI, ↓reduceIte, Nat.reduceEqDiff, Nat.reduceAdd, Nat.reduceSub, Nat.reduceMul, Int.reduceAdd, Int.reduceSub, Int.reduceMul, Int.reduceNeg, Int.reduceLT, Int.reduceLE, Int.reduceEq, Int.reduceToNat, Int.sub_zero, Int.add_zero, Int.zero_add, true_and, and_true, false_and, and_false, or_true, true_or, or_false, false_or, not_true_eq_false, not_false_eq_true, eq_self, decide_true, decide_false, Bool.not_false, Bool.not_true, Bool.and_true, Bool.true_and, Bool.or_true, Bool.true_or, Bool.and_self, Bool.or_false, Bool.false_or, Bool.and_false, Bool.false_and, hn, hm, i3_10]
  have key2 : DD L d 217 60 [.ref 714, .int (I3 a), .int (I3 b), .int kv, .int (I3 dy), .int (I3 dx), .int (I3 0)] s = DD L d 217 12 [.ref 714, .int (I3 a), .int (I3 b), .int kv, .int (I3 dy), .int (I3 (dx + 1))] s := by
    rw [E_X8_touches_60]
    simp (disch := omega) only [I3_of, I6_of, I3_nat, I3_add, I3_sub, I3_mul, I3_neg, I6_add, I6_sub, I6_mul, I6_neg, I3_lt, I3_le, I3_eq, I6_lt, I6_le, I6_eq, I3_cl, I3_64, I6_32, cmp_pos', cmp_neg', cmp_eq', cond_true, cond_false, aI_ok, aJ_ok, aA_ok, aV_ok', aI_thr, aJ_thr, aA_thr, aV_thr, ob_some, on_some, on_none, tg_wI, tg_wJ, tg_wR, ln_wI, ln_wJ, ln_wR, tg_cpI, ln_cpI, tg_cpR, ln_cpR, nx_wI, nx_wJ, nx_wR, sl_wI, sl_wJ, sl_wR, nx_cpI, sl_cpI, nx_cpR, sl_cpR, nx_nw, sl_nw, rJ_wI, rR_wI, rI_wJ, rR_wJ, rI_wR, rJ_wR, rJ_cpI, rR_cpI, rJ_cpR, rI_cpR, rI_wI, rJ_wJ, rq_wI, rq_wJ, rq_wR, rq_cpI, ↓reduceIte, Nat.reduceEqDiff, Nat.reduceAdd, Nat.reduceSub, Nat.reduceMul, Int.reduceAdd, Int.reduceSub, Int.reduceMul, Int.reduceNeg, Int.reduceLT, Int.reduceLE, Int.reduceEq, Int.reduceToNat, Int.sub_zero, Int.add_zero, Int.zero_add, true_and, and_true, false_and, and_false, or_true, true_or, or_false, false_or, not_true_eq_false, not_false_eq_true, eq_self, decide_true, decide_false, Bool.not_false, Bool.not_true, Bool.and_true, Bool.true_and, Bool.or_true, Bool.true_or, Bool.and_self, Bool.or_false, Bool.false_or, Bool.and_false, Bool.false_and]
  have hd : DD L d 217 12 [.ref 714, .int (I3 a), .int (I3 b), .int kv, .int (I3 dy), .int (I3 dx)] s = (if ¬ (dx = 0 ∧ dy = 0) ∧ (kv = I3 1 → dx = 0 ∨ dy = 0) then DD L d 217 60 [.ref 714, .int (I3 a), .int (I3 b), .int kv, .int (I3 dy), .int (I3 dx), .int (I3 1)] s else DD L d 217 60 [.ref 714, .int (I3 a), .int (I3 b), .int kv, .int (I3 dy), .int (I3 dx), .int (I3 0)] s) := by
    rw [E_X8_touches_12]
    rcases hk with rfl | rfl <;> rcases hx with rfl | rfl | rfl <;> rcases hy with rfl | rfl | rfl <;> simp (disch := omega) only [I3_of, I6_of, I3_nat, I3_add, I3_sub, I3_mul, I3_neg, I6_add, I6_sub, I6_mul, I6_neg, I3_lt, I3_le, I3_eq, I6_lt, I6_le, I6_eq, I3_cl, I3_64, I6_32, cmp_pos', cmp_neg', cmp_eq', inb_I, cond_true, cond_false, aI_ok, aJ_ok, aA_ok, aV_ok', aI_thr, aJ_thr, aA_thr, aV_thr, ob_some, on_some, on_none, tg_wI, tg_wJ, tg_wR, ln_wI, ln_wJ, ln_wR, tg_cpI, ln_cpI, tg_cpR, ln_cpR, nx_wI, nx_wJ, nx_wR, sl_wI, sl_wJ, sl_wR, nx_cpI, sl_cpI, nx_cpR, sl_cpR, nx_nw, sl_nw, rJ_wI, rR_wI, rI_wJ, rR_wJ, rI_wR, rJ_wR, rJ_cpI, rR_cpI, rJ_cpR, rI_cpR, rI_wI, rJ_wJ, rq_wI, rq_wJ, rq_wR, rq_cpI, ↓reduceIte, Nat.reduceEqDiff, Nat.reduceAdd, Nat.reduceSub, Nat.reduceMul, Int.reduceAdd, Int.reduceSub, Int.reduceMul, Int.reduceNeg, Int.reduceLT, Int.reduceLE, Int.reduceEq, Int.reduceToNat, Int.sub_zero, Int.add_zero, Int.zero_add, true_and, and_true, false_and, and_false, or_true, true_or, or_false, false_or, not_true_eq_false, not_false_eq_true, eq_self, decide_true, decide_false, Bool.not_false, Bool.not_true, Bool.and_true, Bool.true_and, Bool.or_true, Bool.true_or, Bool.and_self, Bool.or_false, Bool.false_or, Bool.and_false, Bool.false_and, E_X8_touches_55, i3_01, i3_10, false_implies, forall_const, true_implies, implies_true]
  rw [hd]
  constructor
  · intro ⟨h1, h2, h3, h4, h5, h6, h7⟩
    rw [if_pos ⟨h1, h2⟩, key, if_neg (by omega), if_neg (by omega), if_pos h4, if_pos h6, inb_I (by omega), h7, if_pos rfl]; rfl
  · intro h
    by_cases c : ¬ (dx = 0 ∧ dy = 0) ∧ (kv = I3 1 → dx = 0 ∨ dy = 0)
    · rw [if_pos c, key]
      by_cases c1 : (a : Int) + dx < 0
      · rw [if_pos c1]
      rw [if_neg c1]
      by_cases c2 : (b : Int) + dy < 0
      · rw [if_pos c2]
      rw [if_neg c2]
      by_cases c3 : (a : Int) + dx < n
      · rw [if_pos c3]
        by_cases c4 : (b : Int) + dy < m
        · rw [if_pos c4, inb_I (by omega)]
          by_cases c5 : rI s 722 (64 * ((b : Int) + dy) + a + dx).toNat = I3 1
          · exact absurd ⟨c.1, c.2, by omega, c3, by omega, c4, c5⟩ h
          · rw [if_neg c5]; rfl
        · rw [if_neg c4]
      · rw [if_neg c3]
    · rw [if_neg c, key2]
theorem t_row (d : Nat) {s : St} {n m a b : Nat} {kv : Int32} {dy : Int} (hn : rI s 714 10 = I3 n) (hm : rI s 714 11 = I3 m) (n1 : n ≤ 64) (m1 : m ≤ 64) (ha : a < n) (hb : b < m) (hk : kv = I3 0 ∨ kv = I3 1) (hy : dy = -1 ∨ dy = 0 ∨ dy = 1) :
    ((TT s n m kv a b (-1) dy ∨ TT s n m kv a b 0 dy ∨ TT s n m kv a b 1 dy) → DD L d 217 3 [.ref 714, .int (I3 a), .int (I3 b), .int kv, .int (I3 dy)] s = ok (some (.int (I3 1))) s) ∧
    (¬ (TT s n m kv a b (-1) dy ∨ TT s n m kv a b 0 dy ∨ TT s n m kv a b 1 dy) → DD L d 217 3 [.ref 714, .int (I3 a), .int (I3 b), .int kv, .int (I3 dy)] s = DD L d 217 3 [.ref 714, .int (I3 a), .int (I3 b), .int kv, .int (I3 (dy + 1))] s) := by
  have e0 : DD L d 217 3 [.ref 714, .int (I3 a), .int (I3 b), .int kv, .int (I3 dy)] s = DD L d 217 12 [.ref 714, .int (I3 a), .int (I3 b), .int kv, .int (I3 dy), .int (I3 (-1))] s := by
    rw [E_X8_touches_3]
    simp (disch := omega) only [I3_of, I6_of, I3_nat, I3_add, I3_sub, I3_mul, I3_neg, I6_add, I6_sub, I6_mul, I6_neg, I3_lt, I3_le, I3_eq, I6_lt, I6_le, I6_eq, I3_cl, I3_64, I6_32, cmp_pos', cmp_neg', cmp_eq', inb_I, cond_true, cond_false, aI_ok, aJ_ok, aA_ok, aV_ok', aI_thr, aJ_thr, aA_thr, aV_thr, ob_some, on_some, on_none, tg_wI, tg_wJ, tg_wR, ln_wI, ln_wJ, ln_wR, tg_cpI, ln_cpI, tg_cpR, ln_cpR, nx_wI, nx_wJ, nx_wR, sl_wI, sl_wJ, sl_wR, nx_cpI, sl_cpI, nx_cpR, sl_cpR, nx_nw, sl_nw, rJ_wI, rR_wI, rI_wJ, rR_wJ, rI_wR, rJ_wR, rJ_cpI, rR_cpI, rJ_cpR, rI_cpR, rI_wI, rJ_wJ, rq_wI, rq_wJ, rq_wR, rq_cpI, ↓reduceIte, Nat.reduceEqDiff, Nat.reduceAdd, Nat.reduceSub, Nat.reduceMul, Int.reduceAdd, Int.reduceSub, Int.reduceMul, Int.reduceNeg, Int.reduceLT, Int.reduceLE, Int.reduceEq, Int.reduceToNat, Int.sub_zero, Int.add_zero, Int.zero_add, true_and, and_true, false_and, and_false, or_true, true_or, or_false, false_or, not_true_eq_false, not_false_eq_true, eq_self, decide_true, decide_false, Bool.not_false, Bool.not_true, Bool.and_true, Bool.true_and, Bool.or_true, Bool.true_or, Bool.and_self, Bool.or_false, Bool.false_or, Bool.and_false, Bool.false_and]
    rw [if_pos (by omega)]
  have e1 := t_step (L := L) d (dx := -1) hn hm n1 m1 ha hb hk (Or.inl rfl) hy
  have e2 := t_step (L := L) d (dx := 0) hn hm n1 m1 ha hb hk (Or.inr (Or.inl rfl)) hy
  have e3 := t_step (L := L) d (dx := 1) hn hm n1 m1 ha hb hk (Or.inr (Or.inr rfl)) hy
  have e4 : DD L d 217 12 [.ref 714, .int (I3 a), .int (I3 b), .int kv, .int (I3 dy), .int (I3 (1 + 1))] s = DD L d 217 3 [.ref 714, .int (I3 a), .int (I3 b), .int kv, .int (I3 (dy + 1))] s := by
    rw [E_X8_touches_12]
    simp (disch := omega) only [I3_of, I6_of, I3_nat, I3_add, I3_sub, I3_mul, I3_neg, I6_add, I6_sub, I6_mul, I6_neg, I3_lt, I3_le, I3_eq, I6_lt, I6_le, I6_eq, I3_cl, I3_64, I6_32, cmp_pos', cmp_neg', cmp_eq', inb_I, cond_true, cond_false, aI_ok, aJ_ok, aA_ok, aV_ok', aI_thr, aJ_thr, aA_thr, aV_thr, ob_some, on_some, on_none, tg_wI, tg_wJ, tg_wR, ln_wI, ln_wJ, ln_wR, tg_cpI, ln_cpI, tg_cpR, ln_cpR, nx_wI, nx_wJ, nx_wR, sl_wI, sl_wJ, sl_wR, nx_cpI, sl_cpI, nx_cpR, sl_cpR, nx_nw, sl_nw, rJ_wI, rR_wI, rI_wJ, rR_wJ, rI_wR, rJ_wR, rJ_cpI, rR_cpI, rJ_cpR, rI_cpR, rI_wI, rJ_wJ, rq_wI, rq_wJ, rq_wR, rq_cpI, ↓reduceIte, Nat.reduceEqDiff, Nat.reduceAdd, Nat.reduceSub, Nat.reduceMul, Int.reduceAdd, Int.reduceSub, Int.reduceMul, Int.reduceNeg, Int.reduceLT, Int.reduceLE, Int.reduceEq, Int.reduceToNat, Int.sub_zero, Int.add_zero, Int.zero_add, true_and, and_true, false_and, and_false, or_true, true_or, or_false, false_or, not_true_eq_false, not_false_eq_true, eq_self, decide_true, decide_false, Bool.not_false, Bool.not_true, Bool.and_true, Bool.true_and, Bool.or_true, Bool.true_or, Bool.and_self, Bool.or_false, Bool.false_or, Bool.and_false, Bool.false_and]
  rw [e0]
  constructor
  · intro h
    by_cases c1 : TT s n m kv a b (-1) dy
    · exact e1.1 c1
    rw [e1.2 c1]
    by_cases c2 : TT s n m kv a b 0 dy
    · exact e2.1 c2
    refine (e2.2 c2).trans ?_
    by_cases c3 : TT s n m kv a b 1 dy
    · exact e3.1 c3
    exact absurd h (by simp only [c1, c2, c3, or_self, not_false_eq_true])
  · intro h
    simp only [not_or] at h
    rw [e1.2 h.1]
    refine (e2.2 h.2.1).trans ?_
    exact (e3.2 h.2.2).trans e4
/-- a neighbour is marked -/
def Tch (s : St) (n m : Nat) (kv : Int32) (x : Nat) : Prop := ∃ y, Gin n m y ∧ near (kv = I3 1) x y ∧ rI s 722 y = I3 1
theorem tch_iff {s : St} {n m a b : Nat} {kv : Int32} (n1 : n ≤ 64) (m1 : m ≤ 64) (ha : a < n) (hb : b < m) :
    Tch s n m kv (64 * b + a) ↔ ∃ dx dy : Int, (dx = -1 ∨ dx = 0 ∨ dx = 1) ∧ (dy = -1 ∨ dy = 0 ∨ dy = 1) ∧ TT s n m kv a b dx dy := by
  constructor
  · intro ⟨y, ⟨g1, g2⟩, ⟨h1, h2, h3, h4, h5, h6⟩, h7⟩
    refine ⟨(y % 64 : Nat) - (a : Int), (y / 64 : Nat) - (b : Int), by omega, by omega, ?_, ?_, by omega, by omega, by omega, by omega, ?_⟩
    · omega
    · intro q
      have := h6 q
      omega
    · rw [show (64 * ((b : Int) + ((y / 64 : Nat) - (b : Int))) + a + ((y % 64 : Nat) - (a : Int))).toNat = y by omega]
      exact h7
  · intro ⟨dx, dy, hx, hy, h1, h2, h3, h4, h5, h6, h7⟩
    refine ⟨(64 * ((b : Int) + dy) + a + dx).toNat, ⟨by omega, by omega⟩, ⟨by omega, by omega, by omega, by omega, by omega, fun q => ?_⟩, h7⟩
    have := h2 q
    omega
theorem touches_m (d : Nat) {s : St} {n m a b : Nat} {kv : Int32} (hn : rI s 714 10 = I3 n) (hm : rI s 714 11 = I3 m) (n1 : n ≤ 64) (m1 : m ≤ 64) (ha : a < n) (hb : b < m) (hk : kv = I3 0 ∨ kv = I3 1) :
    DD L d 217 0 [.ref 714, .int (I3 a), .int (I3 b), .int kv] s = ok (some (.int (bi (Tch s n m kv (64 * b + a))))) s := by
  have r1 := t_row (L := L) d (dy := -1) hn hm n1 m1 ha hb hk (Or.inl rfl)
  have r2 := t_row (L := L) d (dy := 0) hn hm n1 m1 ha hb hk (Or.inr (Or.inl rfl))
  have r3 := t_row (L := L) d (dy := 1) hn hm n1 m1 ha hb hk (Or.inr (Or.inr rfl))
  have e0 : DD L d 217 0 [.ref 714, .int (I3 a), .int (I3 b), .int kv] s = DD L d 217 3 [.ref 714, .int (I3 a), .int (I3 b), .int kv, .int (I3 (-1))] s := by rw [E_X8_touches_0]; rfl
  have e4 : DD L d 217 3 [.ref 714, .int (I3 a), .int (I3 b), .int kv, .int (I3 (1 + 1))] s = ok (some (.int (I3 0))) s := by
    rw [E_X8_touches_3]
    simp (disch := omega) only [I3_of, I6_of, I3_nat, I3_add, I3_sub, I3_mul, I3_neg, I6_add, I6_sub, I6_mul, I6_neg, I3_lt, I3_le, I3_eq, I6_lt, I6_le, I6_eq, I3_cl, I3_64, I6_32, cmp_pos', cmp_neg', cmp_eq', inb_I, cond_true, cond_false, aI_ok, aJ_ok, aA_ok, aV_ok', aI_thr, aJ_thr, aA_thr, aV_thr, ob_some, on_some, on_none, tg_wI, tg_wJ, tg_wR, ln_wI, ln_wJ, ln_wR, tg_cpI, ln_cpI, tg_cpR, ln_cpR, nx_wI, nx_wJ, nx_wR, sl_wI, sl_wJ, sl_wR, nx_cpI, sl_cpI, nx_cpR, sl_cpR, nx_nw, sl_nw, rJ_wI, rR_wI, rI_wJ, rR_wJ, rI_wR, rJ_wR, rJ_cpI, rR_cpI, rJ_cpR, rI_cpR, rI_wI, rJ_wJ, rq_wI, rq_wJ, rq_wR, rq_cpI, ↓reduceIte, Nat.reduceEqDiff, Nat.reduceAdd, Nat.reduceSub, Nat.reduceMul, Int.reduceAdd, Int.reduceSub, Int.reduceMul, Int.reduceNeg, Int.reduceLT, Int.reduceLE, Int.reduceEq, Int.reduceToNat, Int.sub_zero, Int.add_zero, Int.zero_add, true_and, and_true, false_and, and_false, or_true, true_or, or_false, false_or, not_true_eq_false, not_false_eq_true, eq_self, decide_true, decide_false, Bool.not_false, Bool.not_true, Bool.and_true, Bool.true_and, Bool.or_true, Bool.true_or, Bool.and_self, Bool.or_false, Bool.false_or, Bool.and_false, Bool.false_and]
  rw [e0]
  by_cases c : Tch s n m kv (64 * b + a)
  · rw [bi_pos c]
    obtain ⟨dx, dy, hx, hy, h⟩ := (tch_iff n1 m1 ha hb).mp c
    by_cases c1 : TT s n m kv a b (-1) (-1) ∨ TT s n m kv a b 0 (-1) ∨ TT s n m kv a b 1 (-1)
    · exact r1.1 c1
    refine (r1.2 c1).trans ?_
    by_cases c2 : TT s n m kv a b (-1) 0 ∨ TT s n m kv a b 0 0 ∨ TT s n m kv a b 1 0
    · exact r2.1 c2
    refine (r2.2 c2).trans ?_
    refine r3.1 ?_
    rcases hx with rfl | rfl | rfl <;> rcases hy with rfl | rfl | rfl <;> simp_all
  · rw [bi_neg c]
    have no : ∀ dx dy : Int, (dx = -1 ∨ dx = 0 ∨ dx = 1) → (dy = -1 ∨ dy = 0 ∨ dy = 1) → ¬ TT s n m kv a b dx dy := fun dx dy hx hy h => c ((tch_iff n1 m1 ha hb).mpr ⟨dx, dy, hx, hy, h⟩)
    have c1 : ∀ dy : Int, (dy = -1 ∨ dy = 0 ∨ dy = 1) → ¬ (TT s n m kv a b (-1) dy ∨ TT s n m kv a b 0 dy ∨ TT s n m kv a b 1 dy) := by
      intro dy hy q
      rcases q with q | q | q
      · exact no _ _ (Or.inl rfl) hy q
      · exact no _ _ (Or.inr (Or.inl rfl)) hy q
      · exact no _ _ (Or.inr (Or.inr rfl)) hy q
    exact (r1.2 (c1 _ (Or.inl rfl))).trans ((r2.2 (c1 _ (Or.inr (Or.inl rfl)))).trans ((r3.2 (c1 _ (Or.inr (Or.inr rfl)))).trans e4))
/-- while one set grows from a cell: c the cell, M2 what was marked before -/
def GInv (s0 s : St) (n m : Nat) (A : Nat → Int32) (kv : Int32) (c : Nat) : Prop := Fr [7] s0 s ∧ nx s = nx s0 ∧ sl s = sl s0 ∧ (∀ a k, a ≠ 722 → rI s a k = rI s0 a k) ∧ (∀ x, ¬ Gin n m x → rI s 722 x = rI s0 722 x) ∧ rI s 722 c = I3 1 ∧
  ∀ x, Gin n m x → (rI s 722 x = I3 0 ∧ rI s0 722 x = I3 0) ∨ (rI s 722 x = I3 1 ∧ rI s0 722 x = I3 0 ∧ A x = kv ∧ Conn (Adj n m A kv) c x) ∨ (rI s 722 x = I3 2 ∧ rI s0 722 x = I3 2)
noncomputable def zer (s : St) (n m : Nat) : Int := cnt (fun x => Gin n m x ∧ rI s 722 x = I3 0) 4096
theorem cnt_lt {P Q : Nat → Prop} {x n : Nat} (hx : x < n) (h : ∀ k, P k → Q k) (hq : Q x) (hp : ¬ P x) : cnt P n < cnt Q n := by
  rw [cnt_remove hq hx]
  have : cnt P n ≤ cnt (fun z => Q z ∧ z ≠ x) n := cnt_inj (fun k => k) (fun a ha pa => ⟨ha, h a pa, fun e => hp (e ▸ pa)⟩) (fun a b _ _ _ _ e => e)
  omega
/-- a marked cell -/
theorem ginv_mark {s0 s : St} {n m c x : Nat} {A : Nat → Int32} {kv : Int32} (n1 : n ≤ 64) (m1 : m ≤ 64) (h : GInv s0 s n m A kv c) (hx : Gin n m x) (h0 : rI s 722 x = I3 0) (hk : A x = kv) (ht : Tch s n m kv x) :
    GInv s0 (wI s 722 x (I3 1)) n m A kv c ∧ zer (wI s 722 x (I3 1)) n m < zer s n m := by
  obtain ⟨h1, h2, h3, h4, h5, hc, h6⟩ := h
  have hx4 : x < 4096 := by obtain ⟨g1, g2⟩ := hx; omega
  refine ⟨⟨fr_wI' h1 rfl, h2, h3, fun a k ha => ?_, fun y hy => ?_, ?_, fun y hy => ?_⟩, ?_⟩
  · rw [rI_wIn ha]; exact h4 a k ha
  · rw [rI_wI', if_neg (fun e : y = x => hy (e ▸ hx))]; exact h5 y hy
  · rw [rI_wI', if_neg (fun e => ?_)]; exact hc
    rw [e, h0] at hc
    exact absurd hc (by decide)
  · rw [rI_wI']
    by_cases e : y = x
    · subst e
      rw [if_pos rfl]
      rcases h6 y hy with ⟨q1, q2⟩ | ⟨q1, -⟩ | ⟨q1, -⟩
      · refine Or.inr (Or.inl ⟨rfl, q2, hk, ?_⟩)
        obtain ⟨z, z1, z2, z3⟩ := ht
        rcases h6 z z1 with ⟨w1, -⟩ | ⟨-, -, w3, w4⟩ | ⟨w1, -⟩
        · rw [z3] at w1; exact absurd w1 (by decide)
        · exact conn_step w4 ⟨z1, hy, w3, hk, near_sym z2⟩
        · rw [z3] at w1; exact absurd w1 (by decide)
      · rw [h0] at q1; exact absurd q1 (by decide)
      · rw [h0] at q1; exact absurd q1 (by decide)
    · rw [if_neg e]; exact h6 y hy
  · refine cnt_lt hx4 (fun k hk' => ⟨hk'.1, ?_⟩) ⟨hx, h0⟩ (fun q => ?_)
    · have := hk'.2
      rw [rI_wI'] at this
      by_cases e : k = x
      · rw [if_pos e] at this; exact absurd this (by decide)
      · rw [if_neg e] at this; exact this
    · have := q.2
      rw [rI_wI', if_pos rfl] at this
      exact absurd this (by decide)
theorem fwd (d : Nat) {s0 : St} {n m c : Nat} {kv : Int32} (hn : rI s0 714 10 = I3 n) (hm : rI s0 714 11 = I3 m) (n1 : n ≤ 64) (m1 : m ≤ 64) (hk : kv = I3 0 ∨ kv = I3 1) :
    ∀ (k a b : Nat) (f : Int32) (s : St), (m - 1 - b) * 65 + (n - a) ≤ k → a ≤ n → b < m → GInv s0 s n m (rI s0 720) kv c →
    ∃ s' f', DD L (d + 1) 216 38 [.ref 714, .int kv, .int f, .int (I3 b), .int (I3 a)] s = DD L (d + 1) 216 129 [.ref 714, .int kv, .int f', .int (I3 ((m : Int) - 1))] s' ∧ GInv s0 s' n m (rI s0 720) kv c ∧
      ((s' = s ∧ f' = f ∧ ∀ x, Gin n m x → 64 * b + a ≤ x → rI s 722 x = I3 0 → rI s0 720 x = kv → ¬ Tch s n m kv x) ∨ (f' = I3 1 ∧ zer s' n m < zer s n m)) := by
  intro k
  induction k with
  | zero =>
    intro a b f s hk0 ha hb hi
    have hi0 := hi
    obtain ⟨h1, h2, h3, h4, h5, hc, h6⟩ := hi
    have en : rI s 714 10 = I3 n := (h4 714 10 (by omega)).trans hn
    have em : rI s 714 11 = I3 m := (h4 714 11 (by omega)).trans hm
    refine ⟨s, f, ?_, hi0, Or.inl ⟨rfl, rfl, fun x hx hxb => ?_⟩⟩
    · rw [E_X8_grow_38]
      simp (disch := omega) only [I3_of, I6_of, I3_nat, I3_add, I3_sub, I3_mul, I3_neg, I6_add, I6_sub, I6_mul, I6_neg, I3_lt, I3_le, I3_eq, I6_lt, I6_le, I6_eq, I3_cl, I3_64, I6_32, cmp_pos', cmp_neg', cmp_eq', inb_I, cond_true, cond_false, aI_ok, aJ_ok, aA_ok, aV_ok', aI_thr, aJ_thr, aA_thr, aV_thr, ob_some, on_some, on_none, tg_wI, tg_wJ, tg_wR, ln_wI, ln_wJ, ln_wR, tg_cpI, ln_cpI, tg_cpR, ln_cpR, nx_wI, nx_wJ, nx_wR, sl_wI, sl_wJ, sl_wR, nx_cpI, sl_cpI, nx_cpR, sl_cpR, nx_nw, sl_nw, rJ_wI, rR_wI, rI_wJ, rR_wJ, rI_wR, rJ_wR, rJ_cpI, rR_cpI, rJ_cpR, rI_cpR, rI_wI, rJ_wJ, rq_wI, rq_wJ, rq_wR, rq_cpI, ↓reduceIte, Nat.reduceEqDiff, Nat.reduceAdd, Nat.reduceSub, Nat.reduceMul, Int.reduceAdd, Int.reduceSub, Int.reduceMul, Int.reduceNeg, Int.reduceLT, Int.reduceLE, Int.reduceEq, Int.reduceToNat, Int.sub_zero, Int.add_zero, Int.zero_add, true_and, and_true, false_and, and_false, or_true, true_or, or_false, false_or, not_true_eq_false, not_false_eq_true, eq_self, decide_true, decide_false, Bool.not_false, Bool.not_true, Bool.and_true, Bool.true_and, Bool.or_true, Bool.true_or, Bool.and_self, Bool.or_false, Bool.false_or, Bool.and_false, Bool.false_and, en]
      rw [if_neg (by omega), E_X8_grow_26]
      simp (disch := omega) only [I3_of, I6_of, I3_nat, I3_add, I3_sub, I3_mul, I3_neg, I6_add, I6_sub, I6_mul, I6_neg, I3_lt, I3_le, I3_eq, I6_lt, I6_le, I6_eq, I3_cl, I3_64, I6_32, cmp_pos', cmp_neg', cmp_eq', inb_I, cond_true, cond_false, aI_ok, aJ_ok, aA_ok, aV_ok', aI_thr, aJ_thr, aA_thr, aV_thr, ob_some, on_some, on_none, tg_wI, tg_wJ, tg_wR, ln_wI, ln_wJ, ln_wR, tg_cpI, ln_cpI, tg_cpR, ln_cpR, nx_wI, nx_wJ, nx_wR, sl_wI, sl_wJ, sl_wR, nx_cpI, sl_cpI, nx_cpR, sl_cpR, nx_nw, sl_nw, rJ_wI, rR_wI, rI_wJ, rR_wJ, rI_wR, rJ_wR, rJ_cpI, rR_cpI, rJ_cpR, rI_cpR, rI_wI, rJ_wJ, rq_wI, rq_wJ, rq_wR, rq_cpI, ↓reduceIte, Nat.reduceEqDiff, Nat.reduceAdd, Nat.reduceSub, Nat.reduceMul, Int.reduceAdd, Int.reduceSub, Int.reduceMul, Int.reduceNeg, Int.reduceLT, Int.reduceLE, Int.reduceEq, Int.reduceToNat, Int.sub_zero, Int.add_zero, Int.zero_add, true_and, and_true, false_and, and_false, or_true, true_or, or_false, false_or, not_true_eq_false, not_false_eq_true, eq_self, decide_true, decide_false, Bool.not_false, Bool.not_true, Bool.and_true, Bool.true_and, Bool.or_true, Bool.true_or, Bool.and_self, Bool.or_false, Bool.false_or, Bool.and_false, Bool.false_and, em]
      rw [if_neg (by omega)]
    · exact absurd hx (by unfold Gin; omega)
  | succ k ih =>
    intro a b f s hk0 ha hb hi
    have hi0 := hi
    obtain ⟨h1, h2, h3, h4, h5, hc, h6⟩ := hi
    have en : rI s 714 10 = I3 n := (h4 714 10 (by omega)).trans hn
    have em : rI s 714 11 = I3 m := (h4 714 11 (by omega)).trans hm
    have e7 : ∀ x, rI s 720 x = rI s0 720 x := fun x => h4 720 x (by omega)
    by_cases ca : a < n
    · have gx : Gin n m (64 * b + a) := ⟨by omega, by omega⟩
      have et : (64 * (b : Int) + a).toNat = 64 * b + a := by omega
      by_cases c0 : rI s 722 (64 * b + a) = I3 0
      · by_cases c1 : rI s0 720 (64 * b + a) = kv
        · by_cases c2 : Tch s n m kv (64 * b + a)
          · obtain ⟨g1, g2⟩ := ginv_mark n1 m1 hi0 gx c0 c1 c2
            obtain ⟨s', f', r1, r2, r3⟩ := ih (a + 1) b (I3 1) (wI s 722 (64 * b + a) (I3 1)) (by omega) (by omega) hb g1
            refine ⟨s', f', ?_, r2, Or.inr ?_⟩
            · rw [E_X8_grow_38]
              simp (disch := omega) only [I3_of, I6_of, I3_nat, I3_add, I3_sub, I3_mul, I3_neg, I6_add, I6_sub, I6_mul, I6_neg, I3_lt, I3_le, I3_eq, I6_lt, I6_le, I6_eq, I3_cl, I3_64, I6_32, cmp_pos', cmp_neg', cmp_eq', inb_I, cond_true, cond_false, aI_ok, aJ_ok, aA_ok, aV_ok', aI_thr, aJ_thr, aA_thr, aV_thr, ob_some, on_some, on_none, tg_wI, tg_wJ, tg_wR, ln_wI, ln_wJ, ln_wR, tg_cpI, ln_cpI, tg_cpR, ln_cpR, nx_wI, nx_wJ, nx_wR, sl_wI, sl_wJ, sl_wR, nx_cpI, sl_cpI, nx_cpR, sl_cpR, nx_nw, sl_nw, rJ_wI, rR_wI, rI_wJ, rR_wJ, rI_wR, rJ_wR, rJ_cpI, rR_cpI, rJ_cpR, rI_cpR, rI_wI, rJ_wJ, rq_wI, rq_wJ, rq_wR, rq_cpI, ↓reduceIte, Nat.reduceEqDiff, Nat.reduceAdd, Nat.reduceSub, Nat.reduceMul, Int.reduceAdd, Int.reduceSub, Int.reduceMul, Int.reduceNeg, Int.reduceLT, Int.reduceLE, Int.reduceEq, Int.reduceToNat, Int.sub_zero, Int.add_zero, Int.zero_add, true_and, and_true, false_and, and_false, or_true, true_or, or_false, false_or, not_true_eq_false, not_false_eq_true, eq_self, decide_true, decide_false, Bool.not_false, Bool.not_true, Bool.and_true, Bool.true_and, Bool.or_true, Bool.true_or, Bool.and_self, Bool.or_false, Bool.false_or, Bool.and_false, Bool.false_and, en, et, c0, e7, c1, touches_m d en em n1 m1 ca hb hk, bi_pos c2, i3_10]
              rw [if_pos (by omega), show (a : Int) + 1 = ((a + 1 : Nat) : Int) by omega]
              exact r1
            · rcases r3 with ⟨rfl, rfl, -⟩ | ⟨rfl, q⟩
              · exact ⟨rfl, g2⟩
              · exact ⟨rfl, Int.lt_trans q g2⟩
          · obtain ⟨s', f', r1, r2, r3⟩ := ih (a + 1) b f s (by omega) (by omega) hb hi0
            refine ⟨s', f', ?_, r2, ?_⟩
            · rw [E_X8_grow_38]
              simp (disch := omega) only [I3_of, I6_of, I3_nat, I3_add, I3_sub, I3_mul, I3_neg, I6_add, I6_sub, I6_mul, I6_neg, I3_lt, I3_le, I3_eq, I6_lt, I6_le, I6_eq, I3_cl, I3_64, I6_32, cmp_pos', cmp_neg', cmp_eq', inb_I, cond_true, cond_false, aI_ok, aJ_ok, aA_ok, aV_ok', aI_thr, aJ_thr, aA_thr, aV_thr, ob_some, on_some, on_none, tg_wI, tg_wJ, tg_wR, ln_wI, ln_wJ, ln_wR, tg_cpI, ln_cpI, tg_cpR, ln_cpR, nx_wI, nx_wJ, nx_wR, sl_wI, sl_wJ, sl_wR, nx_cpI, sl_cpI, nx_cpR, sl_cpR, nx_nw, sl_nw, rJ_wI, rR_wI, rI_wJ, rR_wJ, rI_wR, rJ_wR, rJ_cpI, rR_cpI, rJ_cpR, rI_cpR, rI_wI, rJ_wJ, rq_wI, rq_wJ, rq_wR, rq_cpI, ↓reduceIte, Nat.reduceEqDiff, Nat.reduceAdd, Nat.reduceSub, Nat.reduceMul, Int.reduceAdd, Int.reduceSub, Int.reduceMul, Int.reduceNeg, Int.reduceLT, Int.reduceLE, Int.reduceEq, Int.reduceToNat, Int.sub_zero, Int.add_zero, Int.zero_add, true_and, and_true, false_and, and_false, or_true, true_or, or_false, false_or, not_true_eq_false, not_false_eq_true, eq_self, decide_true, decide_false, Bool.not_false, Bool.not_true, Bool.and_true, Bool.true_and, Bool.or_true, Bool.true_or, Bool.and_self, Bool.or_false, Bool.false_or, Bool.and_false, Bool.false_and, en, et, c0, e7, c1, touches_m d en em n1 m1 ca hb hk, bi_neg c2]
              rw [if_pos (by omega), show (a : Int) + 1 = ((a + 1 : Nat) : Int) by omega]
              exact r1
            · rcases r3 with ⟨q1, q2, q3⟩ | q
              · refine Or.inl ⟨q1, q2, fun x hx hxb x0 xk => ?_⟩
                by_cases e : x = 64 * b + a
                · rw [e]; exact c2
                · exact q3 x hx (by omega) x0 xk
              · exact Or.inr q
        · obtain ⟨s', f', r1, r2, r3⟩ := ih (a + 1) b f s (by omega) (by omega) hb hi0
          refine ⟨s', f', ?_, r2, ?_⟩
          · rw [E_X8_grow_38]
            simp (disch := omega) only [I3_of, I6_of, I3_nat, I3_add, I3_sub, I3_mul, I3_neg, I6_add, I6_sub, I6_mul, I6_neg, I3_lt, I3_le, I3_eq, I6_lt, I6_le, I6_eq, I3_cl, I3_64, I6_32, cmp_pos', cmp_neg', cmp_eq', inb_I, cond_true, cond_false, aI_ok, aJ_ok, aA_ok, aV_ok', aI_thr, aJ_thr, aA_thr, aV_thr, ob_some, on_some, on_none, tg_wI, tg_wJ, tg_wR, ln_wI, ln_wJ, ln_wR, tg_cpI, ln_cpI, tg_cpR, ln_cpR, nx_wI, nx_wJ, nx_wR, sl_wI, sl_wJ, sl_wR, nx_cpI, sl_cpI, nx_cpR, sl_cpR, nx_nw, sl_nw, rJ_wI, rR_wI, rI_wJ, rR_wJ, rI_wR, rJ_wR, rJ_cpI, rR_cpI, rJ_cpR, rI_cpR, rI_wI, rJ_wJ, rq_wI, rq_wJ, rq_wR, rq_cpI, ↓reduceIte, Nat.reduceEqDiff, Nat.reduceAdd, Nat.reduceSub, Nat.reduceMul, Int.reduceAdd, Int.reduceSub, Int.reduceMul, Int.reduceNeg, Int.reduceLT, Int.reduceLE, Int.reduceEq, Int.reduceToNat, Int.sub_zero, Int.add_zero, Int.zero_add, true_and, and_true, false_and, and_false, or_true, true_or, or_false, false_or, not_true_eq_false, not_false_eq_true, eq_self, decide_true, decide_false, Bool.not_false, Bool.not_true, Bool.and_true, Bool.true_and, Bool.or_true, Bool.true_or, Bool.and_self, Bool.or_false, Bool.false_or, Bool.and_false, Bool.false_and, en, et, c0, e7, c1]
            rw [if_pos (by omega), show (a : Int) + 1 = ((a + 1 : Nat) : Int) by omega]
            exact r1
          · rcases r3 with ⟨q1, q2, q3⟩ | q
            · refine Or.inl ⟨q1, q2, fun x hx hxb x0 xk => ?_⟩
              by_cases e : x = 64 * b + a
              · rw [e] at xk; exact absurd xk c1
              · exact q3 x hx (by omega) x0 xk
            · exact Or.inr q
      · obtain ⟨s', f', r1, r2, r3⟩ := ih (a + 1) b f s (by omega) (by omega) hb hi0
        refine ⟨s', f', ?_, r2, ?_⟩
        · rw [E_X8_grow_38]
          simp (disch := omega) only [I3_of, I6_of, I3_nat, I3_add, I3_sub, I3_mul, I3_neg, I6_add, I6_sub, I6_mul, I6_neg, I3_lt, I3_le, I3_eq, I6_lt, I6_le, I6_eq, I3_cl, I3_64, I6_32, cmp_pos', cmp_neg', cmp_eq', inb_I, cond_true, cond_false, aI_ok, aJ_ok, aA_ok, aV_ok', aI_thr, aJ_thr, aA_thr, aV_thr, ob_some, on_some, on_none, tg_wI, tg_wJ, tg_wR, ln_wI, ln_wJ, ln_wR, tg_cpI, ln_cpI, tg_cpR, ln_cpR, nx_wI, nx_wJ, nx_wR, sl_wI, sl_wJ, sl_wR, nx_cpI, sl_cpI, nx_cpR, sl_cpR, nx_nw, sl_nw, rJ_wI, rR_wI, rI_wJ, rR_wJ, rI_wR, rJ_wR, rJ_cpI, rR_cpI, rJ_cpR, rI_cpR, rI_wI, rJ_wJ, rq_wI, rq_wJ, rq_wR, rq_cpI, ↓reduceIte, Nat.reduceEqDiff, Nat.reduceAdd, Nat.reduceSub, Nat.reduceMul, Int.reduceAdd, Int.reduceSub, Int.reduceMul, Int.reduceNeg, Int.reduceLT, Int.reduceLE, Int.reduceEq, Int.reduceToNat, Int.sub_zero, Int.add_zero, Int.zero_add, true_and, and_true, false_and, and_false, or_true, true_or, or_false, false_or, not_true_eq_false, not_false_eq_true, eq_self, decide_true, decide_false, Bool.not_false, Bool.not_true, Bool.and_true, Bool.true_and, Bool.or_true, Bool.true_or, Bool.and_self, Bool.or_false, Bool.false_or, Bool.and_false, Bool.false_and, en, et, c0]
          rw [if_pos (by omega), show (a : Int) + 1 = ((a + 1 : Nat) : Int) by omega]
          exact r1
        · rcases r3 with ⟨q1, q2, q3⟩ | q
          · refine Or.inl ⟨q1, q2, fun x hx hxb x0 xk => ?_⟩
            by_cases e : x = 64 * b + a
            · rw [e] at x0; exact absurd x0 c0
            · exact q3 x hx (by omega) x0 xk
          · exact Or.inr q
    · by_cases cb : b + 1 < m
      · obtain ⟨s', f', r1, r2, r3⟩ := ih 0 (b + 1) f s (by omega) (by omega) cb hi0
        refine ⟨s', f', ?_, r2, ?_⟩
        · rw [E_X8_grow_38]
          simp (disch := omega) only [I3_of, I6_of, I3_nat, I3_add, I3_sub, I3_mul, I3_neg, I6_add, I6_sub, I6_mul, I6_neg, I3_lt, I3_le, I3_eq, I6_lt, I6_le, I6_eq, I3_cl, I3_64, I6_32, cmp_pos', cmp_neg', cmp_eq', inb_I, cond_true, cond_false, aI_ok, aJ_ok, aA_ok, aV_ok', aI_thr, aJ_thr, aA_thr, aV_thr, ob_some, on_some, on_none, tg_wI, tg_wJ, tg_wR, ln_wI, ln_wJ, ln_wR, tg_cpI, ln_cpI, tg_cpR, ln_cpR, nx_wI, nx_wJ, nx_wR, sl_wI, sl_wJ, sl_wR, nx_cpI, sl_cpI, nx_cpR, sl_cpR, nx_nw, sl_nw, rJ_wI, rR_wI, rI_wJ, rR_wJ, rI_wR, rJ_wR, rJ_cpI, rR_cpI, rJ_cpR, rI_cpR, rI_wI, rJ_wJ, rq_wI, rq_wJ, rq_wR, rq_cpI, ↓reduceIte, Nat.reduceEqDiff, Nat.reduceAdd, Nat.reduceSub, Nat.reduceMul, Int.reduceAdd, Int.reduceSub, Int.reduceMul, Int.reduceNeg, Int.reduceLT, Int.reduceLE, Int.reduceEq, Int.reduceToNat, Int.sub_zero, Int.add_zero, Int.zero_add, true_and, and_true, false_and, and_false, or_true, true_or, or_false, false_or, not_true_eq_false, not_false_eq_true, eq_self, decide_true, decide_false, Bool.not_false, Bool.not_true, Bool.and_true, Bool.true_and, Bool.or_true, Bool.true_or, Bool.and_self, Bool.or_false, Bool.false_or, Bool.and_false, Bool.false_and, en]
          rw [if_neg (by omega), E_X8_grow_26]
          simp (disch := omega) only [I3_of, I6_of, I3_nat, I3_add, I3_sub, I3_mul, I3_neg, I6_add, I6_sub, I6_mul, I6_neg, I3_lt, I3_le, I3_eq, I6_lt, I6_le, I6_eq, I3_cl, I3_64, I6_32, cmp_pos', cmp_neg', cmp_eq', inb_I, cond_true, cond_false, aI_ok, aJ_ok, aA_ok, aV_ok', aI_thr, aJ_thr, aA_thr, aV_thr, ob_some, on_some, on_none, tg_wI, tg_wJ, tg_wR, ln_wI, ln_wJ, ln_wR, tg_cpI, ln_cpI, tg_cpR, ln_cpR, nx_wI, nx_wJ, nx_wR, sl_wI, sl_wJ, sl_wR, nx_cpI, sl_cpI, nx_cpR, sl_cpR, nx_nw, sl_nw, rJ_wI, rR_wI, rI_wJ, rR_wJ, rI_wR, rJ_wR, rJ_cpI, rR_cpI, rJ_cpR, rI_cpR, rI_wI, rJ_wJ, rq_wI, rq_wJ, rq_wR, rq_cpI, ↓reduceIte, Nat.reduceEqDiff, Nat.reduceAdd, Nat.reduceSub, Nat.reduceMul, Int.reduceAdd, Int.reduceSub, Int.reduceMul, Int.reduceNeg, Int.reduceLT, Int.reduceLE, Int.reduceEq, Int.reduceToNat, Int.sub_zero, Int.add_zero, Int.zero_add, true_and, and_true, false_and, and_false, or_true, true_or, or_false, false_or, not_true_eq_false, not_false_eq_true, eq_self, decide_true, decide_false, Bool.not_false, Bool.not_true, Bool.and_true, Bool.true_and, Bool.or_true, Bool.true_or, Bool.and_self, Bool.or_false, Bool.false_or, Bool.and_false, Bool.false_and, em]
          rw [if_pos (by omega), show (b : Int) + 1 = ((b + 1 : Nat) : Int) by omega]
          exact r1
        · rcases r3 with ⟨q1, q2, q3⟩ | q
          · refine Or.inl ⟨q1, q2, fun x hx hxb x0 xk => q3 x hx ?_ x0 xk⟩
            unfold Gin at hx
            omega
          · exact Or.inr q
      · refine ⟨s, f, ?_, hi0, Or.inl ⟨rfl, rfl, fun x hx hxb => ?_⟩⟩
        · rw [E_X8_grow_38]
          simp (disch := omega) only [I3_of, I6_of, I3_nat, I3_add, I3_sub, I3_mul, I3_neg, I6_add, I6_sub, I6_mul, I6_neg, I3_lt, I3_le, I3_eq, I6_lt, I6_le, I6_eq, I3_cl, I3_64, I6_32, cmp_pos', cmp_neg', cmp_eq', inb_I, cond_true, cond_false, aI_ok, aJ_ok, aA_ok, aV_ok', aI_thr, aJ_thr, aA_thr, aV_thr, ob_some, on_some, on_none, tg_wI, tg_wJ, tg_wR, ln_wI, ln_wJ, ln_wR, tg_cpI, ln_cpI, tg_cpR, ln_cpR, nx_wI, nx_wJ, nx_wR, sl_wI, sl_wJ, sl_wR, nx_cpI, sl_cpI, nx_cpR, sl_cpR, nx_nw, sl_nw, rJ_wI, rR_wI, rI_wJ, rR_wJ, rI_wR, rJ_wR, rJ_cpI, rR_cpI, rJ_cpR, rI_cpR, rI_wI, rJ_wJ, rq_wI, rq_wJ, rq_wR, rq_cpI, ↓reduceIte, Nat.reduceEqDiff, Nat.reduceAdd, Nat.reduceSub, Nat.reduceMul, Int.reduceAdd, Int.reduceSub, Int.reduceMul, Int.reduceNeg, Int.reduceLT, Int.reduceLE, Int.reduceEq, Int.reduceToNat, Int.sub_zero, Int.add_zero, Int.zero_add, true_and, and_true, false_and, and_false, or_true, true_or, or_false, false_or, not_true_eq_false, not_false_eq_true, eq_self, decide_true, decide_false, Bool.not_false, Bool.not_true, Bool.and_true, Bool.true_and, Bool.or_true, Bool.true_or, Bool.and_self, Bool.or_false, Bool.false_or, Bool.and_false, Bool.false_and, en]
          rw [if_neg (by omega), E_X8_grow_26]
          simp (disch := omega) only [I3_of, I6_of, I3_nat, I3_add, I3_sub, I3_mul, I3_neg, I6_add, I6_sub, I6_mul, I6_neg, I3_lt, I3_le, I3_eq, I6_lt, I6_le, I6_eq, I3_cl, I3_64, I6_32, cmp_pos', cmp_neg', cmp_eq', inb_I, cond_true, cond_false, aI_ok, aJ_ok, aA_ok, aV_ok', aI_thr, aJ_thr, aA_thr, aV_thr, ob_some, on_some, on_none, tg_wI, tg_wJ, tg_wR, ln_wI, ln_wJ, ln_wR, tg_cpI, ln_cpI, tg_cpR, ln_cpR, nx_wI, nx_wJ, nx_wR, sl_wI, sl_wJ, sl_wR, nx_cpI, sl_cpI, nx_cpR, sl_cpR, nx_nw, sl_nw, rJ_wI, rR_wI, rI_wJ, rR_wJ, rI_wR, rJ_wR, rJ_cpI, rR_cpI, rJ_cpR, rI_cpR, rI_wI, rJ_wJ, rq_wI, rq_wJ, rq_wR, rq_cpI, ↓reduceIte, Nat.reduceEqDiff, Nat.reduceAdd, Nat.reduceSub, Nat.reduceMul, Int.reduceAdd, Int.reduceSub, Int.reduceMul, Int.reduceNeg, Int.reduceLT, Int.reduceLE, Int.reduceEq, Int.reduceToNat, Int.sub_zero, Int.add_zero, Int.zero_add, true_and, and_true, false_and, and_false, or_true, true_or, or_false, false_or, not_true_eq_false, not_false_eq_true, eq_self, decide_true, decide_false, Bool.not_false, Bool.not_true, Bool.and_true, Bool.true_and, Bool.or_true, Bool.true_or, Bool.and_self, Bool.or_false, Bool.false_or, Bool.and_false, Bool.false_and, em]
          rw [if_neg (by omega)]
        · exact absurd hx (by unfold Gin; omega)
end FLOOD
