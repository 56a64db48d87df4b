/-! ===== the list of solids; solids of the class ===== -/
section LIST
variable {L : Nat}
def HRel (σ : St) (T : Tb) (e a s : Nat) : Prop := 776 ≤ a ∧ a < nx σ ∧ (σ.1 a : Int) = 11 + kd T s ∧ rI σ a 0 = I3 (wt T s) ∧
  ((kd T s = 0 ∧ ∃ b, rq σ a 1 = some b ∧ SArr σ b 6 (nb T s)) ∨ (kd T s = 1 ∧ ∃ b, rq σ a 1 = some b ∧ SArr σ b 5 (nb T s)) ∨ (kd T s = 2 ∧ ∃ b, rq σ a 1 = some b ∧ SArr σ b 4 (nb T s)) ∨ (kd T s = 3 ∧ ∃ b, rq σ a 1 = some b ∧ SArr σ b 5 (nb T s)) ∨
   (kd T s = 4 ∧ rI σ a 3 = I3 (nb T s 2) ∧ rq σ a 1 = rq σ e ((nb T s 0).toNat - 1) ∧ rq σ a 2 = rq σ e ((nb T s 1).toNat - 1)) ∨
   (kd T s = 5 ∧ rq σ a 1 = rq σ e ((nb T s 3).toNat - 1) ∧ ∃ b, rq σ a 2 = some b ∧ SArr σ b 3 (nb T s)) ∨ (kd T s = 6 ∧ rq σ a 1 = rq σ e ((nb T s 0).toNat - 1)))
def cap (n : Nat) : Prop := n = 10 ∨ n = 15 ∨ n = 22 ∨ n = 33 ∨ n = 49 ∨ n = 73
/-- the list's array: empty, or one with room for what is in it -/
def LArr (σ : St) (m e : Nat) : Prop := (e = 6 ∧ m = 0) ∨ (776 ≤ e ∧ e < nx σ ∧ σ.1 e = 68 ∧ m ≤ σ.2.1 e ∧ cap (σ.2.1 e))
def Sol (σ : St) (T : Tb) (m e : Nat) : Prop := m ≤ 60 ∧ rI σ 17 2 = I3 m ∧ rI σ 714 3 = I3 m ∧ rq σ 17 1 = some e ∧ LArr σ m e ∧ (∀ s, 1 ≤ s → s ≤ m → WfS T s ∧ 1 ≤ wt T s ∧ wt T s ≤ 100) ∧ (∀ s, 1 ≤ s → s ≤ m → ∃ a, rq σ e (s - 1) = some a ∧ HRel σ T e a s) ∧
  (∀ s, 1 ≤ s → s ≤ m → rI σ 715 s = I3 (kd T s) ∧ (∀ i, i < 6 → rI σ 716 (6 * s + i) = I3 (nb T s i)) ∧ rI σ 717 s = I3 (wt T s))
theorem r17 {s : St} : rR (FF L) s 17 1 = rq s 17 1 := rfl
theorem size_l (d : Nat) (s : St) {m : Int} (h : rI s 17 2 = I3 m) : DD L d 11 0 [.ref 17] s = ok (some (.int (I3 m))) s := by rw [E_J2_size_0, h]
theorem get_l (d : Nat) (s : St) {m e a : Nat} {i : Int} (hm : m ≤ 60) (h : rI s 17 2 = I3 m) (he : rq s 17 1 = some e) (h1 : 776 ≤ e) (h2 : s.1 e = 68) (h3 : m ≤ s.2.1 e) (hi : 0 ≤ i ∧ i < m) (ha : rq s e i.toNat = some a) :
    DD L (d + 2) 16 0 [.ref 17, .int (I3 i)] s = ok (some (.ref a)) s := by
  have t1 : tg (FF L) s e = 68 := (tg_dyn h1).trans h2
  have t2 : ln (FF L) s e = s.2.1 e := ln_dyn h1
  have t3 : rR (FF L) s e i.toNat = some a := (rR_dyn h1).trans ha
  have m1 : Nat.beq 68 68 = true := rfl
  rw [E_J2_get_0, E_J10_checkIndex_0, E_J11_checkIndex_n]
  simp (disch := omega) only [I3_of, I6_of, I3_nat, I3_add, I3_sub, I3_mul, I3_neg, I6_add, I6_sub, I6_mul, I6_neg, I3_lt, I3_le, I3_eq, I6_lt, I6_le, I6_eq, I3_cl, I3_64, I6_32, cmp_pos', cmp_neg', cmp_eq', inb_I, cond_true, cond_false, aI_ok, aJ_ok, aA_ok, aV_ok', aI_thr, aJ_thr, aA_thr, aV_thr, ob_some, on_some, on_none, tg_wI, tg_wJ, tg_wR, ln_wI, ln_wJ, ln_wR, tg_cpI, ln_cpI, tg_cpR, ln_cpR, nx_wI, nx_wJ, nx_wR, sl_wI, sl_wJ, sl_wR, nx_cpI, sl_cpI, nx_cpR, sl_cpR, nx_nw, sl_nw, rJ_wI, rR_wI, rI_wJ, rR_wJ, rI_wR, rJ_wR, rJ_cpI, rR_cpI, rJ_cpR, rI_cpR, rI_wI, rJ_wJ, rq_wI, rq_wJ, rq_wR, rq_cpI, ↓reduceIte, Nat.reduceEqDiff, Nat.reduceAdd, Nat.reduceSub, Nat.reduceMul, Int.reduceAdd, Int.reduceSub, Int.reduceMul, Int.reduceNeg, Int.reduceLT, Int.reduceLE, Int.reduceEq, Int.reduceToNat, Int.sub_zero, Int.add_zero, Int.zero_add, true_and, and_true, false_and, and_false, or_true, true_or, or_false, false_or, not_true_eq_false, not_false_eq_true, eq_self, decide_true, decide_false, Bool.not_false, Bool.not_true, Bool.and_true, Bool.true_and, Bool.or_true, Bool.true_or, Bool.and_self, Bool.or_false, Bool.false_or, Bool.and_false, Bool.false_and, h]
  rw [if_neg (by omega), if_pos (by omega)]
  simp (disch := omega) only [I3_of, I6_of, I3_nat, I3_add, I3_sub, I3_mul, I3_neg, I6_add, I6_sub, I6_mul, I6_neg, I3_lt, I3_le, I3_eq, I6_lt, I6_le, I6_eq, I3_cl, I3_64, I6_32, cmp_pos', cmp_neg', cmp_eq', inb_I, cond_true, cond_false, aI_ok, aJ_ok, aA_ok, aV_ok', aI_thr, aJ_thr, aA_thr, aV_thr, ob_some, on_some, on_none, tg_wI, tg_wJ, tg_wR, ln_wI, ln_wJ, ln_wR, tg_cpI, ln_cpI, tg_cpR, ln_cpR, nx_wI, nx_wJ, nx_wR, sl_wI, sl_wJ, sl_wR, nx_cpI, sl_cpI, nx_cpR, sl_cpR, nx_nw, sl_nw, rJ_wI, rR_wI, rI_wJ, rR_wJ, rI_wR, rJ_wR, rJ_cpI, rR_cpI, rJ_cpR, rI_cpR, rI_wI, rJ_wJ, rq_wI, rq_wJ, rq_wR, rq_cpI, ↓reduceIte, Nat.reduceEqDiff, Nat.reduceAdd, Nat.reduceSub, Nat.reduceMul, Int.reduceAdd, Int.reduceSub, Int.reduceMul, Int.reduceNeg, Int.reduceLT, Int.reduceLE, Int.reduceEq, Int.reduceToNat, Int.sub_zero, Int.add_zero, Int.zero_add, true_and, and_true, false_and, and_false, or_true, true_or, or_false, false_or, not_true_eq_false, not_false_eq_true, eq_self, decide_true, decide_false, Bool.not_false, Bool.not_true, Bool.and_true, Bool.true_and, Bool.or_true, Bool.true_or, Bool.and_self, Bool.or_false, Bool.false_or, Bool.and_false, Bool.false_and, E_J2_elementData_0, r17, he, t1, t2, t3, m1]
theorem isSolid_h (d : Nat) (s : St) {m : Nat} {i : Int} (hm : m ≤ 60) (h : rI s 17 2 = I3 m) (hi : -2147483648 ≤ i ∧ i ≤ 2147483647) :
    DD L (d + 1) 29 0 [.ref 16, .int (I3 i)] s = ok (some (.int (bi (1 ≤ i ∧ i ≤ m)))) s := by
  rw [E_X0_isSolid_0, size_l d s h]
  simp (disch := omega) only [I3_of, I6_of, I3_nat, I3_add, I3_sub, I3_mul, I3_neg, I6_add, I6_sub, I6_mul, I6_neg, I3_lt, I3_le, I3_eq, I6_lt, I6_le, I6_eq, I3_cl, I3_64, I6_32, cmp_pos', cmp_neg', cmp_eq', inb_I, cond_true, cond_false, aI_ok, aJ_ok, aA_ok, aV_ok', aI_thr, aJ_thr, aA_thr, aV_thr, ob_some, on_some, on_none, tg_wI, tg_wJ, tg_wR, ln_wI, ln_wJ, ln_wR, tg_cpI, ln_cpI, tg_cpR, ln_cpR, nx_wI, nx_wJ, nx_wR, sl_wI, sl_wJ, sl_wR, nx_cpI, sl_cpI, nx_cpR, sl_cpR, nx_nw, sl_nw, rJ_wI, rR_wI, rI_wJ, rR_wJ, rI_wR, rJ_wR, rJ_cpI, rR_cpI, rJ_cpR, rI_cpR, rI_wI, rJ_wJ, rq_wI, rq_wJ, rq_wR, rq_cpI, ↓reduceIte, Nat.reduceEqDiff, Nat.reduceAdd, Nat.reduceSub, Nat.reduceMul, Int.reduceAdd, Int.reduceSub, Int.reduceMul, Int.reduceNeg, Int.reduceLT, Int.reduceLE, Int.reduceEq, Int.reduceToNat, Int.sub_zero, Int.add_zero, Int.zero_add, true_and, and_true, false_and, and_false, or_true, true_or, or_false, false_or, not_true_eq_false, not_false_eq_true, eq_self, decide_true, decide_false, Bool.not_false, Bool.not_true, Bool.and_true, Bool.true_and, Bool.or_true, Bool.true_or, Bool.and_self, Bool.or_false, Bool.false_or, Bool.and_false, Bool.false_and]
  repeat' split
  all_goals first | rw [bi_neg (by omega)] | rw [bi_pos (by omega)]
theorem isSolid_m (d : Nat) (s : St) {m : Nat} {i : Int} (hm : m ≤ 60) (h : rI s 714 3 = I3 m) (hi : -2147483648 ≤ i ∧ i ≤ 2147483647) :
    DD L d 202 0 [.ref 714, .int (I3 i)] s = ok (some (.int (bi (1 ≤ i ∧ i ≤ m)))) s := by
  rw [E_X8_isSolid_0]
  simp (disch := omega) only [I3_of, I6_of, I3_nat, I3_add, I3_sub, I3_mul, I3_neg, I6_add, I6_sub, I6_mul, I6_neg, I3_lt, I3_le, I3_eq, I6_lt, I6_le, I6_eq, I3_cl, I3_64, I6_32, cmp_pos', cmp_neg', cmp_eq', inb_I, cond_true, cond_false, aI_ok, aJ_ok, aA_ok, aV_ok', aI_thr, aJ_thr, aA_thr, aV_thr, ob_some, on_some, on_none, tg_wI, tg_wJ, tg_wR, ln_wI, ln_wJ, ln_wR, tg_cpI, ln_cpI, tg_cpR, ln_cpR, nx_wI, nx_wJ, nx_wR, sl_wI, sl_wJ, sl_wR, nx_cpI, sl_cpI, nx_cpR, sl_cpR, nx_nw, sl_nw, rJ_wI, rR_wI, rI_wJ, rR_wJ, rI_wR, rJ_wR, rJ_cpI, rR_cpI, rJ_cpR, rI_cpR, rI_wI, rJ_wJ, rq_wI, rq_wJ, rq_wR, rq_cpI, ↓reduceIte, Nat.reduceEqDiff, Nat.reduceAdd, Nat.reduceSub, Nat.reduceMul, Int.reduceAdd, Int.reduceSub, Int.reduceMul, Int.reduceNeg, Int.reduceLT, Int.reduceLE, Int.reduceEq, Int.reduceToNat, Int.sub_zero, Int.add_zero, Int.zero_add, true_and, and_true, false_and, and_false, or_true, true_or, or_false, false_or, not_true_eq_false, not_false_eq_true, eq_self, decide_true, decide_false, Bool.not_false, Bool.not_true, Bool.and_true, Bool.true_and, Bool.or_true, Bool.true_or, Bool.and_self, Bool.or_false, Bool.false_or, Bool.and_false, Bool.false_and, h]
  repeat' split
  all_goals first | rw [bi_neg (by omega)] | rw [bi_pos (by omega)]
theorem mem17 {t : Nat} (h1 : 11 ≤ t) (h2 : t ≤ 17) : memN t [11, 12, 13, 14, 15, 16, 17] = true := by
  have : t = 11 ∨ t = 12 ∨ t = 13 ∨ t = 14 ∨ t = 15 ∨ t = 16 ∨ t = 17 := by omega
  rcases this with h | h | h | h | h | h | h <;> subst h <;> rfl
theorem kd_rng {T : Tb} {s : Nat} (w : WfS T s) : 0 ≤ kd T s ∧ kd T s ≤ 6 := by unfold WfS at w; omega
theorem sol_arr {σ : St} {T : Tb} {m e s : Nat} (h : Sol σ T m e) (h1 : 1 ≤ s) (h2 : s ≤ m) : 776 ≤ e ∧ e < nx σ ∧ σ.1 e = 68 ∧ m ≤ σ.2.1 e := by
  obtain ⟨-, -, -, -, (⟨-, q⟩ | ⟨q1, q2, q3, q4, -⟩), -⟩ := h
  · omega
  · exact ⟨q1, q2, q3, q4⟩
theorem solidOf_h (d : Nat) {σ : St} {T : Tb} {m e s a : Nat} (h : Sol σ T m e) (h1 : 1 ≤ s) (h2 : s ≤ m) (ha : rq σ e (s - 1) = some a) :
    DD L (d + 3) 30 0 [.ref 16, .int (I3 s)] σ = ok (some (.ref a)) σ := by
  have h0 := h
  obtain ⟨q1, q2, q3, q4⟩ := sol_arr h h1 h2
  obtain ⟨c1, c2, c3, c4, c5, c6, c7, c8⟩ := h
  obtain ⟨a', e1, e2, e3, e4, -⟩ := c7 s h1 h2
  rw [ha] at e1
  cases e1
  have kr := kd_rng (c6 s h1 h2).1
  have t1 : tg (FF L) σ a = σ.1 a := tg_dyn e2
  have m1 : memN (σ.1 a) [11, 12, 13, 14, 15, 16, 17] = true := mem17 (by omega) (by omega)
  rw [E_X0_solidOf_0]
  simp (disch := omega) only [I3_of, I6_of, I3_nat, I3_add, I3_sub, I3_mul, I3_neg, I6_add, I6_sub, I6_mul, I6_neg, I3_lt, I3_le, I3_eq, I6_lt, I6_le, I6_eq, I3_cl, I3_64, I6_32, cmp_pos', cmp_neg', cmp_eq', inb_I, cond_true, cond_false, aI_ok, aJ_ok, aA_ok, aV_ok', aI_thr, aJ_thr, aA_thr, aV_thr, ob_some, on_some, on_none, tg_wI, tg_wJ, tg_wR, ln_wI, ln_wJ, ln_wR, tg_cpI, ln_cpI, tg_cpR, ln_cpR, nx_wI, nx_wJ, nx_wR, sl_wI, sl_wJ, sl_wR, nx_cpI, sl_cpI, nx_cpR, sl_cpR, nx_nw, sl_nw, rJ_wI, rR_wI, rI_wJ, rR_wJ, rI_wR, rJ_wR, rJ_cpI, rR_cpI, rJ_cpR, rI_cpR, rI_wI, rJ_wJ, rq_wI, rq_wJ, rq_wR, rq_cpI, ↓reduceIte, Nat.reduceEqDiff, Nat.reduceAdd, Nat.reduceSub, Nat.reduceMul, Int.reduceAdd, Int.reduceSub, Int.reduceMul, Int.reduceNeg, Int.reduceLT, Int.reduceLE, Int.reduceEq, Int.reduceToNat, Int.sub_zero, Int.add_zero, Int.zero_add, true_and, and_true, false_and, and_false, or_true, true_or, or_false, false_or, not_true_eq_false, not_false_eq_true, eq_self, decide_true, decide_false, Bool.not_false, Bool.not_true, Bool.and_true, Bool.true_and, Bool.or_true, Bool.true_or, Bool.and_self, Bool.or_false, Bool.false_or, Bool.and_false, Bool.false_and]
  rw [get_l d σ c1 c2 c4 q1 q3 q4 (i := (s : Int) - 1) (by omega) (by rw [show ((s : Int) - 1).toNat = s - 1 by omega]; exact ha)]
  simp (disch := omega) only [I3_of, I6_of, I3_nat, I3_add, I3_sub, I3_mul, I3_neg, I6_add, I6_sub, I6_mul, I6_neg, I3_lt, I3_le, I3_eq, I6_lt, I6_le, I6_eq, I3_cl, I3_64, I6_32, cmp_pos', cmp_neg', cmp_eq', inb_I, cond_true, cond_false, aI_ok, aJ_ok, aA_ok, aV_ok', aI_thr, aJ_thr, aA_thr, aV_thr, ob_some, on_some, on_none, tg_wI, tg_wJ, tg_wR, ln_wI, ln_wJ, ln_wR, tg_cpI, ln_cpI, tg_cpR, ln_cpR, nx_wI, nx_wJ, nx_wR, sl_wI, sl_wJ, sl_wR, nx_cpI, sl_cpI, nx_cpR, sl_cpR, nx_nw, sl_nw, rJ_wI, rR_wI, rI_wJ, rR_wJ, rI_wR, rJ_wR, rJ_cpI, rR_cpI, rJ_cpR, rI_cpR, rI_wI, rJ_wJ, rq_wI, rq_wJ, rq_wR, rq_cpI, ↓reduceIte, Nat.reduceEqDiff, Nat.reduceAdd, Nat.reduceSub, Nat.reduceMul, Int.reduceAdd, Int.reduceSub, Int.reduceMul, Int.reduceNeg, Int.reduceLT, Int.reduceLE, Int.reduceEq, Int.reduceToNat, Int.sub_zero, Int.add_zero, Int.zero_add, true_and, and_true, false_and, and_false, or_true, true_or, or_false, false_or, not_true_eq_false, not_false_eq_true, eq_self, decide_true, decide_false, Bool.not_false, Bool.not_true, Bool.and_true, Bool.true_and, Bool.or_true, Bool.true_or, Bool.and_self, Bool.or_false, Bool.false_or, Bool.and_false, Bool.false_and, t1, m1]
/-- the method by the tag -/
def hM (k : Int) : Nat := if k = 0 then 115 else if k = 1 then 118 else if k = 2 then 121 else if k = 3 then 124 else if k = 4 then 128 else if k = 5 then 131 else 134
theorem i3_01 : (I3 0 = I3 1) = False := by rw [eq_iff_iff]; exact ⟨fun h => absurd h (by decide), False.elim⟩
theorem i3_10 : (I3 1 = I3 0) = False := by rw [eq_iff_iff]; exact ⟨fun h => absurd h (by decide), False.elim⟩
theorem bi_T : bi True = I3 1 := bi_pos trivial
theorem bi_F : bi False = I3 0 := bi_neg id
theorem bj_0 {A B : Prop} : (((0 : Int) = 0 ∧ (A ∨ B)) ∨ ((0 : Int) = 1 ∧ A ∧ B) ∨ ((0 : Int) = 2 ∧ A ∧ ¬ B)) = (A ∨ B) := by simp
theorem bj_1 {A B : Prop} : (((1 : Int) = 0 ∧ (A ∨ B)) ∨ ((1 : Int) = 1 ∧ A ∧ B) ∨ ((1 : Int) = 2 ∧ A ∧ ¬ B)) = (A ∧ B) := by simp
theorem bj_2 {A B : Prop} : (((2 : Int) = 0 ∧ (A ∨ B)) ∨ ((2 : Int) = 1 ∧ A ∧ B) ∨ ((2 : Int) = 2 ∧ A ∧ ¬ B)) = (A ∧ ¬ B) := by simp
theorem lk_has {t : Nat} {k : Int} (h : (t : Int) = 11 + k) (h2 : 0 ≤ k ∧ k ≤ 6) : lkN t [(11, 115, 7), (12, 118, 7), (13, 121, 7), (14, 124, 7), (15, 128, 7), (16, 131, 7), (17, 134, 7)] = some (hM k, 7) := by
  have : (t = 11 ∧ k = 0) ∨ (t = 12 ∧ k = 1) ∨ (t = 13 ∧ k = 2) ∨ (t = 14 ∧ k = 3) ∨ (t = 15 ∧ k = 4) ∨ (t = 16 ∧ k = 5) ∨ (t = 17 ∧ k = 6) := by omega
  rcases this with ⟨h, g⟩ | ⟨h, g⟩ | ⟨h, g⟩ | ⟨h, g⟩ | ⟨h, g⟩ | ⟨h, g⟩ | ⟨h, g⟩ <;> subst h <;> subst g <;> rfl
theorem has_h {σ : St} {T : Tb} {m e : Nat} (h : Sol σ T m e) : ∀ (n s a : Nat) (d : Nat) (x y z : Int), s ≤ n → 1 ≤ s → s ≤ m → rq σ e (s - 1) = some a →
    (-100000 - 5000 * (60 - s) ≤ x ∧ x ≤ 100000 + 5000 * (60 - s)) → (-100000 - 5000 * (60 - s) ≤ y ∧ y ≤ 100000 + 5000 * (60 - s)) → (-100000 - 5000 * (60 - s) ≤ z ∧ z ≤ 100000 + 5000 * (60 - s)) →
    DD L (d + n + 1) (hM (kd T s)) 0 [.ref a, .long (I6 x), .long (I6 y), .long (I6 z)] σ = ok (some (.int (bi (inS T s x y z)))) σ := by
  intro n
  induction n with
  | zero => intro s a d x y z h1 h2; omega
  | succ n ih =>
    intro s a d x y z hn h1 h2 ha hx hy hz
    have h0 := h
    obtain ⟨q1, q2, q3, q4⟩ := sol_arr h h1 h2
    obtain ⟨c1, c2, c3, c4, c5, c6, c7, c8⟩ := h
    have wf : ∀ s, 1 ≤ s → s ≤ m → WfS T s := fun s a b => (c6 s a b).1
    obtain ⟨a', e1, e2, e3, e4, -, e5⟩ := c7 s h1 h2
    rw [ha] at e1
    cases e1
    -- the sons
    have son : ∀ p : Int, 1 ≤ p → p < s → ∃ b, rq σ e (p.toNat - 1) = some b ∧ tg (FF L) σ b = σ.1 b ∧ lkN (σ.1 b) [(11, 115, 7), (12, 118, 7), (13, 121, 7), (14, 124, 7), (15, 128, 7), (16, 131, 7), (17, 134, 7)] = some (hM (kd T p.toNat), 7) := by
      intro p p1 p2
      obtain ⟨b, f1, f2, f3, f4, -⟩ := c7 p.toNat (by omega) (by omega)
      exact ⟨b, f1, tg_dyn f2, lk_has f4 (kd_rng (wf p.toNat (by omega) (by omega)))⟩
    have v2 : Nat.ble (0 + 7 + 11) 64 = true := rfl
    have w := wf s h1 h2
    rcases e5 with ⟨k, b, f1, f2⟩ | ⟨k, b, f1, f2⟩ | ⟨k, b, f1, f2⟩ | ⟨k, b, f1, f2⟩ | ⟨k, f0, f1, f2⟩ | ⟨k, f1, b, f2, f3⟩ | ⟨k, f1⟩
    · have hr : ∀ i, i < 6 → -5000 ≤ nb T s i ∧ nb T s i ≤ 5000 := by
        rcases w with w | w | w | w
        · exact w.2.2.1
        · omega
        · omega
        · omega
      rw [k]
      show DD L _ 115 0 _ σ = _
      rw [box_has _ e2 (by omega) f1 f2 hr (by omega) (by omega) (by omega), bi_congr (inS_0 h1 (by omega)), k]
    · have hr : ∀ i, i < 6 → -5000 ≤ nb T s i ∧ nb T s i ≤ 5000 := by
        rcases w with w | w | w | w
        · exact w.2.2.1
        · omega
        · omega
        · omega
      rw [k]
      show DD L _ 118 0 _ σ = _
      rw [post_has _ e2 (by omega) f1 f2 hr (by omega) (by omega) (by omega), bi_congr (inS_0 h1 (by omega)), k]
    · have hr : ∀ i, i < 6 → -5000 ≤ nb T s i ∧ nb T s i ≤ 5000 := by
        rcases w with w | w | w | w
        · exact w.2.2.1
        · omega
        · omega
        · omega
      rw [k]
      show DD L _ 121 0 _ σ = _
      rw [ball_has _ e2 (by omega) f1 f2 hr (by omega) (by omega) (by omega), bi_congr (inS_0 h1 (by omega)), k]
    · have hr : ∀ i, i < 6 → -5000 ≤ nb T s i ∧ nb T s i ≤ 5000 := by
        rcases w with w | w | w | w
        · exact w.2.2.1
        · omega
        · omega
        · omega
      rw [k]
      show DD L _ 124 0 _ σ = _
      rw [cone_has _ e2 (by omega) f1 f2 hr (by omega) (by omega) (by omega), bi_congr (inS_0 h1 (by omega)), k]
    · -- a join
      have w4 : 1 ≤ nb T s 0 ∧ nb T s 0 < s ∧ 1 ≤ nb T s 1 ∧ nb T s 1 < s ∧ 0 ≤ nb T s 2 ∧ nb T s 2 ≤ 2 := by unfold WfS at w; omega
      obtain ⟨p, p1, p2, p3⟩ := son (nb T s 0) (by omega) (by omega)
      obtain ⟨q, r1, r2, r3⟩ := son (nb T s 1) (by omega) (by omega)
      have t1 : tg (FF L) σ a = 15 := (tg_dyn e2).trans (by omega)
      have t2 : rR (FF L) σ a 1 = some p := (rR_dyn e2).trans (f1.trans p1)
      have t3 : rR (FF L) σ a 2 = some q := (rR_dyn e2).trans (f2.trans r1)
      have m1 : memN 15 [15] = true := rfl
      have i1 := ih (nb T s 0).toNat p d x y z (by omega) (by omega) (by omega) p1 (by omega) (by omega) (by omega)
      have i2 := ih (nb T s 1).toNat q d x y z (by omega) (by omega) (by omega) r1 (by omega) (by omega) (by omega)
      rw [k]
      show DD L (d + n + 1 + 1) 128 0 _ σ = _
      rw [E_X15_has_0, bi_congr (inS_4 wf h1 h2 k)]
      simp (disch := omega) only [I3_of, I6_of, I3_nat, I3_add, I3_sub, I3_mul, I3_neg, I6_add, I6_sub, I6_mul, I6_neg, I3_lt, I3_le, I3_eq, I6_lt, I6_le, I6_eq, I3_cl, I3_64, I6_32, cmp_pos', cmp_neg', cmp_eq', inb_I, cond_true, cond_false, aI_ok, aJ_ok, aA_ok, aV_ok', aI_thr, aJ_thr, aA_thr, aV_thr, ob_some, on_some, on_none, tg_wI, tg_wJ, tg_wR, ln_wI, ln_wJ, ln_wR, tg_cpI, ln_cpI, tg_cpR, ln_cpR, nx_wI, nx_wJ, nx_wR, sl_wI, sl_wJ, sl_wR, nx_cpI, sl_cpI, nx_cpR, sl_cpR, nx_nw, sl_nw, rJ_wI, rR_wI, rI_wJ, rR_wJ, rI_wR, rJ_wR, rJ_cpI, rR_cpI, rJ_cpR, rI_cpR, rI_wI, rJ_wJ, rq_wI, rq_wJ, rq_wR, rq_cpI, ↓reduceIte, Nat.reduceEqDiff, Nat.reduceAdd, Nat.reduceSub, Nat.reduceMul, Int.reduceAdd, Int.reduceSub, Int.reduceMul, Int.reduceNeg, Int.reduceLT, Int.reduceLE, Int.reduceEq, Int.reduceToNat, Int.sub_zero, Int.add_zero, Int.zero_add, true_and, and_true, false_and, and_false, or_true, true_or, or_false, false_or, not_true_eq_false, not_false_eq_true, eq_self, decide_true, decide_false, Bool.not_false, Bool.not_true, Bool.and_true, Bool.true_and, Bool.or_true, Bool.true_or, Bool.and_self, Bool.or_false, Bool.false_or, Bool.and_false, Bool.false_and, t1, t2, t3, m1, f0, vcall_def, p2, p3, r2, r3, v2, i1, i2]
      generalize inS T (nb T s 0).toNat x y z = A
      generalize inS T (nb T s 1).toNat x y z = B
      have g3 : nb T s 2 = 0 ∨ nb T s 2 = 1 ∨ nb T s 2 = 2 := by omega
      rcases g3 with g | g | g <;> rw [g] <;> by_cases u1 : A <;> by_cases u2 : B <;> simp only [u1, u2, bi_T, bi_F, bj_0, bj_1, bj_2, i3_10, ↓reduceIte, not_true_eq_false, not_false_eq_true, and_true, and_false, or_true, or_false, true_or, false_or, or_self, and_self] <;> simp (disch := omega) only [I3_of, I6_of, I3_nat, I3_add, I3_sub, I3_mul, I3_neg, I6_add, I6_sub, I6_mul, I6_neg, I3_lt, I3_le, I3_eq, I6_lt, I6_le, I6_eq, I3_cl, I3_64, I6_32, cmp_pos', cmp_neg', cmp_eq', inb_I, cond_true, cond_false, aI_ok, aJ_ok, aA_ok, aV_ok', aI_thr, aJ_thr, aA_thr, aV_thr, ob_some, on_some, on_none, tg_wI, tg_wJ, tg_wR, ln_wI, ln_wJ, ln_wR, tg_cpI, ln_cpI, tg_cpR, ln_cpR, nx_wI, nx_wJ, nx_wR, sl_wI, sl_wJ, sl_wR, nx_cpI, sl_cpI, nx_cpR, sl_cpR, nx_nw, sl_nw, rJ_wI, rR_wI, rI_wJ, rR_wJ, rI_wR, rJ_wR, rJ_cpI, rR_cpI, rJ_cpR, rI_cpR, rI_wI, rJ_wJ, rq_wI, rq_wJ, rq_wR, rq_cpI, ↓reduceIte, Nat.reduceEqDiff, Nat.reduceAdd, Nat.reduceSub, Nat.reduceMul, Int.reduceAdd, Int.reduceSub, Int.reduceMul, Int.reduceNeg, Int.reduceLT, Int.reduceLE, Int.reduceEq, Int.reduceToNat, Int.sub_zero, Int.add_zero, Int.zero_add, true_and, and_true, false_and, and_false, or_true, true_or, or_false, false_or, not_true_eq_false, not_false_eq_true, eq_self, decide_true, decide_false, Bool.not_false, Bool.not_true, Bool.and_true, Bool.true_and, Bool.or_true, Bool.true_or, Bool.and_self, Bool.or_false, Bool.false_or, Bool.and_false, Bool.false_and, bi_T, bi_F, i3_10, E_X15_has_79, i3_01]
    · -- moved
      have w5 : 1 ≤ nb T s 3 ∧ nb T s 3 < s ∧ (∀ i, i < 3 → -5000 ≤ nb T s i ∧ nb T s i ≤ 5000) := by
        rcases w with w | w | w | w
        · omega
        · omega
        · exact ⟨w.2.1, w.2.2.1, w.2.2.2.1⟩
        · omega
      obtain ⟨w51, w52, w53⟩ := w5
      have n0 := w53 0 (by omega)
      have n1 := w53 1 (by omega)
      have n2 := w53 2 (by omega)
      obtain ⟨p, p1, p2, p3⟩ := son (nb T s 3) (by omega) (by omega)
      obtain ⟨b1, b2, b3, b4, b5⟩ := f3
      have t1 : tg (FF L) σ a = 16 := (tg_dyn e2).trans (by omega)
      have t2 : rR (FF L) σ a 1 = some p := (rR_dyn e2).trans (f1.trans p1)
      have t3 : rR (FF L) σ a 2 = some b := (rR_dyn e2).trans f2
      have t4 : tg (FF L) σ b = 64 := (tg_dyn b1).trans b3
      have t5 : ln (FF L) σ b = 3 := (ln_dyn b1).trans b4
      have m1 : memN 16 [16] = true := rfl
      have m2 : Nat.beq 64 64 = true := rfl
      have i1 := ih (nb T s 3).toNat p d (x - nb T s 0) (y - nb T s 1) (z - nb T s 2) (by omega) (by omega) (by omega) p1 (by omega) (by omega) (by omega)
      rw [k]
      show DD L (d + n + 1 + 1) 131 0 _ σ = _
      rw [E_X16_has_0, bi_congr (inS_5 wf h1 h2 k)]
      simp (disch := omega) only [I3_of, I6_of, I3_nat, I3_add, I3_sub, I3_mul, I3_neg, I6_add, I6_sub, I6_mul, I6_neg, I3_lt, I3_le, I3_eq, I6_lt, I6_le, I6_eq, I3_cl, I3_64, I6_32, cmp_pos', cmp_neg', cmp_eq', inb_I, cond_true, cond_false, aI_ok, aJ_ok, aA_ok, aV_ok', aI_thr, aJ_thr, aA_thr, aV_thr, ob_some, on_some, on_none, tg_wI, tg_wJ, tg_wR, ln_wI, ln_wJ, ln_wR, tg_cpI, ln_cpI, tg_cpR, ln_cpR, nx_wI, nx_wJ, nx_wR, sl_wI, sl_wJ, sl_wR, nx_cpI, sl_cpI, nx_cpR, sl_cpR, nx_nw, sl_nw, rJ_wI, rR_wI, rI_wJ, rR_wJ, rI_wR, rJ_wR, rJ_cpI, rR_cpI, rJ_cpR, rI_cpR, rI_wI, rJ_wJ, rq_wI, rq_wJ, rq_wR, rq_cpI, ↓reduceIte, Nat.reduceEqDiff, Nat.reduceAdd, Nat.reduceSub, Nat.reduceMul, Int.reduceAdd, Int.reduceSub, Int.reduceMul, Int.reduceNeg, Int.reduceLT, Int.reduceLE, Int.reduceEq, Int.reduceToNat, Int.sub_zero, Int.add_zero, Int.zero_add, true_and, and_true, false_and, and_false, or_true, true_or, or_false, false_or, not_true_eq_false, not_false_eq_true, eq_self, decide_true, decide_false, Bool.not_false, Bool.not_true, Bool.and_true, Bool.true_and, Bool.or_true, Bool.true_or, Bool.and_self, Bool.or_false, Bool.false_or, Bool.and_false, Bool.false_and, t1, t2, t3, t4, t5, m1, m2, vcall_def, p2, p3, v2, b5 0 (by omega), b5 1 (by omega), b5 2 (by omega), i1, bi_01]
    · -- turned
      have w6 : 1 ≤ nb T s 0 ∧ nb T s 0 < s := by unfold WfS at w; omega
      obtain ⟨p, p1, p2, p3⟩ := son (nb T s 0) (by omega) (by omega)
      have t1 : tg (FF L) σ a = 17 := (tg_dyn e2).trans (by omega)
      have t2 : rR (FF L) σ a 1 = some p := (rR_dyn e2).trans (f1.trans p1)
      have m1 : memN 17 [17] = true := rfl
      have i1 := ih (nb T s 0).toNat p d y (-x) z (by omega) (by omega) (by omega) p1 (by omega) (by omega) (by omega)
      rw [k]
      show DD L (d + n + 1 + 1) 134 0 _ σ = _
      rw [E_X17_has_0, bi_congr (inS_6 wf h1 h2 k)]
      simp (disch := omega) only [I3_of, I6_of, I3_nat, I3_add, I3_sub, I3_mul, I3_neg, I6_add, I6_sub, I6_mul, I6_neg, I3_lt, I3_le, I3_eq, I6_lt, I6_le, I6_eq, I3_cl, I3_64, I6_32, cmp_pos', cmp_neg', cmp_eq', inb_I, cond_true, cond_false, aI_ok, aJ_ok, aA_ok, aV_ok', aI_thr, aJ_thr, aA_thr, aV_thr, ob_some, on_some, on_none, tg_wI, tg_wJ, tg_wR, ln_wI, ln_wJ, ln_wR, tg_cpI, ln_cpI, tg_cpR, ln_cpR, nx_wI, nx_wJ, nx_wR, sl_wI, sl_wJ, sl_wR, nx_cpI, sl_cpI, nx_cpR, sl_cpR, nx_nw, sl_nw, rJ_wI, rR_wI, rI_wJ, rR_wJ, rI_wR, rJ_wR, rJ_cpI, rR_cpI, rJ_cpR, rI_cpR, rI_wI, rJ_wJ, rq_wI, rq_wJ, rq_wR, rq_cpI, ↓reduceIte, Nat.reduceEqDiff, Nat.reduceAdd, Nat.reduceSub, Nat.reduceMul, Int.reduceAdd, Int.reduceSub, Int.reduceMul, Int.reduceNeg, Int.reduceLT, Int.reduceLE, Int.reduceEq, Int.reduceToNat, Int.sub_zero, Int.add_zero, Int.zero_add, true_and, and_true, false_and, and_false, or_true, true_or, or_false, false_or, not_true_eq_false, not_false_eq_true, eq_self, decide_true, decide_false, Bool.not_false, Bool.not_true, Bool.and_true, Bool.true_and, Bool.or_true, Bool.true_or, Bool.and_self, Bool.or_false, Bool.false_or, Bool.and_false, Bool.false_and, t1, t2, m1, vcall_def, p2, p3, v2, i1, bi_01]
/-- the model's test -/
theorem isIn_m {σ : St} {T : Tb} {m e : Nat} (h : Sol σ T m e) : ∀ (n s : Nat) (d : Nat) (x y z : Int), s ≤ n → 1 ≤ s → s ≤ m →
    (-100000 - 5000 * (60 - s) ≤ x ∧ x ≤ 100000 + 5000 * (60 - s)) → (-100000 - 5000 * (60 - s) ≤ y ∧ y ≤ 100000 + 5000 * (60 - s)) → (-100000 - 5000 * (60 - s) ≤ z ∧ z ≤ 100000 + 5000 * (60 - s)) →
    DD L (d + n + 1) 207 0 [.ref 714, .int (I3 s), .long (I6 x), .long (I6 y), .long (I6 z)] σ = ok (some (.int (bi (inS T s x y z)))) σ := by
  intro n
  induction n with
  | zero => intro s d x y z h1 h2; omega
  | succ n ih =>
    intro s d x y z hn h1 h2 hx hy hz
    obtain ⟨c1, c2, c3, c4, c5, c6, c7, c8⟩ := h
    have wf : ∀ s, 1 ≤ s → s ≤ m → WfS T s := fun s a b => (c6 s a b).1
    obtain ⟨e1, e2, e3⟩ := c8 s h1 h2
    have w := wf s h1 h2
    have num : ∀ i : Nat, i < 6 → DD L (d + n + 1) 208 0 [.ref 714, .int (I3 s), .int (I3 i)] σ = ok (some (.int (I3 (nb T s i)))) σ := by
      intro i hi
      rw [E_X8_number_0]
      simp (disch := omega) only [I3_of, I6_of, I3_nat, I3_add, I3_sub, I3_mul, I3_neg, I6_add, I6_sub, I6_mul, I6_neg, I3_lt, I3_le, I3_eq, I6_lt, I6_le, I6_eq, I3_cl, I3_64, I6_32, cmp_pos', cmp_neg', cmp_eq', inb_I, cond_true, cond_false, aI_ok, aJ_ok, aA_ok, aV_ok', aI_thr, aJ_thr, aA_thr, aV_thr, ob_some, on_some, on_none, tg_wI, tg_wJ, tg_wR, ln_wI, ln_wJ, ln_wR, tg_cpI, ln_cpI, tg_cpR, ln_cpR, nx_wI, nx_wJ, nx_wR, sl_wI, sl_wJ, sl_wR, nx_cpI, sl_cpI, nx_cpR, sl_cpR, nx_nw, sl_nw, rJ_wI, rR_wI, rI_wJ, rR_wJ, rI_wR, rJ_wR, rJ_cpI, rR_cpI, rJ_cpR, rI_cpR, rI_wI, rJ_wJ, rq_wI, rq_wJ, rq_wR, rq_cpI, ↓reduceIte, Nat.reduceEqDiff, Nat.reduceAdd, Nat.reduceSub, Nat.reduceMul, Int.reduceAdd, Int.reduceSub, Int.reduceMul, Int.reduceNeg, Int.reduceLT, Int.reduceLE, Int.reduceEq, Int.reduceToNat, Int.sub_zero, Int.add_zero, Int.zero_add, true_and, and_true, false_and, and_false, or_true, true_or, or_false, false_or, not_true_eq_false, not_false_eq_true, eq_self, decide_true, decide_false, Bool.not_false, Bool.not_true, Bool.and_true, Bool.true_and, Bool.or_true, Bool.true_or, Bool.and_self, Bool.or_false, Bool.false_or, Bool.and_false, Bool.false_and]
      rw [show (6 * (s : Int) + (i : Int)).toNat = 6 * s + i by omega, e2 i hi]
    have n0 : DD L (d + n + 1) 208 0 [.ref 714, .int (I3 s), .int (I3 0)] σ = ok (some (.int (I3 (nb T s 0)))) σ := num 0 (by omega)
    have n1 : DD L (d + n + 1) 208 0 [.ref 714, .int (I3 s), .int (I3 1)] σ = ok (some (.int (I3 (nb T s 1)))) σ := num 1 (by omega)
    have n2 : DD L (d + n + 1) 208 0 [.ref 714, .int (I3 s), .int (I3 2)] σ = ok (some (.int (I3 (nb T s 2)))) σ := num 2 (by omega)
    have n3 : DD L (d + n + 1) 208 0 [.ref 714, .int (I3 s), .int (I3 3)] σ = ok (some (.int (I3 (nb T s 3)))) σ := num 3 (by omega)
    have e0 : ((s : Int)).toNat = s := by omega
    show DD L (d + n + 1 + 1) 207 0 _ σ = _
    rw [E_X8_isIn_0]
    have kr := kd_rng w
    simp (disch := omega) only [I3_of, I6_of, I3_nat, I3_add, I3_sub, I3_mul, I3_neg, I6_add, I6_sub, I6_mul, I6_neg, I3_lt, I3_le, I3_eq, I6_lt, I6_le, I6_eq, I3_cl, I3_64, I6_32, cmp_pos', cmp_neg', cmp_eq', inb_I, cond_true, cond_false, aI_ok, aJ_ok, aA_ok, aV_ok', aI_thr, aJ_thr, aA_thr, aV_thr, ob_some, on_some, on_none, tg_wI, tg_wJ, tg_wR, ln_wI, ln_wJ, ln_wR, tg_cpI, ln_cpI, tg_cpR, ln_cpR, nx_wI, nx_wJ, nx_wR, sl_wI, sl_wJ, sl_wR, nx_cpI, sl_cpI, nx_cpR, sl_cpR, nx_nw, sl_nw, rJ_wI, rR_wI, rI_wJ, rR_wJ, rI_wR, rJ_wR, rJ_cpI, rR_cpI, rJ_cpR, rI_cpR, rI_wI, rJ_wJ, rq_wI, rq_wJ, rq_wR, rq_cpI, ↓reduceIte, Nat.reduceEqDiff, Nat.reduceAdd, Nat.reduceSub, Nat.reduceMul, Int.reduceAdd, Int.reduceSub, Int.reduceMul, Int.reduceNeg, Int.reduceLT, Int.reduceLE, Int.reduceEq, Int.reduceToNat, Int.sub_zero, Int.add_zero, Int.zero_add, true_and, and_true, false_and, and_false, or_true, true_or, or_false, false_or, not_true_eq_false, not_false_eq_true, eq_self, decide_true, decide_false, Bool.not_false, Bool.not_true, Bool.and_true, Bool.true_and, Bool.or_true, Bool.true_or, Bool.and_self, Bool.or_false, Bool.false_or, Bool.and_false, Bool.false_and, e0, e1]
    by_cases k4 : kd T s = 4
    · have w4 : 1 ≤ nb T s 0 ∧ nb T s 0 < s ∧ 1 ≤ nb T s 1 ∧ nb T s 1 < s ∧ 0 ≤ nb T s 2 ∧ nb T s 2 ≤ 2 := by unfold WfS at w; omega
      have i1 := ih (nb T s 0).toNat d x y z (by omega) (by omega) (by omega) (by omega) (by omega) (by omega)
      have i2 := ih (nb T s 1).toNat d x y z (by omega) (by omega) (by omega) (by omega) (by omega) (by omega)
      rw [show (((nb T s 0).toNat : Nat) : Int) = nb T s 0 by omega] at i1
      rw [show (((nb T s 1).toNat : Nat) : Int) = nb T s 1 by omega] at i2
      rw [if_pos k4, bi_congr (inS_4 wf h1 h2 k4)]
      simp (disch := omega) only [I3_of, I6_of, I3_nat, I3_add, I3_sub, I3_mul, I3_neg, I6_add, I6_sub, I6_mul, I6_neg, I3_lt, I3_le, I3_eq, I6_lt, I6_le, I6_eq, I3_cl, I3_64, I6_32, cmp_pos', cmp_neg', cmp_eq', inb_I, cond_true, cond_false, aI_ok, aJ_ok, aA_ok, aV_ok', aI_thr, aJ_thr, aA_thr, aV_thr, ob_some, on_some, on_none, tg_wI, tg_wJ, tg_wR, ln_wI, ln_wJ, ln_wR, tg_cpI, ln_cpI, tg_cpR, ln_cpR, nx_wI, nx_wJ, nx_wR, sl_wI, sl_wJ, sl_wR, nx_cpI, sl_cpI, nx_cpR, sl_cpR, nx_nw, sl_nw, rJ_wI, rR_wI, rI_wJ, rR_wJ, rI_wR, rJ_wR, rJ_cpI, rR_cpI, rJ_cpR, rI_cpR, rI_wI, rJ_wJ, rq_wI, rq_wJ, rq_wR, rq_cpI, ↓reduceIte, Nat.reduceEqDiff, Nat.reduceAdd, Nat.reduceSub, Nat.reduceMul, Int.reduceAdd, Int.reduceSub, Int.reduceMul, Int.reduceNeg, Int.reduceLT, Int.reduceLE, Int.reduceEq, Int.reduceToNat, Int.sub_zero, Int.add_zero, Int.zero_add, true_and, and_true, false_and, and_false, or_true, true_or, or_false, false_or, not_true_eq_false, not_false_eq_true, eq_self, decide_true, decide_false, Bool.not_false, Bool.not_true, Bool.and_true, Bool.true_and, Bool.or_true, Bool.true_or, Bool.and_self, Bool.or_false, Bool.false_or, Bool.and_false, Bool.false_and, n0, n1, n2, i1, i2]
      generalize inS T (nb T s 0).toNat x y z = A
      generalize inS T (nb T s 1).toNat x y z = B
      have g3 : nb T s 2 = 0 ∨ nb T s 2 = 1 ∨ nb T s 2 = 2 := by omega
      rcases g3 with g | g | g <;> rw [g] <;> by_cases u1 : A <;> by_cases u2 : B <;> simp only [u1, u2, bi_T, bi_F, bj_0, bj_1, bj_2, i3_10, ↓reduceIte, not_true_eq_false, not_false_eq_true, and_true, and_false, or_true, or_false, true_or, false_or, or_self, and_self] <;> simp (disch := omega) only [I3_of, I6_of, I3_nat, I3_add, I3_sub, I3_mul, I3_neg, I6_add, I6_sub, I6_mul, I6_neg, I3_lt, I3_le, I3_eq, I6_lt, I6_le, I6_eq, I3_cl, I3_64, I6_32, cmp_pos', cmp_neg', cmp_eq', inb_I, cond_true, cond_false, aI_ok, aJ_ok, aA_ok, aV_ok', aI_thr, aJ_thr, aA_thr, aV_thr, ob_some, on_some, on_none, tg_wI, tg_wJ, tg_wR, ln_wI, ln_wJ, ln_wR, tg_cpI, ln_cpI, tg_cpR, ln_cpR, nx_wI, nx_wJ, nx_wR, sl_wI, sl_wJ, sl_wR, nx_cpI, sl_cpI, nx_cpR, sl_cpR, nx_nw, sl_nw, rJ_wI, rR_wI, rI_wJ, rR_wJ, rI_wR, rJ_wR, rJ_cpI, rR_cpI, rJ_cpR, rI_cpR, rI_wI, rJ_wJ, rq_wI, rq_wJ, rq_wR, rq_cpI, ↓reduceIte, Nat.reduceEqDiff, Nat.reduceAdd, Nat.reduceSub, Nat.reduceMul, Int.reduceAdd, Int.reduceSub, Int.reduceMul, Int.reduceNeg, Int.reduceLT, Int.reduceLE, Int.reduceEq, Int.reduceToNat, Int.sub_zero, Int.add_zero, Int.zero_add, true_and, and_true, false_and, and_false, or_true, true_or, or_false, false_or, not_true_eq_false, not_false_eq_true, eq_self, decide_true, decide_false, Bool.not_false, Bool.not_true, Bool.and_true, Bool.true_and, Bool.or_true, Bool.true_or, Bool.and_self, Bool.or_false, Bool.false_or, Bool.and_false, Bool.false_and, bi_T, bi_F, i3_10, i3_01]
    · rw [if_neg k4]
      by_cases k5 : kd T s = 5
      · have w5 : 1 ≤ nb T s 3 ∧ nb T s 3 < s ∧ (∀ i, i < 3 → -5000 ≤ nb T s i ∧ nb T s i ≤ 5000) := by
          rcases w with w | w | w | w
          · omega
          · omega
          · exact ⟨w.2.1, w.2.2.1, w.2.2.2.1⟩
          · omega
        obtain ⟨w51, w52, w53⟩ := w5
        have v0 := w53 0 (by omega)
        have v1 := w53 1 (by omega)
        have v2 := w53 2 (by omega)
        have i1 := ih (nb T s 3).toNat d (x - nb T s 0) (y - nb T s 1) (z - nb T s 2) (by omega) (by omega) (by omega) (by omega) (by omega) (by omega)
        rw [show (((nb T s 3).toNat : Nat) : Int) = nb T s 3 by omega] at i1
        rw [if_pos k5, bi_congr (inS_5 wf h1 h2 k5)]
        simp (disch := omega) only [I3_of, I6_of, I3_nat, I3_add, I3_sub, I3_mul, I3_neg, I6_add, I6_sub, I6_mul, I6_neg, I3_lt, I3_le, I3_eq, I6_lt, I6_le, I6_eq, I3_cl, I3_64, I6_32, cmp_pos', cmp_neg', cmp_eq', inb_I, cond_true, cond_false, aI_ok, aJ_ok, aA_ok, aV_ok', aI_thr, aJ_thr, aA_thr, aV_thr, ob_some, on_some, on_none, tg_wI, tg_wJ, tg_wR, ln_wI, ln_wJ, ln_wR, tg_cpI, ln_cpI, tg_cpR, ln_cpR, nx_wI, nx_wJ, nx_wR, sl_wI, sl_wJ, sl_wR, nx_cpI, sl_cpI, nx_cpR, sl_cpR, nx_nw, sl_nw, rJ_wI, rR_wI, rI_wJ, rR_wJ, rI_wR, rJ_wR, rJ_cpI, rR_cpI, rJ_cpR, rI_cpR, rI_wI, rJ_wJ, rq_wI, rq_wJ, rq_wR, rq_cpI, ↓reduceIte, Nat.reduceEqDiff, Nat.reduceAdd, Nat.reduceSub, Nat.reduceMul, Int.reduceAdd, Int.reduceSub, Int.reduceMul, Int.reduceNeg, Int.reduceLT, Int.reduceLE, Int.reduceEq, Int.reduceToNat, Int.sub_zero, Int.add_zero, Int.zero_add, true_and, and_true, false_and, and_false, or_true, true_or, or_false, false_or, not_true_eq_false, not_false_eq_true, eq_self, decide_true, decide_false, Bool.not_false, Bool.not_true, Bool.and_true, Bool.true_and, Bool.or_true, Bool.true_or, Bool.and_self, Bool.or_false, Bool.false_or, Bool.and_false, Bool.false_and, n0, n1, n2, n3, i1, bi_01]
      · rw [if_neg k5]
        by_cases k6 : kd T s = 6
        · have w6 : 1 ≤ nb T s 0 ∧ nb T s 0 < s := by unfold WfS at w; omega
          have i1 := ih (nb T s 0).toNat d y (-x) z (by omega) (by omega) (by omega) (by omega) (by omega) (by omega)
          rw [show (((nb T s 0).toNat : Nat) : Int) = nb T s 0 by omega] at i1
          rw [if_pos k6, bi_congr (inS_6 wf h1 h2 k6)]
          simp (disch := omega) only [I3_of, I6_of, I3_nat, I3_add, I3_sub, I3_mul, I3_neg, I6_add, I6_sub, I6_mul, I6_neg, I3_lt, I3_le, I3_eq, I6_lt, I6_le, I6_eq, I3_cl, I3_64, I6_32, cmp_pos', cmp_neg', cmp_eq', inb_I, cond_true, cond_false, aI_ok, aJ_ok, aA_ok, aV_ok', aI_thr, aJ_thr, aA_thr, aV_thr, ob_some, on_some, on_none, tg_wI, tg_wJ, tg_wR, ln_wI, ln_wJ, ln_wR, tg_cpI, ln_cpI, tg_cpR, ln_cpR, nx_wI, nx_wJ, nx_wR, sl_wI, sl_wJ, sl_wR, nx_cpI, sl_cpI, nx_cpR, sl_cpR, nx_nw, sl_nw, rJ_wI, rR_wI, rI_wJ, rR_wJ, rI_wR, rJ_wR, rJ_cpI, rR_cpI, rJ_cpR, rI_cpR, rI_wI, rJ_wJ, rq_wI, rq_wJ, rq_wR, rq_cpI, ↓reduceIte, Nat.reduceEqDiff, Nat.reduceAdd, Nat.reduceSub, Nat.reduceMul, Int.reduceAdd, Int.reduceSub, Int.reduceMul, Int.reduceNeg, Int.reduceLT, Int.reduceLE, Int.reduceEq, Int.reduceToNat, Int.sub_zero, Int.add_zero, Int.zero_add, true_and, and_true, false_and, and_false, or_true, true_or, or_false, false_or, not_true_eq_false, not_false_eq_true, eq_self, decide_true, decide_false, Bool.not_false, Bool.not_true, Bool.and_true, Bool.true_and, Bool.or_true, Bool.true_or, Bool.and_self, Bool.or_false, Bool.false_or, Bool.and_false, Bool.false_and, n0, i1, bi_01]
        · have hr : ∀ i, i < 6 → -5000 ≤ nb T s i ∧ nb T s i ≤ 5000 := by
            rcases w with w | w | w | w
            · exact w.2.2.1
            · omega
            · omega
            · omega
          rw [if_neg k6, kind_m _ (by omega) e1 e2 (by omega) hr (by omega) (by omega) (by omega), bi_congr (inS_0 h1 (by omega))]
          simp (disch := omega) only [I3_of, I6_of, I3_nat, I3_add, I3_sub, I3_mul, I3_neg, I6_add, I6_sub, I6_mul, I6_neg, I3_lt, I3_le, I3_eq, I6_lt, I6_le, I6_eq, I3_cl, I3_64, I6_32, cmp_pos', cmp_neg', cmp_eq', inb_I, cond_true, cond_false, aI_ok, aJ_ok, aA_ok, aV_ok', aI_thr, aJ_thr, aA_thr, aV_thr, ob_some, on_some, on_none, tg_wI, tg_wJ, tg_wR, ln_wI, ln_wJ, ln_wR, tg_cpI, ln_cpI, tg_cpR, ln_cpR, nx_wI, nx_wJ, nx_wR, sl_wI, sl_wJ, sl_wR, nx_cpI, sl_cpI, nx_cpR, sl_cpR, nx_nw, sl_nw, rJ_wI, rR_wI, rI_wJ, rR_wJ, rI_wR, rJ_wR, rJ_cpI, rR_cpI, rJ_cpR, rI_cpR, rI_wI, rJ_wJ, rq_wI, rq_wJ, rq_wR, rq_cpI, ↓reduceIte, Nat.reduceEqDiff, Nat.reduceAdd, Nat.reduceSub, Nat.reduceMul, Int.reduceAdd, Int.reduceSub, Int.reduceMul, Int.reduceNeg, Int.reduceLT, Int.reduceLE, Int.reduceEq, Int.reduceToNat, Int.sub_zero, Int.add_zero, Int.zero_add, true_and, and_true, false_and, and_false, or_true, true_or, or_false, false_or, not_true_eq_false, not_false_eq_true, eq_self, decide_true, decide_false, Bool.not_false, Bool.not_true, Bool.and_true, Bool.true_and, Bool.or_true, Bool.true_or, Bool.and_self, Bool.or_false, Bool.false_or, Bool.and_false, Bool.false_and, bi_01]
theorem op_inside (d : Nat) {σ : St} {T : Tb} {m e : Nat} (h : Sol σ T m e) (v1 v2 v3 v4 : Int32) :
    ∃ v, DD L (d + 65) 33 0 [.ref 16, .int v1, .int v2, .int v3, .int v4] σ = ok (some (.int v)) σ ∧ DD L (d + 65) 205 0 [.ref 714, .int v1, .int v2, .int v3, .int v4] σ = ok (some (.int v)) σ := by
  obtain ⟨s, rfl, s1, s2⟩ := I3_ex v1
  obtain ⟨x, rfl, x1, x2⟩ := I3_ex v2
  obtain ⟨y, rfl, y1, y2⟩ := I3_ex v3
  obtain ⟨z, rfl, z1, z2⟩ := I3_ex v4
  have near : ∀ (D : Nat) (z : Int), -2147483648 ≤ z → z ≤ 2147483647 → DD L D 34 0 [.int (I3 z)] σ = ok (some (.int (bi (-100000 ≤ z ∧ z ≤ 100000)))) σ := by
    intro D z h1 h2
    rw [E_X0_isNear_0]
    simp (disch := omega) only [I3_of, I6_of, I3_nat, I3_add, I3_sub, I3_mul, I3_neg, I6_add, I6_sub, I6_mul, I6_neg, I3_lt, I3_le, I3_eq, I6_lt, I6_le, I6_eq, I3_cl, I3_64, I6_32, cmp_pos', cmp_neg', cmp_eq', inb_I, cond_true, cond_false, aI_ok, aJ_ok, aA_ok, aV_ok', aI_thr, aJ_thr, aA_thr, aV_thr, ob_some, on_some, on_none, tg_wI, tg_wJ, tg_wR, ln_wI, ln_wJ, ln_wR, tg_cpI, ln_cpI, tg_cpR, ln_cpR, nx_wI, nx_wJ, nx_wR, sl_wI, sl_wJ, sl_wR, nx_cpI, sl_cpI, nx_cpR, sl_cpR, nx_nw, sl_nw, rJ_wI, rR_wI, rI_wJ, rR_wJ, rI_wR, rJ_wR, rJ_cpI, rR_cpI, rJ_cpR, rI_cpR, rI_wI, rJ_wJ, rq_wI, rq_wJ, rq_wR, rq_cpI, ↓reduceIte, Nat.reduceEqDiff, Nat.reduceAdd, Nat.reduceSub, Nat.reduceMul, Int.reduceAdd, Int.reduceSub, Int.reduceMul, Int.reduceNeg, Int.reduceLT, Int.reduceLE, Int.reduceEq, Int.reduceToNat, Int.sub_zero, Int.add_zero, Int.zero_add, true_and, and_true, false_and, and_false, or_true, true_or, or_false, false_or, not_true_eq_false, not_false_eq_true, eq_self, decide_true, decide_false, Bool.not_false, Bool.not_true, Bool.and_true, Bool.true_and, Bool.or_true, Bool.true_or, Bool.and_self, Bool.or_false, Bool.false_or, Bool.and_false, Bool.false_and]
    repeat' split
    all_goals first | rw [bi_neg (by omega)] | rw [bi_pos (by omega)]
  have nearM : ∀ (D : Nat) (z : Int), -2147483648 ≤ z → z ≤ 2147483647 → DD L D 206 0 [.int (I3 z)] σ = ok (some (.int (bi (-100000 ≤ z ∧ z ≤ 100000)))) σ := by
    intro D z h1 h2
    rw [E_X8_isNear_0]
    simp (disch := omega) only [I3_of, I6_of, I3_nat, I3_add, I3_sub, I3_mul, I3_neg, I6_add, I6_sub, I6_mul, I6_neg, I3_lt, I3_le, I3_eq, I6_lt, I6_le, I6_eq, I3_cl, I3_64, I6_32, cmp_pos', cmp_neg', cmp_eq', inb_I, cond_true, cond_false, aI_ok, aJ_ok, aA_ok, aV_ok', aI_thr, aJ_thr, aA_thr, aV_thr, ob_some, on_some, on_none, tg_wI, tg_wJ, tg_wR, ln_wI, ln_wJ, ln_wR, tg_cpI, ln_cpI, tg_cpR, ln_cpR, nx_wI, nx_wJ, nx_wR, sl_wI, sl_wJ, sl_wR, nx_cpI, sl_cpI, nx_cpR, sl_cpR, nx_nw, sl_nw, rJ_wI, rR_wI, rI_wJ, rR_wJ, rI_wR, rJ_wR, rJ_cpI, rR_cpI, rJ_cpR, rI_cpR, rI_wI, rJ_wJ, rq_wI, rq_wJ, rq_wR, rq_cpI, ↓reduceIte, Nat.reduceEqDiff, Nat.reduceAdd, Nat.reduceSub, Nat.reduceMul, Int.reduceAdd, Int.reduceSub, Int.reduceMul, Int.reduceNeg, Int.reduceLT, Int.reduceLE, Int.reduceEq, Int.reduceToNat, Int.sub_zero, Int.add_zero, Int.zero_add, true_and, and_true, false_and, and_false, or_true, true_or, or_false, false_or, not_true_eq_false, not_false_eq_true, eq_self, decide_true, decide_false, Bool.not_false, Bool.not_true, Bool.and_true, Bool.true_and, Bool.or_true, Bool.true_or, Bool.and_self, Bool.or_false, Bool.false_or, Bool.and_false, Bool.false_and]
    repeat' split
    all_goals first | rw [bi_neg (by omega)] | rw [bi_pos (by omega)]
  have h0 := h
  obtain ⟨c1, c2, c3, c4, c5, c6, c7, c8⟩ := h
  rw [E_X0_inside_0, E_X8_inside_0, isSolid_h _ σ c1 c2 (by omega), isSolid_m _ σ c1 c3 (by omega)]
  simp (disch := omega) only [I3_of, I6_of, I3_nat, I3_add, I3_sub, I3_mul, I3_neg, I6_add, I6_sub, I6_mul, I6_neg, I3_lt, I3_le, I3_eq, I6_lt, I6_le, I6_eq, I3_cl, I3_64, I6_32, cmp_pos', cmp_neg', cmp_eq', inb_I, cond_true, cond_false, aI_ok, aJ_ok, aA_ok, aV_ok', aI_thr, aJ_thr, aA_thr, aV_thr, ob_some, on_some, on_none, tg_wI, tg_wJ, tg_wR, ln_wI, ln_wJ, ln_wR, tg_cpI, ln_cpI, tg_cpR, ln_cpR, nx_wI, nx_wJ, nx_wR, sl_wI, sl_wJ, sl_wR, nx_cpI, sl_cpI, nx_cpR, sl_cpR, nx_nw, sl_nw, rJ_wI, rR_wI, rI_wJ, rR_wJ, rI_wR, rJ_wR, rJ_cpI, rR_cpI, rJ_cpR, rI_cpR, rI_wI, rJ_wJ, rq_wI, rq_wJ, rq_wR, rq_cpI, ↓reduceIte, Nat.reduceEqDiff, Nat.reduceAdd, Nat.reduceSub, Nat.reduceMul, Int.reduceAdd, Int.reduceSub, Int.reduceMul, Int.reduceNeg, Int.reduceLT, Int.reduceLE, Int.reduceEq, Int.reduceToNat, Int.sub_zero, Int.add_zero, Int.zero_add, true_and, and_true, false_and, and_false, or_true, true_or, or_false, false_or, not_true_eq_false, not_false_eq_true, eq_self, decide_true, decide_false, Bool.not_false, Bool.not_true, Bool.and_true, Bool.true_and, Bool.or_true, Bool.true_or, Bool.and_self, Bool.or_false, Bool.false_or, Bool.and_false, Bool.false_and]
  by_cases g1 : 1 ≤ s ∧ s ≤ m
  · rw [bi_pos g1, near _ x x1 x2, nearM _ x x1 x2]
    simp (disch := omega) only [I3_of, I6_of, I3_nat, I3_add, I3_sub, I3_mul, I3_neg, I6_add, I6_sub, I6_mul, I6_neg, I3_lt, I3_le, I3_eq, I6_lt, I6_le, I6_eq, I3_cl, I3_64, I6_32, cmp_pos', cmp_neg', cmp_eq', inb_I, cond_true, cond_false, aI_ok, aJ_ok, aA_ok, aV_ok', aI_thr, aJ_thr, aA_thr, aV_thr, ob_some, on_some, on_none, tg_wI, tg_wJ, tg_wR, ln_wI, ln_wJ, ln_wR, tg_cpI, ln_cpI, tg_cpR, ln_cpR, nx_wI, nx_wJ, nx_wR, sl_wI, sl_wJ, sl_wR, nx_cpI, sl_cpI, nx_cpR, sl_cpR, nx_nw, sl_nw, rJ_wI, rR_wI, rI_wJ, rR_wJ, rI_wR, rJ_wR, rJ_cpI, rR_cpI, rJ_cpR, rI_cpR, rI_wI, rJ_wJ, rq_wI, rq_wJ, rq_wR, rq_cpI, ↓reduceIte, Nat.reduceEqDiff, Nat.reduceAdd, Nat.reduceSub, Nat.reduceMul, Int.reduceAdd, Int.reduceSub, Int.reduceMul, Int.reduceNeg, Int.reduceLT, Int.reduceLE, Int.reduceEq, Int.reduceToNat, Int.sub_zero, Int.add_zero, Int.zero_add, true_and, and_true, false_and, and_false, or_true, true_or, or_false, false_or, not_true_eq_false, not_false_eq_true, eq_self, decide_true, decide_false, Bool.not_false, Bool.not_true, Bool.and_true, Bool.true_and, Bool.or_true, Bool.true_or, Bool.and_self, Bool.or_false, Bool.false_or, Bool.and_false, Bool.false_and]
    by_cases g2 : -100000 ≤ x ∧ x ≤ 100000
    · rw [bi_pos g2, near _ y y1 y2, nearM _ y y1 y2]
      simp (disch := omega) only [I3_of, I6_of, I3_nat, I3_add, I3_sub, I3_mul, I3_neg, I6_add, I6_sub, I6_mul, I6_neg, I3_lt, I3_le, I3_eq, I6_lt, I6_le, I6_eq, I3_cl, I3_64, I6_32, cmp_pos', cmp_neg', cmp_eq', inb_I, cond_true, cond_false, aI_ok, aJ_ok, aA_ok, aV_ok', aI_thr, aJ_thr, aA_thr, aV_thr, ob_some, on_some, on_none, tg_wI, tg_wJ, tg_wR, ln_wI, ln_wJ, ln_wR, tg_cpI, ln_cpI, tg_cpR, ln_cpR, nx_wI, nx_wJ, nx_wR, sl_wI, sl_wJ, sl_wR, nx_cpI, sl_cpI, nx_cpR, sl_cpR, nx_nw, sl_nw, rJ_wI, rR_wI, rI_wJ, rR_wJ, rI_wR, rJ_wR, rJ_cpI, rR_cpI, rJ_cpR, rI_cpR, rI_wI, rJ_wJ, rq_wI, rq_wJ, rq_wR, rq_cpI, ↓reduceIte, Nat.reduceEqDiff, Nat.reduceAdd, Nat.reduceSub, Nat.reduceMul, Int.reduceAdd, Int.reduceSub, Int.reduceMul, Int.reduceNeg, Int.reduceLT, Int.reduceLE, Int.reduceEq, Int.reduceToNat, Int.sub_zero, Int.add_zero, Int.zero_add, true_and, and_true, false_and, and_false, or_true, true_or, or_false, false_or, not_true_eq_false, not_false_eq_true, eq_self, decide_true, decide_false, Bool.not_false, Bool.not_true, Bool.and_true, Bool.true_and, Bool.or_true, Bool.true_or, Bool.and_self, Bool.or_false, Bool.false_or, Bool.and_false, Bool.false_and]
      by_cases g3 : -100000 ≤ y ∧ y ≤ 100000
      · rw [bi_pos g3, near _ z z1 z2, nearM _ z z1 z2]
        simp (disch := omega) only [I3_of, I6_of, I3_nat, I3_add, I3_sub, I3_mul, I3_neg, I6_add, I6_sub, I6_mul, I6_neg, I3_lt, I3_le, I3_eq, I6_lt, I6_le, I6_eq, I3_cl, I3_64, I6_32, cmp_pos', cmp_neg', cmp_eq', inb_I, cond_true, cond_false, aI_ok, aJ_ok, aA_ok, aV_ok', aI_thr, aJ_thr, aA_thr, aV_thr, ob_some, on_some, on_none, tg_wI, tg_wJ, tg_wR, ln_wI, ln_wJ, ln_wR, tg_cpI, ln_cpI, tg_cpR, ln_cpR, nx_wI, nx_wJ, nx_wR, sl_wI, sl_wJ, sl_wR, nx_cpI, sl_cpI, nx_cpR, sl_cpR, nx_nw, sl_nw, rJ_wI, rR_wI, rI_wJ, rR_wJ, rI_wR, rJ_wR, rJ_cpI, rR_cpI, rJ_cpR, rI_cpR, rI_wI, rJ_wJ, rq_wI, rq_wJ, rq_wR, rq_cpI, ↓reduceIte, Nat.reduceEqDiff, Nat.reduceAdd, Nat.reduceSub, Nat.reduceMul, Int.reduceAdd, Int.reduceSub, Int.reduceMul, Int.reduceNeg, Int.reduceLT, Int.reduceLE, Int.reduceEq, Int.reduceToNat, Int.sub_zero, Int.add_zero, Int.zero_add, true_and, and_true, false_and, and_false, or_true, true_or, or_false, false_or, not_true_eq_false, not_false_eq_true, eq_self, decide_true, decide_false, Bool.not_false, Bool.not_true, Bool.and_true, Bool.true_and, Bool.or_true, Bool.true_or, Bool.and_self, Bool.or_false, Bool.false_or, Bool.and_false, Bool.false_and]
        by_cases g4 : -100000 ≤ z ∧ z ≤ 100000
        · rw [bi_pos g4]
          simp (disch := omega) only [I3_of, I6_of, I3_nat, I3_add, I3_sub, I3_mul, I3_neg, I6_add, I6_sub, I6_mul, I6_neg, I3_lt, I3_le, I3_eq, I6_lt, I6_le, I6_eq, I3_cl, I3_64, I6_32, cmp_pos', cmp_neg', cmp_eq', inb_I, cond_true, cond_false, aI_ok, aJ_ok, aA_ok, aV_ok', aI_thr, aJ_thr, aA_thr, aV_thr, ob_some, on_some, on_none, tg_wI, tg_wJ, tg_wR, ln_wI, ln_wJ, ln_wR, tg_cpI, ln_cpI, tg_cpR, ln_cpR, nx_wI, nx_wJ, nx_wR, sl_wI, sl_wJ, sl_wR, nx_cpI, sl_cpI, nx_cpR, sl_cpR, nx_nw, sl_nw, rJ_wI, rR_wI, rI_wJ, rR_wJ, rI_wR, rJ_wR, rJ_cpI, rR_cpI, rJ_cpR, rI_cpR, rI_wI, rJ_wJ, rq_wI, rq_wJ, rq_wR, rq_cpI, ↓reduceIte, Nat.reduceEqDiff, Nat.reduceAdd, Nat.reduceSub, Nat.reduceMul, Int.reduceAdd, Int.reduceSub, Int.reduceMul, Int.reduceNeg, Int.reduceLT, Int.reduceLE, Int.reduceEq, Int.reduceToNat, Int.sub_zero, Int.add_zero, Int.zero_add, true_and, and_true, false_and, and_false, or_true, true_or, or_false, false_or, not_true_eq_false, not_false_eq_true, eq_self, decide_true, decide_false, Bool.not_false, Bool.not_true, Bool.and_true, Bool.true_and, Bool.or_true, Bool.true_or, Bool.and_self, Bool.or_false, Bool.false_or, Bool.and_false, Bool.false_and]
          obtain ⟨t, rfl⟩ : ∃ t : Nat, s = t := ⟨s.toNat, by omega⟩
          obtain ⟨a, a1, a2, a3, a4, -⟩ := c7 t (by omega) (by omega)
          have v2 : Nat.ble (0 + 7 + 11) 64 = true := rfl
          rw [solidOf_h (d + 61) h0 (by omega) (by omega) a1]
          simp (disch := omega) only [I3_of, I6_of, I3_nat, I3_add, I3_sub, I3_mul, I3_neg, I6_add, I6_sub, I6_mul, I6_neg, I3_lt, I3_le, I3_eq, I6_lt, I6_le, I6_eq, I3_cl, I3_64, I6_32, cmp_pos', cmp_neg', cmp_eq', inb_I, cond_true, cond_false, aI_ok, aJ_ok, aA_ok, aV_ok', aI_thr, aJ_thr, aA_thr, aV_thr, ob_some, on_some, on_none, tg_wI, tg_wJ, tg_wR, ln_wI, ln_wJ, ln_wR, tg_cpI, ln_cpI, tg_cpR, ln_cpR, nx_wI, nx_wJ, nx_wR, sl_wI, sl_wJ, sl_wR, nx_cpI, sl_cpI, nx_cpR, sl_cpR, nx_nw, sl_nw, rJ_wI, rR_wI, rI_wJ, rR_wJ, rI_wR, rJ_wR, rJ_cpI, rR_cpI, rJ_cpR, rI_cpR, rI_wI, rJ_wJ, rq_wI, rq_wJ, rq_wR, rq_cpI, ↓reduceIte, Nat.reduceEqDiff, Nat.reduceAdd, Nat.reduceSub, Nat.reduceMul, Int.reduceAdd, Int.reduceSub, Int.reduceMul, Int.reduceNeg, Int.reduceLT, Int.reduceLE, Int.reduceEq, Int.reduceToNat, Int.sub_zero, Int.add_zero, Int.zero_add, true_and, and_true, false_and, and_false, or_true, true_or, or_false, false_or, not_true_eq_false, not_false_eq_true, eq_self, decide_true, decide_false, Bool.not_false, Bool.not_true, Bool.and_true, Bool.true_and, Bool.or_true, Bool.true_or, Bool.and_self, Bool.or_false, Bool.false_or, Bool.and_false, Bool.false_and, vcall_def, tg_dyn a2, lk_has a4 (kd_rng (c6 t (by omega) (by omega)).1), v2]
          have q1 := has_h (L := L) h0 60 t a (d + 3) x y z (by omega) (by omega) (by omega) a1 (by omega) (by omega) (by omega)
          have q2 := isIn_m (L := L) h0 60 t (d + 3) x y z (by omega) (by omega) (by omega) (by omega) (by omega) (by omega)
          rw [q1, q2]
          simp (disch := omega) only [I3_of, I6_of, I3_nat, I3_add, I3_sub, I3_mul, I3_neg, I6_add, I6_sub, I6_mul, I6_neg, I3_lt, I3_le, I3_eq, I6_lt, I6_le, I6_eq, I3_cl, I3_64, I6_32, cmp_pos', cmp_neg', cmp_eq', inb_I, cond_true, cond_false, aI_ok, aJ_ok, aA_ok, aV_ok', aI_thr, aJ_thr, aA_thr, aV_thr, ob_some, on_some, on_none, tg_wI, tg_wJ, tg_wR, ln_wI, ln_wJ, ln_wR, tg_cpI, ln_cpI, tg_cpR, ln_cpR, nx_wI, nx_wJ, nx_wR, sl_wI, sl_wJ, sl_wR, nx_cpI, sl_cpI, nx_cpR, sl_cpR, nx_nw, sl_nw, rJ_wI, rR_wI, rI_wJ, rR_wJ, rI_wR, rJ_wR, rJ_cpI, rR_cpI, rJ_cpR, rI_cpR, rI_wI, rJ_wJ, rq_wI, rq_wJ, rq_wR, rq_cpI, ↓reduceIte, Nat.reduceEqDiff, Nat.reduceAdd, Nat.reduceSub, Nat.reduceMul, Int.reduceAdd, Int.reduceSub, Int.reduceMul, Int.reduceNeg, Int.reduceLT, Int.reduceLE, Int.reduceEq, Int.reduceToNat, Int.sub_zero, Int.add_zero, Int.zero_add, true_and, and_true, false_and, and_false, or_true, true_or, or_false, false_or, not_true_eq_false, not_false_eq_true, eq_self, decide_true, decide_false, Bool.not_false, Bool.not_true, Bool.and_true, Bool.true_and, Bool.or_true, Bool.true_or, Bool.and_self, Bool.or_false, Bool.false_or, Bool.and_false, Bool.false_and]
          split
          · exact ⟨_, rfl, rfl⟩
          · exact ⟨_, rfl, rfl⟩
        · rw [bi_neg g4]; simp (disch := omega) only [I3_of, I6_of, I3_nat, I3_add, I3_sub, I3_mul, I3_neg, I6_add, I6_sub, I6_mul, I6_neg, I3_lt, I3_le, I3_eq, I6_lt, I6_le, I6_eq, I3_cl, I3_64, I6_32, cmp_pos', cmp_neg', cmp_eq', inb_I, cond_true, cond_false, aI_ok, aJ_ok, aA_ok, aV_ok', aI_thr, aJ_thr, aA_thr, aV_thr, ob_some, on_some, on_none, tg_wI, tg_wJ, tg_wR, ln_wI, ln_wJ, ln_wR, tg_cpI, ln_cpI, tg_cpR, ln_cpR, nx_wI, nx_wJ, nx_wR, sl_wI, sl_wJ, sl_wR, nx_cpI, sl_cpI, nx_cpR, sl_cpR, nx_nw, sl_nw, rJ_wI, rR_wI, rI_wJ, rR_wJ, rI_wR, rJ_wR, rJ_cpI, rR_cpI, rJ_cpR, rI_cpR, rI_wI, rJ_wJ, rq_wI, rq_wJ, rq_wR, rq_cpI, ↓reduceIte, Nat.reduceEqDiff, Nat.reduceAdd, Nat.reduceSub, Nat.reduceMul, Int.reduceAdd, Int.reduceSub, Int.reduceMul, Int.reduceNeg, Int.reduceLT, Int.reduceLE, Int.reduceEq, Int.reduceToNat, Int.sub_zero, Int.add_zero, Int.zero_add, true_and, and_true, false_and, and_false, or_true, true_or, or_false, false_or, not_true_eq_false, not_false_eq_true, eq_self, decide_true, decide_false, Bool.not_false, Bool.not_true, Bool.and_true, Bool.true_and, Bool.or_true, Bool.true_or, Bool.and_self, Bool.or_false, Bool.false_or, Bool.and_false, Bool.false_and]; exact ⟨_, rfl, rfl⟩
      · rw [bi_neg g3]; simp (disch := omega) only [I3_of, I6_of, I3_nat, I3_add, I3_sub, I3_mul, I3_neg, I6_add, I6_sub, I6_mul, I6_neg, I3_lt, I3_le, I3_eq, I6_lt, I6_le, I6_eq, I3_cl, I3_64, I6_32, cmp_pos', cmp_neg', cmp_eq', inb_I, cond_true, cond_false, aI_ok, aJ_ok, aA_ok, aV_ok', aI_thr, aJ_thr, aA_thr, aV_thr, ob_some, on_some, on_none, tg_wI, tg_wJ, tg_wR, ln_wI, ln_wJ, ln_wR, tg_cpI, ln_cpI, tg_cpR, ln_cpR, nx_wI, nx_wJ, nx_wR, sl_wI, sl_wJ, sl_wR, nx_cpI, sl_cpI, nx_cpR, sl_cpR, nx_nw, sl_nw, rJ_wI, rR_wI, rI_wJ, rR_wJ, rI_wR, rJ_wR, rJ_cpI, rR_cpI, rJ_cpR, rI_cpR, rI_wI, rJ_wJ, rq_wI, rq_wJ, rq_wR, rq_cpI, ↓reduceIte, Nat.reduceEqDiff, Nat.reduceAdd, Nat.reduceSub, Nat.reduceMul, Int.reduceAdd, Int.reduceSub, Int.reduceMul, Int.reduceNeg, Int.reduceLT, Int.reduceLE, Int.reduceEq, Int.reduceToNat, Int.sub_zero, Int.add_zero, Int.zero_add, true_and, and_true, false_and, and_false, or_true, true_or, or_false, false_or, not_true_eq_false, not_false_eq_true, eq_self, decide_true, decide_false, Bool.not_false, Bool.not_true, Bool.and_true, Bool.true_and, Bool.or_true, Bool.true_or, Bool.and_self, Bool.or_false, Bool.false_or, Bool.and_false, Bool.false_and]; exact ⟨_, rfl, rfl⟩
    · rw [bi_neg g2]; simp (disch := omega) only [I3_of, I6_of, I3_nat, I3_add, I3_sub, I3_mul, I3_neg, I6_add, I6_sub, I6_mul, I6_neg, I3_lt, I3_le, I3_eq, I6_lt, I6_le, I6_eq, I3_cl, I3_64, I6_32, cmp_pos', cmp_neg', cmp_eq', inb_I, cond_true, cond_false, aI_ok, aJ_ok, aA_ok, aV_ok', aI_thr, aJ_thr, aA_thr, aV_thr, ob_some, on_some, on_none, tg_wI, tg_wJ, tg_wR, ln_wI, ln_wJ, ln_wR, tg_cpI, ln_cpI, tg_cpR, ln_cpR, nx_wI, nx_wJ, nx_wR, sl_wI, sl_wJ, sl_wR, nx_cpI, sl_cpI, nx_cpR, sl_cpR, nx_nw, sl_nw, rJ_wI, rR_wI, rI_wJ, rR_wJ, rI_wR, rJ_wR, rJ_cpI, rR_cpI, rJ_cpR, rI_cpR, rI_wI, rJ_wJ, rq_wI, rq_wJ, rq_wR, rq_cpI, ↓reduceIte, Nat.reduceEqDiff, Nat.reduceAdd, Nat.reduceSub, Nat.reduceMul, Int.reduceAdd, Int.reduceSub, Int.reduceMul, Int.reduceNeg, Int.reduceLT, Int.reduceLE, Int.reduceEq, Int.reduceToNat, Int.sub_zero, Int.add_zero, Int.zero_add, true_and, and_true, false_and, and_false, or_true, true_or, or_false, false_or, not_true_eq_false, not_false_eq_true, eq_self, decide_true, decide_false, Bool.not_false, Bool.not_true, Bool.and_true, Bool.true_and, Bool.or_true, Bool.true_or, Bool.and_self, Bool.or_false, Bool.false_or, Bool.and_false, Bool.false_and]; exact ⟨_, rfl, rfl⟩
  · rw [bi_neg g1]; simp (disch := omega) only [I3_of, I6_of, I3_nat, I3_add, I3_sub, I3_mul, I3_neg, I6_add, I6_sub, I6_mul, I6_neg, I3_lt, I3_le, I3_eq, I6_lt, I6_le, I6_eq, I3_cl, I3_64, I6_32, cmp_pos', cmp_neg', cmp_eq', inb_I, cond_true, cond_false, aI_ok, aJ_ok, aA_ok, aV_ok', aI_thr, aJ_thr, aA_thr, aV_thr, ob_some, on_some, on_none, tg_wI, tg_wJ, tg_wR, ln_wI, ln_wJ, ln_wR, tg_cpI, ln_cpI, tg_cpR, ln_cpR, nx_wI, nx_wJ, nx_wR, sl_wI, sl_wJ, sl_wR, nx_cpI, sl_cpI, nx_cpR, sl_cpR, nx_nw, sl_nw, rJ_wI, rR_wI, rI_wJ, rR_wJ, rI_wR, rJ_wR, rJ_cpI, rR_cpI, rJ_cpR, rI_cpR, rI_wI, rJ_wJ, rq_wI, rq_wJ, rq_wR, rq_cpI, ↓reduceIte, Nat.reduceEqDiff, Nat.reduceAdd, Nat.reduceSub, Nat.reduceMul, Int.reduceAdd, Int.reduceSub, Int.reduceMul, Int.reduceNeg, Int.reduceLT, Int.reduceLE, Int.reduceEq, Int.reduceToNat, Int.sub_zero, Int.add_zero, Int.zero_add, true_and, and_true, false_and, and_false, or_true, true_or, or_false, false_or, not_true_eq_false, not_false_eq_true, eq_self, decide_true, decide_false, Bool.not_false, Bool.not_true, Bool.and_true, Bool.true_and, Bool.or_true, Bool.true_or, Bool.and_self, Bool.or_false, Bool.false_or, Bool.and_false, Bool.false_and]; exact ⟨_, rfl, rfl⟩
end LIST
