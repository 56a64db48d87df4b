/-! ===== small calls: told, variable, move, acceleration, layered, run, tool ===== -/
section SMALL
variable {L : Nat}
/-- one move, kept by both -/
def MvRel (σ : St) (k : Nat) : Prop :=
  (∃ t, rI σ 704 (11 * k) = I3 t ∧ rI σ 768 k = I3 t ∧ 1 ≤ t ∧ t ≤ 40000) ∧ (∃ f, rI σ 704 (11 * k + 1) = I3 f ∧ rI σ 769 k = I3 f ∧ 0 ≤ f ∧ f ≤ 99999) ∧
  rI σ 704 (11 * k + 2) = rI σ 770 (3 * k) ∧ rI σ 704 (11 * k + 3) = rI σ 770 (3 * k + 1) ∧ rI σ 704 (11 * k + 4) = rI σ 770 (3 * k + 2) ∧
  (∃ a b c, rI σ 704 (11 * k + 5) = I3 a ∧ rI σ 704 (11 * k + 6) = I3 b ∧ rI σ 704 (11 * k + 7) = I3 c ∧ rI σ 771 (3 * k) = I3 a ∧ rI σ 771 (3 * k + 1) = I3 b ∧ rI σ 771 (3 * k + 2) = I3 c ∧ -1 ≤ a ∧ a ≤ 1 ∧ -1 ≤ b ∧ b ≤ 1 ∧ -1 ≤ c ∧ c ≤ 1 ∧ ¬ (a = 0 ∧ b = 0 ∧ c = 0)) ∧
  (∃ a b c, rI σ 704 (11 * k + 8) = I3 a ∧ rI σ 704 (11 * k + 9) = I3 b ∧ rI σ 704 (11 * k + 10) = I3 c ∧ rI σ 772 (3 * k) = I3 a ∧ rI σ 772 (3 * k + 1) = I3 b ∧ rI σ 772 (3 * k + 2) = I3 c ∧ -1 ≤ a ∧ a ≤ 1 ∧ -1 ≤ b ∧ b ≤ 1 ∧ -1 ≤ c ∧ c ≤ 1 ∧ ¬ (a = 0 ∧ b = 0 ∧ c = 0))
/-- what a run left -/
def MRun (σ : St) : Prop :=
  rI σ 16 34 = rI σ 714 75 ∧ rI σ 16 32 = rI σ 714 74 ∧ rI σ 16 29 = rI σ 714 72 ∧ rI σ 16 30 = rI σ 714 73 ∧ rI σ 16 25 = rI σ 714 52 ∧ rI σ 16 26 = rI σ 714 53 ∧ rI σ 16 27 = rI σ 714 54 ∧ rI σ 16 31 = rI σ 714 57 ∧
  (∃ n, rI σ 16 36 = I3 n ∧ rI σ 714 94 = I3 n ∧ 0 ≤ n ∧ n ≤ 2000 ∧ ∀ k : Nat, (k : Int) < n → MvRel σ k) ∧ (∀ k : Nat, k < 200 → rJ σ 702 k = rJ σ 759 k)
theorem run_keep {S : List Nat} {σ τ : St} (hn : 776 ≤ nx σ) (hf : Fr S σ τ) (h1 : memN 16 S = false) (h2 : memN 17 S = false) (h : MRun σ) : MRun τ := by
  have e1 : ∀ k, 20 ≤ k → k < 69 → rI τ 16 k = rI σ 16 k := fun k ha hb => fr_I hf (by omega) (by
    have : md σ 16 k = 16 := by
      unfold md
      have q1 : Nat.blt k 3 = false := by rw [Bool.eq_false_iff, ne_eq, Nat.blt_eq]; omega
      have q2 : Nat.blt k 5 = false := by rw [Bool.eq_false_iff, ne_eq, Nat.blt_eq]; omega
      have q3 : Nat.blt k 7 = false := by rw [Bool.eq_false_iff, ne_eq, Nat.blt_eq]; omega
      have q4 : Nat.blt k 10 = false := by rw [Bool.eq_false_iff, ne_eq, Nat.blt_eq]; omega
      have q5 : Nat.blt k 11 = false := by rw [Bool.eq_false_iff, ne_eq, Nat.blt_eq]; omega
      have q6 : Nat.blt k 15 = false := by rw [Bool.eq_false_iff, ne_eq, Nat.blt_eq]; omega
      have q7 : Nat.blt k 20 = false := by rw [Bool.eq_false_iff, ne_eq, Nat.blt_eq]; omega
      have q8 : Nat.blt k 69 = true := Nat.blt_eq.mpr hb
      rw [q1, q2, q3, q4, q5, q6, q7, q8]; rfl
    rw [this]; exact h1)
  have m75 : rI τ 714 75 = rI σ 714 75 := fr_I hf (by omega) h2
  have m74 : rI τ 714 74 = rI σ 714 74 := fr_I hf (by omega) h2
  have m72 : rI τ 714 72 = rI σ 714 72 := fr_I hf (by omega) h2
  have m73 : rI τ 714 73 = rI σ 714 73 := fr_I hf (by omega) h2
  have m52 : rI τ 714 52 = rI σ 714 52 := fr_I hf (by omega) h2
  have m53 : rI τ 714 53 = rI σ 714 53 := fr_I hf (by omega) h2
  have m54 : rI τ 714 54 = rI σ 714 54 := fr_I hf (by omega) h2
  have m57 : rI τ 714 57 = rI σ 714 57 := fr_I hf (by omega) h2
  have m94 : rI τ 714 94 = rI σ 714 94 := fr_I hf (by omega) h2
  have a1 : ∀ k, rI τ 704 k = rI σ 704 k := fun k => fr_I hf (by omega) h1
  have a2 : ∀ k, rI τ 768 k = rI σ 768 k := fun k => fr_I hf (by omega) h2
  have a3 : ∀ k, rI τ 769 k = rI σ 769 k := fun k => fr_I hf (by omega) h2
  have a4 : ∀ k, rI τ 770 k = rI σ 770 k := fun k => fr_I hf (by omega) h2
  have a5 : ∀ k, rI τ 771 k = rI σ 771 k := fun k => fr_I hf (by omega) h2
  have a6 : ∀ k, rI τ 772 k = rI σ 772 k := fun k => fr_I hf (by omega) h2
  have a7 : ∀ k, rJ τ 702 k = rJ σ 702 k := fun k => fr_J hf (by omega) h1
  have a8 : ∀ k, rJ τ 759 k = rJ σ 759 k := fun k => fr_J hf (by omega) h2
  unfold MRun MvRel at h ⊢
  simp only [e1 34 (by omega) (by omega), e1 32 (by omega) (by omega), e1 29 (by omega) (by omega), e1 30 (by omega) (by omega), e1 25 (by omega) (by omega), e1 26 (by omega) (by omega), e1 27 (by omega) (by omega), e1 31 (by omega) (by omega), e1 36 (by omega) (by omega), m75, m74, m72, m73, m52, m53, m54, m57, m94, a1, a2, a3, a4, a5, a6, a7, a8]
  exact h
theorem op_told (d : Nat) {σ : St} (h : MRun σ) (v1 : Int32) : ∃ v, DD L d 99 0 [.ref 16, .int v1] σ = ok (some (.int v)) σ ∧ DD L d 328 0 [.ref 714, .int v1] σ = ok (some (.int v)) σ := by
  obtain ⟨h1, h2, h3, h4, h5, h6, h7, h8, ⟨n, h9, h10, -⟩, -⟩ := h
  rw [E_X0_told_0, E_X8_told_0, h1, h2, h3, h4, h5, h6, h7, h8, h9, h10]
  repeat (first | exact ⟨_, rfl, rfl⟩ | split)
theorem op_variable (d : Nat) {σ : St} (h : MRun σ) (v1 : Int32) : ∃ v, DD L d 100 0 [.ref 16, .int v1] σ = ok (some (.long v)) σ ∧ DD L d 329 0 [.ref 714, .int v1] σ = ok (some (.long v)) σ := by
  obtain ⟨z, rfl, z1, z2⟩ := I3_ex v1
  obtain ⟨-, -, -, -, -, -, -, -, -, h11⟩ := h
  rw [E_X0_variable_0, E_X8_variable_0]
  simp (disch := omega) only [I3_of, I6_of, I3_nat, I3_add, I3_sub, I3_mul, I3_neg, I6_add, I6_sub, I6_mul, I6_neg, I3_lt, I3_le, I3_eq, I6_lt, I6_le, I6_eq, I3_cl, I3_64, I6_32, cmp_pos', cmp_neg', cmp_eq', cond_true, cond_false, aI_ok, aJ_ok, aA_ok, aV_ok', aI_thr, aJ_thr, aA_thr, aV_thr, ob_some, on_some, on_none, tg_wI, tg_wJ, tg_wR, ln_wI, ln_wJ, ln_wR, tg_cpI, ln_cpI, tg_cpR, ln_cpR, nx_wI, nx_wJ, nx_wR, sl_wI, sl_wJ, sl_wR, nx_cpI, sl_cpI, nx_cpR, sl_cpR, nx_nw, sl_nw, rJ_wI, rR_wI, rI_wJ, rR_wJ, rI_wR, rJ_wR, rJ_cpI, rR_cpI, rJ_cpR, rI_cpR, rI_wI, rJ_wJ, rq_wI, rq_wJ, rq_wR, rq_cpI, ↓reduceIte, Nat.reduceEqDiff, Nat.reduceAdd, Nat.reduceSub, Nat.reduceMul, Int.reduceAdd, Int.reduceSub, Int.reduceMul, Int.reduceNeg, Int.reduceLT, Int.reduceLE, Int.reduceEq, Int.reduceToNat, Int.sub_zero, Int.add_zero, Int.zero_add, true_and, and_true, false_and, and_false, or_true, true_or, or_false, false_or, not_true_eq_false, not_false_eq_true, eq_self, decide_true, decide_false, Bool.not_false, Bool.not_true, Bool.and_true, Bool.true_and, Bool.or_true, Bool.true_or, Bool.and_self, Bool.or_false, Bool.false_or, Bool.and_false, Bool.false_and]
  by_cases c1 : z < 1
  · rw [if_pos c1, if_pos c1]; exact ⟨_, rfl, rfl⟩
  · by_cases c2 : 199 < z
    · rw [if_neg c1, if_neg c1, if_pos c2, if_pos c2]; exact ⟨_, rfl, rfl⟩
    · rw [if_neg c1, if_neg c1, if_neg c2, if_neg c2, inb_I (by omega), h11 z.toNat (by omega)]
      exact ⟨_, rfl, rfl⟩
theorem op_move (d : Nat) {σ : St} (h : MRun σ) (v1 v2 : Int32) : ∃ v, DD L d 101 0 [.ref 16, .int v1, .int v2] σ = ok (some (.int v)) σ ∧ DD L d 330 0 [.ref 714, .int v1, .int v2] σ = ok (some (.int v)) σ := by
  obtain ⟨z, rfl, z1, z2⟩ := I3_ex v1
  obtain ⟨w, rfl, w1, w2⟩ := I3_ex v2
  obtain ⟨-, -, -, -, -, -, -, -, ⟨n, h9, h10, n1, n2, hm⟩, -⟩ := h
  rw [E_X0_move_0, E_X8_move_0]
  simp (disch := omega) only [I3_of, I6_of, I3_nat, I3_add, I3_sub, I3_mul, I3_neg, I6_add, I6_sub, I6_mul, I6_neg, I3_lt, I3_le, I3_eq, I6_lt, I6_le, I6_eq, I3_cl, I3_64, I6_32, cmp_pos', cmp_neg', cmp_eq', cond_true, cond_false, aI_ok, aJ_ok, aA_ok, aV_ok', aI_thr, aJ_thr, aA_thr, aV_thr, ob_some, on_some, on_none, tg_wI, tg_wJ, tg_wR, ln_wI, ln_wJ, ln_wR, tg_cpI, ln_cpI, tg_cpR, ln_cpR, nx_wI, nx_wJ, nx_wR, sl_wI, sl_wJ, sl_wR, nx_cpI, sl_cpI, nx_cpR, sl_cpR, nx_nw, sl_nw, rJ_wI, rR_wI, rI_wJ, rR_wJ, rI_wR, rJ_wR, rJ_cpI, rR_cpI, rJ_cpR, rI_cpR, rI_wI, rJ_wJ, rq_wI, rq_wJ, rq_wR, rq_cpI, ↓reduceIte, Nat.reduceEqDiff, Nat.reduceAdd, Nat.reduceSub, Nat.reduceMul, Int.reduceAdd, Int.reduceSub, Int.reduceMul, Int.reduceNeg, Int.reduceLT, Int.reduceLE, Int.reduceEq, Int.reduceToNat, Int.sub_zero, Int.add_zero, Int.zero_add, true_and, and_true, false_and, and_false, or_true, true_or, or_false, false_or, not_true_eq_false, not_false_eq_true, eq_self, decide_true, decide_false, Bool.not_false, Bool.not_true, Bool.and_true, Bool.true_and, Bool.or_true, Bool.true_or, Bool.and_self, Bool.or_false, Bool.false_or, Bool.and_false, Bool.false_and, h9, h10]
  by_cases c1 : z < 0
  · rw [if_pos c1, if_pos c1]; exact ⟨_, rfl, rfl⟩
  rw [if_neg c1, if_neg c1]
  by_cases c2 : z < n
  · rw [if_pos c2, if_pos c2]
    by_cases c3 : w < 0
    · rw [if_pos c3, if_pos c3]; exact ⟨_, rfl, rfl⟩
    rw [if_neg c3, if_neg c3]
    by_cases c4 : 4 < w
    · rw [if_pos c4, if_pos c4]; exact ⟨_, rfl, rfl⟩
    have i1 : inb (I3 (z * 11 + w)) 22000 = true := inb_I (by omega)
    have i2 : inb (I3 z) 2000 = true := inb_I (by omega)
    rw [if_neg c4, if_neg c4, i1, i2]
    obtain ⟨⟨t, b1, b2, -⟩, ⟨f, b3, b4, -⟩, b5, b6, b7, -⟩ := hm z.toNat (by omega)
    by_cases d0 : w = 0
    · rw [if_pos d0, show (z * 11 + w).toNat = 11 * z.toNat by omega, b1, b2]; exact ⟨_, rfl, rfl⟩
    rw [if_neg d0]
    by_cases d1 : w = 1
    · rw [if_pos d1, show (z * 11 + w).toNat = 11 * z.toNat + 1 by omega, b3, b4]; exact ⟨_, rfl, rfl⟩
    rw [if_neg d1]
    by_cases d2 : w = 2
    · rw [inb_I (z := 3 * z + w - 2) (by omega), show (z * 11 + w).toNat = 11 * z.toNat + 2 by omega, show (3 * z + w - 2).toNat = 3 * z.toNat by omega, b5]; exact ⟨_, rfl, rfl⟩
    by_cases d3 : w = 3
    · rw [inb_I (z := 3 * z + w - 2) (by omega), show (z * 11 + w).toNat = 11 * z.toNat + 3 by omega, show (3 * z + w - 2).toNat = 3 * z.toNat + 1 by omega, b6]; exact ⟨_, rfl, rfl⟩
    · rw [inb_I (z := 3 * z + w - 2) (by omega), show (z * 11 + w).toNat = 11 * z.toNat + 4 by omega, show (3 * z + w - 2).toNat = 3 * z.toNat + 2 by omega, b7]; exact ⟨_, rfl, rfl⟩
  · rw [if_neg c2, if_neg c2]; exact ⟨_, rfl, rfl⟩
theorem op_strays (d : Nat) {σ : St} : ∃ v, DD L d 107 0 [.ref 16] σ = ok (some (.int v)) σ ∧ DD L d 336 0 [.ref 714] σ = ok (some (.int v)) σ := by
  rw [E_X0_strays_0, E_X8_strays_0]; exact ⟨_, rfl, rfl⟩
-- layers: what is told of them
def MLay (σ : St) : Prop := (rI σ 16 6 = 0 ∧ rI σ 714 13 = 0 ∧ rI σ 714 14 = 0 ∧ rI σ 714 15 = 0 ∧ rI σ 714 16 = 0) ∨
  (rI σ 16 6 = 1 ∧ rI σ 629 11 = rI σ 714 13 ∧ rI σ 629 12 = rI σ 714 14 ∧ rI σ 629 14 = rI σ 714 15 ∧ ∃ r, rI σ 629 15 = I3 r ∧ rI σ 714 16 = I3 r ∧ 0 ≤ r ∧ r ≤ 4096 ∧ ∀ k : Nat, (k : Int) < r → rI σ 638 k = rI σ 723 k ∧ rI σ 639 k = rI σ 724 k ∧ rI σ 640 k = rI σ 725 k)
theorem lay_keep {S : List Nat} {σ τ : St} (hn : 776 ≤ nx σ) (hf : Fr S σ τ) (h1 : memN 6 S = false) (h2 : memN 7 S = false) (h : MLay σ) : MLay τ := by
  have e1 : rI τ 16 6 = rI σ 16 6 := fr_I hf (by omega) h1
  have e2 : ∀ k, rI τ 629 k = rI σ 629 k := fun k => fr_I hf (by omega) h1
  have e3 : rI τ 714 13 = rI σ 714 13 := fr_I hf (by omega) h2
  have e4 : rI τ 714 14 = rI σ 714 14 := fr_I hf (by omega) h2
  have e5 : rI τ 714 15 = rI σ 714 15 := fr_I hf (by omega) h2
  have e6 : rI τ 714 16 = rI σ 714 16 := fr_I hf (by omega) h2
  have a1 : ∀ k, rI τ 638 k = rI σ 638 k := fun k => fr_I hf (by omega) h1
  have a2 : ∀ k, rI τ 639 k = rI σ 639 k := fun k => fr_I hf (by omega) h1
  have a3 : ∀ k, rI τ 640 k = rI σ 640 k := fun k => fr_I hf (by omega) h1
  have a4 : ∀ k, rI τ 723 k = rI σ 723 k := fun k => fr_I hf (by omega) h2
  have a5 : ∀ k, rI τ 724 k = rI σ 724 k := fun k => fr_I hf (by omega) h2
  have a6 : ∀ k, rI τ 725 k = rI σ 725 k := fun k => fr_I hf (by omega) h2
  unfold MLay at h ⊢
  simp only [e1, e2, e3, e4, e5, e6, a1, a2, a3, a4, a5, a6]
  exact h
theorem op_layered (d : Nat) {σ : St} (h : MLay σ) (v1 : Int32) : ∃ v, DD L d 40 0 [.ref 16, .int v1] σ = ok (some (.int v)) σ ∧ DD L d 221 0 [.ref 714, .int v1] σ = ok (some (.int v)) σ := by
  rw [E_X0_layered_0, E_X8_layered_0]
  rcases h with ⟨h1, h2, h3, h4, h5⟩ | ⟨h1, h2, h3, h4, r, h5, h6, -⟩
  · rw [h1, h2, h3, h4, h5, if_pos rfl]
    repeat (first | exact ⟨_, rfl, rfl⟩ | split)
  · rw [h1, h2, h3, h4, h5, h6, if_neg (by decide)]
    repeat (first | exact ⟨_, rfl, rfl⟩ | split)
theorem op_run (d : Nat) {σ : St} (h : MLay σ) (v1 v2 : Int32) : ∃ v, DD L d 41 0 [.ref 16, .int v1, .int v2] σ = ok (some (.int v)) σ ∧ DD L d 222 0 [.ref 714, .int v1, .int v2] σ = ok (some (.int v)) σ := by
  obtain ⟨z, rfl, z1, z2⟩ := I3_ex v1
  obtain ⟨w, rfl, w1, w2⟩ := I3_ex v2
  rw [E_X0_run_0, E_X8_run_0]
  rcases h with ⟨h1, h2, h3, h4, h5⟩ | ⟨h1, h2, h3, h4, r, h5, h6, r1, r2, hm⟩
  · simp (disch := omega) only [I3_of, I6_of, I3_nat, I3_add, I3_sub, I3_mul, I3_neg, I6_add, I6_sub, I6_mul, I6_neg, I3_lt, I3_le, I3_eq, I6_lt, I6_le, I6_eq, I3_cl, I3_64, I6_32, cmp_pos', cmp_neg', cmp_eq', cond_true, cond_false, aI_ok, aJ_ok, aA_ok, aV_ok', aI_thr, aJ_thr, aA_thr, aV_thr, ob_some, on_some, on_none, tg_wI, tg_wJ, tg_wR, ln_wI, ln_wJ, ln_wR, tg_cpI, ln_cpI, tg_cpR, ln_cpR, nx_wI, nx_wJ, nx_wR, sl_wI, sl_wJ, sl_wR, nx_cpI, sl_cpI, nx_cpR, sl_cpR, nx_nw, sl_nw, rJ_wI, rR_wI, rI_wJ, rR_wJ, rI_wR, rJ_wR, rJ_cpI, rR_cpI, rJ_cpR, rI_cpR, rI_wI, rJ_wJ, rq_wI, rq_wJ, rq_wR, rq_cpI, ↓reduceIte, Nat.reduceEqDiff, Nat.reduceAdd, Nat.reduceSub, Nat.reduceMul, Int.reduceAdd, Int.reduceSub, Int.reduceMul, Int.reduceNeg, Int.reduceLT, Int.reduceLE, Int.reduceEq, Int.reduceToNat, Int.sub_zero, Int.add_zero, Int.zero_add, true_and, and_true, false_and, and_false, or_true, true_or, or_false, false_or, not_true_eq_false, not_false_eq_true, eq_self, decide_true, decide_false, Bool.not_false, Bool.not_true, Bool.and_true, Bool.true_and, Bool.or_true, Bool.true_or, Bool.and_self, Bool.or_false, Bool.false_or, Bool.and_false, Bool.false_and, h1, h5]
    by_cases c1 : z < 0
    · rw [if_pos c1]; exact ⟨_, rfl, rfl⟩
    · simp only [if_neg c1]; exact ⟨_, rfl, rfl⟩
  · simp (disch := omega) only [I3_of, I6_of, I3_nat, I3_add, I3_sub, I3_mul, I3_neg, I6_add, I6_sub, I6_mul, I6_neg, I3_lt, I3_le, I3_eq, I6_lt, I6_le, I6_eq, I3_cl, I3_64, I6_32, cmp_pos', cmp_neg', cmp_eq', cond_true, cond_false, aI_ok, aJ_ok, aA_ok, aV_ok', aI_thr, aJ_thr, aA_thr, aV_thr, ob_some, on_some, on_none, tg_wI, tg_wJ, tg_wR, ln_wI, ln_wJ, ln_wR, tg_cpI, ln_cpI, tg_cpR, ln_cpR, nx_wI, nx_wJ, nx_wR, sl_wI, sl_wJ, sl_wR, nx_cpI, sl_cpI, nx_cpR, sl_cpR, nx_nw, sl_nw, rJ_wI, rR_wI, rI_wJ, rR_wJ, rI_wR, rJ_wR, rJ_cpI, rR_cpI, rJ_cpR, rI_cpR, rI_wI, rJ_wJ, rq_wI, rq_wJ, rq_wR, rq_cpI, ↓reduceIte, Nat.reduceEqDiff, Nat.reduceAdd, Nat.reduceSub, Nat.reduceMul, Int.reduceAdd, Int.reduceSub, Int.reduceMul, Int.reduceNeg, Int.reduceLT, Int.reduceLE, Int.reduceEq, Int.reduceToNat, Int.sub_zero, Int.add_zero, Int.zero_add, true_and, and_true, false_and, and_false, or_true, true_or, or_false, false_or, not_true_eq_false, not_false_eq_true, eq_self, decide_true, decide_false, Bool.not_false, Bool.not_true, Bool.and_true, Bool.true_and, Bool.or_true, Bool.true_or, Bool.and_self, Bool.or_false, Bool.false_or, Bool.and_false, Bool.false_and, h1, h5, h6]
    by_cases c1 : z < 0
    · rw [if_pos c1, if_pos c1]; exact ⟨_, rfl, rfl⟩
    rw [if_neg c1, if_neg c1]
    by_cases c2 : z < r
    · rw [if_pos c2, if_pos c2, inb_I (by omega)]
      obtain ⟨b1, b2, b3⟩ := hm z.toNat (by omega)
      rw [b1, b2, b3]
      by_cases c3 : w < 0
      · rw [if_pos c3, if_neg (by omega), if_neg (by omega), if_neg (by omega)]; exact ⟨_, rfl, rfl⟩
      rw [if_neg c3]
      by_cases c4 : 2 < w
      · rw [if_pos c4, if_neg (by omega), if_neg (by omega), if_neg (by omega)]; exact ⟨_, rfl, rfl⟩
      rw [if_neg c4]
      by_cases d0 : w = 0
      · rw [if_pos d0, if_pos d0]; exact ⟨_, rfl, rfl⟩
      rw [if_neg d0, if_neg d0]
      by_cases d1 : w = 1
      · rw [if_pos d1, if_pos d1]; exact ⟨_, rfl, rfl⟩
      rw [if_neg d1, if_neg d1, if_pos (by omega)]; exact ⟨_, rfl, rfl⟩
    · rw [if_neg c2, if_neg c2]; exact ⟨_, rfl, rfl⟩
-- tools
def MTool (σ : St) : Prop := ∀ t : Nat, 1 ≤ t → t ≤ 12 → (rq σ 645 t = none ∧ rI σ 730 t = 0) ∨
  ∃ b k r l h, rq σ 645 t = some b ∧ 776 ≤ b ∧ b < nx σ ∧ σ.1 b = 18 ∧ rI σ b 0 = I3 k ∧ rI σ b 1 = I3 r ∧ rI σ b 2 = I3 l ∧ rI σ b 3 = I3 h ∧ rI σ 729 t = I3 k ∧ rI σ 730 t = I3 r ∧ rI σ 731 t = I3 l ∧ rI σ 732 t = I3 h ∧ 0 ≤ k ∧ k ≤ 2 ∧ 1 ≤ r ∧ r ≤ 60 ∧ 1 ≤ l ∧ l ≤ 1000 ∧ 0 ≤ h ∧ h ≤ 100
theorem t_new (s : St) (t n k : Nat) : (nw s t n k).1 (nx s) = t := t_nw.trans (if_pos rfl)
theorem t_newn (s : St) (t n k : Nat) {b : Nat} (h : b ≠ nx s) : (nw s t n k).1 b = s.1 b := t_nw.trans (if_neg h)
theorem md_tool {σ : St} {b k : Nat} (h1 : 776 ≤ b) (h2 : σ.1 b = 18) : md σ b k = 10 := by
  unfold md
  have : Nat.blt b 776 = false := by rw [Bool.eq_false_iff, ne_eq, Nat.blt_eq]; omega
  rw [this, h2]; rfl
theorem tool_keep {S : List Nat} {σ τ : St} (hn : 776 ≤ nx σ) (hf : Fr S σ τ) (h1 : memN 10 S = false) (h2 : memN 11 S = false) (h : MTool σ) : MTool τ := by
  have a0 : ∀ k, rq τ 645 k = rq σ 645 k := fun k => fr_q hf (by omega) h1
  have a1 : ∀ k, rI τ 729 k = rI σ 729 k := fun k => fr_I hf (by omega) h2
  have a2 : ∀ k, rI τ 730 k = rI σ 730 k := fun k => fr_I hf (by omega) h2
  have a3 : ∀ k, rI τ 731 k = rI σ 731 k := fun k => fr_I hf (by omega) h2
  have a4 : ∀ k, rI τ 732 k = rI σ 732 k := fun k => fr_I hf (by omega) h2
  intro t t1 t2
  rcases h t t1 t2 with ⟨b1, b2⟩ | ⟨b, k, r, l, h, b0, b1, b2, b3, b4⟩
  · exact Or.inl ⟨(a0 t).trans b1, (a2 t).trans b2⟩
  · refine Or.inr ⟨b, k, r, l, h, (a0 t).trans b0, b1, Nat.lt_of_lt_of_le b2 hf.1, (hf.2.2.1 b b2).1.trans b3, ?_⟩
    have e : ∀ i, rI τ b i = rI σ b i := fun i => fr_I hf b2 (by rw [md_tool b1 b3]; exact h1)
    rw [a1, a2, a3, a4, e, e, e, e]
    exact b4
theorem op_tool (d : Nat) {σ : St} (hn : 776 ≤ nx σ) (h : MTool σ) (v1 v2 v3 v4 v5 : Int32) :
    ∃ v σ1 σ2, DD L (d + 1) 48 0 [.ref 16, .int v1, .int v2, .int v3, .int v4, .int v5] σ = ok (some (.int v)) σ1 ∧ DD L (d + 1) 230 0 [.ref 714, .int v1, .int v2, .int v3, .int v4, .int v5] σ1 = ok (some (.int v)) σ2 ∧ Fr [10] σ σ1 ∧ Fr [10, 11] σ σ2 ∧ nx σ2 ≤ nx σ + 1 ∧ sl σ2 ≤ sl σ + 4 ∧ MTool σ2 := by
  obtain ⟨t, rfl, t1, t2⟩ := I3_ex v1
  obtain ⟨k, rfl, k1, k2⟩ := I3_ex v2
  obtain ⟨r, rfl, r1, r2⟩ := I3_ex v3
  obtain ⟨l, rfl, l1, l2⟩ := I3_ex v4
  obtain ⟨h', rfl, hh1, hh2⟩ := I3_ex v5
  by_cases g : t < 1 ∨ 12 < t ∨ k < 0 ∨ 2 < k ∨ r < 1 ∨ 60 < r ∨ l < 1 ∨ 1000 < l ∨ h' < 0 ∨ 100 < h'
  · refine ⟨I3 (-1), σ, σ, ?_, ?_, fr_refl, fr_refl, by omega, by omega, h⟩
    · rw [E_X0_tool_0]
      simp (maxSteps := 4000000) (disch := omega) only [I3_of, I6_of, I3_nat, I3_add, I3_sub, I3_mul, I3_neg, I6_add, I6_sub, I6_mul, I6_neg, I3_lt, I3_le, I3_eq, I6_lt, I6_le, I6_eq, I3_cl, I3_64, I6_32, cmp_pos', cmp_neg', cmp_eq', cond_true, cond_false, aI_ok, aJ_ok, aA_ok, aV_ok', aI_thr, aJ_thr, aA_thr, aV_thr, ob_some, on_some, on_none, tg_wI, tg_wJ, tg_wR, ln_wI, ln_wJ, ln_wR, tg_cpI, ln_cpI, tg_cpR, ln_cpR, nx_wI, nx_wJ, nx_wR, sl_wI, sl_wJ, sl_wR, nx_cpI, sl_cpI, nx_cpR, sl_cpR, nx_nw, sl_nw, rJ_wI, rR_wI, rI_wJ, rR_wJ, rI_wR, rJ_wR, rJ_cpI, rR_cpI, rJ_cpR, rI_cpR, rI_wI, rJ_wJ, rq_wI, rq_wJ, rq_wR, rq_cpI, ↓reduceIte, Nat.reduceEqDiff, Nat.reduceAdd, Nat.reduceSub, Nat.reduceMul, Int.reduceAdd, Int.reduceSub, Int.reduceMul, Int.reduceNeg, Int.reduceLT, Int.reduceLE, Int.reduceEq, Int.reduceToNat, Int.sub_zero, Int.add_zero, Int.zero_add, true_and, and_true, false_and, and_false, or_true, true_or, or_false, false_or, not_true_eq_false, not_false_eq_true, eq_self, decide_true, decide_false, Bool.not_false, Bool.not_true, Bool.and_true, Bool.true_and, Bool.or_true, Bool.true_or, Bool.and_self, Bool.or_false, Bool.false_or, Bool.and_false, Bool.false_and]
      by_cases q0 : t < 1
      · rw [if_pos q0]
      rw [if_neg q0]
      by_cases q1 : 12 < t
      · rw [if_pos q1]
      rw [if_neg q1]
      by_cases q2 : k < 0
      · rw [if_pos q2]
      rw [if_neg q2]
      by_cases q3 : 2 < k
      · rw [if_pos q3]
      rw [if_neg q3]
      by_cases q4 : r < 1
      · rw [if_pos q4]
      rw [if_neg q4]
      by_cases q5 : 60 < r
      · rw [if_pos q5]
      rw [if_neg q5]
      by_cases q6 : l < 1
      · rw [if_pos q6]
      rw [if_neg q6]
      by_cases q7 : 1000 < l
      · rw [if_pos q7]
      rw [if_neg q7]
      by_cases q8 : h' < 0
      · rw [if_pos q8]
      rw [if_neg q8]
      by_cases q9 : 100 < h'
      · rw [if_pos q9]
      rw [if_neg q9]
      omega
    · rw [E_X8_tool_0]
      simp (maxSteps := 4000000) (disch := omega) only [I3_of, I6_of, I3_nat, I3_add, I3_sub, I3_mul, I3_neg, I6_add, I6_sub, I6_mul, I6_neg, I3_lt, I3_le, I3_eq, I6_lt, I6_le, I6_eq, I3_cl, I3_64, I6_32, cmp_pos', cmp_neg', cmp_eq', cond_true, cond_false, aI_ok, aJ_ok, aA_ok, aV_ok', aI_thr, aJ_thr, aA_thr, aV_thr, ob_some, on_some, on_none, tg_wI, tg_wJ, tg_wR, ln_wI, ln_wJ, ln_wR, tg_cpI, ln_cpI, tg_cpR, ln_cpR, nx_wI, nx_wJ, nx_wR, sl_wI, sl_wJ, sl_wR, nx_cpI, sl_cpI, nx_cpR, sl_cpR, nx_nw, sl_nw, rJ_wI, rR_wI, rI_wJ, rR_wJ, rI_wR, rJ_wR, rJ_cpI, rR_cpI, rJ_cpR, rI_cpR, rI_wI, rJ_wJ, rq_wI, rq_wJ, rq_wR, rq_cpI, ↓reduceIte, Nat.reduceEqDiff, Nat.reduceAdd, Nat.reduceSub, Nat.reduceMul, Int.reduceAdd, Int.reduceSub, Int.reduceMul, Int.reduceNeg, Int.reduceLT, Int.reduceLE, Int.reduceEq, Int.reduceToNat, Int.sub_zero, Int.add_zero, Int.zero_add, true_and, and_true, false_and, and_false, or_true, true_or, or_false, false_or, not_true_eq_false, not_false_eq_true, eq_self, decide_true, decide_false, Bool.not_false, Bool.not_true, Bool.and_true, Bool.true_and, Bool.or_true, Bool.true_or, Bool.and_self, Bool.or_false, Bool.false_or, Bool.and_false, Bool.false_and]
      by_cases q0 : t < 1
      · rw [if_pos q0]
      rw [if_neg q0]
      by_cases q1 : 12 < t
      · rw [if_pos q1]
      rw [if_neg q1]
      by_cases q2 : k < 0
      · rw [if_pos q2]
      rw [if_neg q2]
      by_cases q3 : 2 < k
      · rw [if_pos q3]
      rw [if_neg q3]
      by_cases q4 : r < 1
      · rw [if_pos q4]
      rw [if_neg q4]
      by_cases q5 : 60 < r
      · rw [if_pos q5]
      rw [if_neg q5]
      by_cases q6 : l < 1
      · rw [if_pos q6]
      rw [if_neg q6]
      by_cases q7 : 1000 < l
      · rw [if_pos q7]
      rw [if_neg q7]
      by_cases q8 : h' < 0
      · rw [if_pos q8]
      rw [if_neg q8]
      by_cases q9 : 100 < h'
      · rw [if_pos q9]
      rw [if_neg q9]
      omega
  · have hb : Nat.ble 776 (nx σ) = true := Nat.ble_eq.mpr hn
    have ht : tg (FF L) (nw σ 18 0 4) (nx σ) = 18 := tg_nw hn
    have h5 : tg (FF L) (nw σ 18 0 4) 645 = 70 := rfl
    have hfr : (fR (FF L) 645 t.toNat).isNone = true := rfl
    have m18 : memN 18 [18] = true := rfl
    have n1 : Nat.beq 18 255 = false := rfl
    have n2 : Nat.beq 70 68 = false := rfl
    have n3 : Nat.beq 70 69 = false := rfl
    have n4 : Nat.beq 70 70 = true := rfl
    have n5 : Nat.beq 18 18 = true := rfl
    have h5' : ∀ s : St, tg (FF L) s 645 = 70 := fun _ => rfl
    refine ⟨I3 0, wR (wI (wI (wI (wI (nw σ 18 0 4) (nx σ) 0 (I3 k)) (nx σ) 1 (I3 r)) (nx σ) 2 (I3 l)) (nx σ) 3 (I3 h')) 645 t.toNat (some (nx σ)), ?_⟩
    refine ⟨wI (wI (wI (wI (wR (wI (wI (wI (wI (nw σ 18 0 4) (nx σ) 0 (I3 k)) (nx σ) 1 (I3 r)) (nx σ) 2 (I3 l)) (nx σ) 3 (I3 h')) 645 t.toNat (some (nx σ))) 729 t.toNat (I3 k)) 730 t.toNat (I3 r)) 731 t.toNat (I3 l)) 732 t.toNat (I3 h'), ?_, ?_, ?_, ?_, ?_, ?_, ?_⟩
    · rw [E_X0_tool_0]
      simp (maxSteps := 4000000) (disch := omega) only [I3_of, I6_of, I3_nat, I3_add, I3_sub, I3_mul, I3_neg, I6_add, I6_sub, I6_mul, I6_neg, I3_lt, I3_le, I3_eq, I6_lt, I6_le, I6_eq, I3_cl, I3_64, I6_32, cmp_pos', cmp_neg', cmp_eq', inb_I, cond_true, cond_false, aI_ok, aJ_ok, aA_ok, aV_ok', aI_thr, aJ_thr, aA_thr, aV_thr, ob_some, on_some, on_none, tg_wI, tg_wJ, tg_wR, ln_wI, ln_wJ, ln_wR, tg_cpI, ln_cpI, tg_cpR, ln_cpR, nx_wI, nx_wJ, nx_wR, sl_wI, sl_wJ, sl_wR, nx_cpI, sl_cpI, nx_cpR, sl_cpR, nx_nw, sl_nw, rJ_wI, rR_wI, rI_wJ, rR_wJ, rI_wR, rJ_wR, rJ_cpI, rR_cpI, rJ_cpR, rI_cpR, rI_wI, rJ_wJ, rq_wI, rq_wJ, rq_wR, rq_cpI, ↓reduceIte, Nat.reduceEqDiff, Nat.reduceAdd, Nat.reduceSub, Nat.reduceMul, Int.reduceAdd, Int.reduceSub, Int.reduceMul, Int.reduceNeg, Int.reduceLT, Int.reduceLE, Int.reduceEq, Int.reduceToNat, Int.sub_zero, Int.add_zero, Int.zero_add, true_and, and_true, false_and, and_false, or_true, true_or, or_false, false_or, not_true_eq_false, not_false_eq_true, eq_self, decide_true, decide_false, Bool.not_false, Bool.not_true, Bool.and_true, Bool.true_and, Bool.or_true, Bool.true_or, Bool.and_self, Bool.or_false, Bool.false_or, Bool.and_false, Bool.false_and, hb, ht, E_X18_init_0, m18, h5', hfr, n1, n2, n3, n4, n5]
      repeat rw [if_neg (by omega)]
    · rw [E_X8_tool_0]
      simp (maxSteps := 4000000) (disch := omega) only [I3_of, I6_of, I3_nat, I3_add, I3_sub, I3_mul, I3_neg, I6_add, I6_sub, I6_mul, I6_neg, I3_lt, I3_le, I3_eq, I6_lt, I6_le, I6_eq, I3_cl, I3_64, I6_32, cmp_pos', cmp_neg', cmp_eq', inb_I, cond_true, cond_false, aI_ok, aJ_ok, aA_ok, aV_ok', aI_thr, aJ_thr, aA_thr, aV_thr, ob_some, on_some, on_none, tg_wI, tg_wJ, tg_wR, ln_wI, ln_wJ, ln_wR, tg_cpI, ln_cpI, tg_cpR, ln_cpR, nx_wI, nx_wJ, nx_wR, sl_wI, sl_wJ, sl_wR, nx_cpI, sl_cpI, nx_cpR, sl_cpR, nx_nw, sl_nw, rJ_wI, rR_wI, rI_wJ, rR_wJ, rI_wR, rJ_wR, rJ_cpI, rR_cpI, rJ_cpR, rI_cpR, rI_wI, rJ_wJ, rq_wI, rq_wJ, rq_wR, rq_cpI, ↓reduceIte, Nat.reduceEqDiff, Nat.reduceAdd, Nat.reduceSub, Nat.reduceMul, Int.reduceAdd, Int.reduceSub, Int.reduceMul, Int.reduceNeg, Int.reduceLT, Int.reduceLE, Int.reduceEq, Int.reduceToNat, Int.sub_zero, Int.add_zero, Int.zero_add, true_and, and_true, false_and, and_false, or_true, true_or, or_false, false_or, not_true_eq_false, not_false_eq_true, eq_self, decide_true, decide_false, Bool.not_false, Bool.not_true, Bool.and_true, Bool.true_and, Bool.or_true, Bool.true_or, Bool.and_self, Bool.or_false, Bool.false_or, Bool.and_false, Bool.false_and]
      repeat rw [if_neg (by omega)]
    · exact fr_wR' (fr_nI (fr_nI (fr_nI (fr_nI fr_nw (Nat.le_refl _)) (Nat.le_refl _)) (Nat.le_refl _)) (Nat.le_refl _)) rfl
    · exact fr_wI' (fr_wI' (fr_wI' (fr_wI' (fr_wR' (fr_nI (fr_nI (fr_nI (fr_nI fr_nw (Nat.le_refl _)) (Nat.le_refl _)) (Nat.le_refl _)) (Nat.le_refl _)) rfl) rfl) rfl) rfl) rfl
    · simp (disch := omega) only [I3_of, I6_of, I3_nat, I3_add, I3_sub, I3_mul, I3_neg, I6_add, I6_sub, I6_mul, I6_neg, I3_lt, I3_le, I3_eq, I6_lt, I6_le, I6_eq, I3_cl, I3_64, I6_32, cmp_pos', cmp_neg', cmp_eq', inb_I, cond_true, cond_false, aI_ok, aJ_ok, aA_ok, aV_ok', aI_thr, aJ_thr, aA_thr, aV_thr, ob_some, on_some, on_none, tg_wI, tg_wJ, tg_wR, ln_wI, ln_wJ, ln_wR, tg_cpI, ln_cpI, tg_cpR, ln_cpR, nx_wI, nx_wJ, nx_wR, sl_wI, sl_wJ, sl_wR, nx_cpI, sl_cpI, nx_cpR, sl_cpR, nx_nw, sl_nw, rJ_wI, rR_wI, rI_wJ, rR_wJ, rI_wR, rJ_wR, rJ_cpI, rR_cpI, rJ_cpR, rI_cpR, rI_wI, rJ_wJ, rq_wI, rq_wJ, rq_wR, rq_cpI, ↓reduceIte, Nat.reduceEqDiff, Nat.reduceAdd, Nat.reduceSub, Nat.reduceMul, Int.reduceAdd, Int.reduceSub, Int.reduceMul, Int.reduceNeg, Int.reduceLT, Int.reduceLE, Int.reduceEq, Int.reduceToNat, Int.sub_zero, Int.add_zero, Int.zero_add, true_and, and_true, false_and, and_false, or_true, true_or, or_false, false_or, not_true_eq_false, not_false_eq_true, eq_self, decide_true, decide_false, Bool.not_false, Bool.not_true, Bool.and_true, Bool.true_and, Bool.or_true, Bool.true_or, Bool.and_self, Bool.or_false, Bool.false_or, Bool.and_false, Bool.false_and]; omega
    · simp (disch := omega) only [I3_of, I6_of, I3_nat, I3_add, I3_sub, I3_mul, I3_neg, I6_add, I6_sub, I6_mul, I6_neg, I3_lt, I3_le, I3_eq, I6_lt, I6_le, I6_eq, I3_cl, I3_64, I6_32, cmp_pos', cmp_neg', cmp_eq', inb_I, cond_true, cond_false, aI_ok, aJ_ok, aA_ok, aV_ok', aI_thr, aJ_thr, aA_thr, aV_thr, ob_some, on_some, on_none, tg_wI, tg_wJ, tg_wR, ln_wI, ln_wJ, ln_wR, tg_cpI, ln_cpI, tg_cpR, ln_cpR, nx_wI, nx_wJ, nx_wR, sl_wI, sl_wJ, sl_wR, nx_cpI, sl_cpI, nx_cpR, sl_cpR, nx_nw, sl_nw, rJ_wI, rR_wI, rI_wJ, rR_wJ, rI_wR, rJ_wR, rJ_cpI, rR_cpI, rJ_cpR, rI_cpR, rI_wI, rJ_wJ, rq_wI, rq_wJ, rq_wR, rq_cpI, ↓reduceIte, Nat.reduceEqDiff, Nat.reduceAdd, Nat.reduceSub, Nat.reduceMul, Int.reduceAdd, Int.reduceSub, Int.reduceMul, Int.reduceNeg, Int.reduceLT, Int.reduceLE, Int.reduceEq, Int.reduceToNat, Int.sub_zero, Int.add_zero, Int.zero_add, true_and, and_true, false_and, and_false, or_true, true_or, or_false, false_or, not_true_eq_false, not_false_eq_true, eq_self, decide_true, decide_false, Bool.not_false, Bool.not_true, Bool.and_true, Bool.true_and, Bool.or_true, Bool.true_or, Bool.and_self, Bool.or_false, Bool.false_or, Bool.and_false, Bool.false_and]; omega
    · intro u u1 u2
      by_cases hu : u = t.toNat
      · subst hu
        refine Or.inr ⟨nx σ, k, r, l, h', ?_, hn, ?_, ?_, ?_⟩
        · simp (disch := omega) only [I3_of, I6_of, I3_nat, I3_add, I3_sub, I3_mul, I3_neg, I6_add, I6_sub, I6_mul, I6_neg, I3_lt, I3_le, I3_eq, I6_lt, I6_le, I6_eq, I3_cl, I3_64, I6_32, cmp_pos', cmp_neg', cmp_eq', inb_I, cond_true, cond_false, aI_ok, aJ_ok, aA_ok, aV_ok', aI_thr, aJ_thr, aA_thr, aV_thr, ob_some, on_some, on_none, tg_wI, tg_wJ, tg_wR, ln_wI, ln_wJ, ln_wR, tg_cpI, ln_cpI, tg_cpR, ln_cpR, nx_wI, nx_wJ, nx_wR, sl_wI, sl_wJ, sl_wR, nx_cpI, sl_cpI, nx_cpR, sl_cpR, nx_nw, sl_nw, rJ_wI, rR_wI, rI_wJ, rR_wJ, rI_wR, rJ_wR, rJ_cpI, rR_cpI, rJ_cpR, rI_cpR, rI_wI, rJ_wJ, rq_wI, rq_wJ, rq_wR, rq_cpI, ↓reduceIte, Nat.reduceEqDiff, Nat.reduceAdd, Nat.reduceSub, Nat.reduceMul, Int.reduceAdd, Int.reduceSub, Int.reduceMul, Int.reduceNeg, Int.reduceLT, Int.reduceLE, Int.reduceEq, Int.reduceToNat, Int.sub_zero, Int.add_zero, Int.zero_add, true_and, and_true, false_and, and_false, or_true, true_or, or_false, false_or, not_true_eq_false, not_false_eq_true, eq_self, decide_true, decide_false, Bool.not_false, Bool.not_true, Bool.and_true, Bool.true_and, Bool.or_true, Bool.true_or, Bool.and_self, Bool.or_false, Bool.false_or, Bool.and_false, Bool.false_and]
        · simp (disch := omega) only [I3_of, I6_of, I3_nat, I3_add, I3_sub, I3_mul, I3_neg, I6_add, I6_sub, I6_mul, I6_neg, I3_lt, I3_le, I3_eq, I6_lt, I6_le, I6_eq, I3_cl, I3_64, I6_32, cmp_pos', cmp_neg', cmp_eq', inb_I, cond_true, cond_false, aI_ok, aJ_ok, aA_ok, aV_ok', aI_thr, aJ_thr, aA_thr, aV_thr, ob_some, on_some, on_none, tg_wI, tg_wJ, tg_wR, ln_wI, ln_wJ, ln_wR, tg_cpI, ln_cpI, tg_cpR, ln_cpR, nx_wI, nx_wJ, nx_wR, sl_wI, sl_wJ, sl_wR, nx_cpI, sl_cpI, nx_cpR, sl_cpR, nx_nw, sl_nw, rJ_wI, rR_wI, rI_wJ, rR_wJ, rI_wR, rJ_wR, rJ_cpI, rR_cpI, rJ_cpR, rI_cpR, rI_wI, rJ_wJ, rq_wI, rq_wJ, rq_wR, rq_cpI, ↓reduceIte, Nat.reduceEqDiff, Nat.reduceAdd, Nat.reduceSub, Nat.reduceMul, Int.reduceAdd, Int.reduceSub, Int.reduceMul, Int.reduceNeg, Int.reduceLT, Int.reduceLE, Int.reduceEq, Int.reduceToNat, Int.sub_zero, Int.add_zero, Int.zero_add, true_and, and_true, false_and, and_false, or_true, true_or, or_false, false_or, not_true_eq_false, not_false_eq_true, eq_self, decide_true, decide_false, Bool.not_false, Bool.not_true, Bool.and_true, Bool.true_and, Bool.or_true, Bool.true_or, Bool.and_self, Bool.or_false, Bool.false_or, Bool.and_false, Bool.false_and]; omega
        · exact t_new σ 18 0 4
        · simp (disch := omega) only [I3_of, I6_of, I3_nat, I3_add, I3_sub, I3_mul, I3_neg, I6_add, I6_sub, I6_mul, I6_neg, I3_lt, I3_le, I3_eq, I6_lt, I6_le, I6_eq, I3_cl, I3_64, I6_32, cmp_pos', cmp_neg', cmp_eq', inb_I, cond_true, cond_false, aI_ok, aJ_ok, aA_ok, aV_ok', aI_thr, aJ_thr, aA_thr, aV_thr, ob_some, on_some, on_none, tg_wI, tg_wJ, tg_wR, ln_wI, ln_wJ, ln_wR, tg_cpI, ln_cpI, tg_cpR, ln_cpR, nx_wI, nx_wJ, nx_wR, sl_wI, sl_wJ, sl_wR, nx_cpI, sl_cpI, nx_cpR, sl_cpR, nx_nw, sl_nw, rJ_wI, rR_wI, rI_wJ, rR_wJ, rI_wR, rJ_wR, rJ_cpI, rR_cpI, rJ_cpR, rI_cpR, rI_wI, rJ_wJ, rq_wI, rq_wJ, rq_wR, rq_cpI, ↓reduceIte, Nat.reduceEqDiff, Nat.reduceAdd, Nat.reduceSub, Nat.reduceMul, Int.reduceAdd, Int.reduceSub, Int.reduceMul, Int.reduceNeg, Int.reduceLT, Int.reduceLE, Int.reduceEq, Int.reduceToNat, Int.sub_zero, Int.add_zero, Int.zero_add, true_and, and_true, false_and, and_false, or_true, true_or, or_false, false_or, not_true_eq_false, not_false_eq_true, eq_self, decide_true, decide_false, Bool.not_false, Bool.not_true, Bool.and_true, Bool.true_and, Bool.or_true, Bool.true_or, Bool.and_self, Bool.or_false, Bool.false_or, Bool.and_false, Bool.false_and, show ¬ (nx σ = 729) by omega, show ¬ (nx σ = 730) by omega, show ¬ (nx σ = 731) by omega, show ¬ (nx σ = 732) by omega]
          omega
      · have e0 : ∀ (a b : Nat), a < nx σ → a ≠ 729 → a ≠ 730 → a ≠ 731 → a ≠ 732 → rI (wI (wI (wI (wI (wR (wI (wI (wI (wI (nw σ 18 0 4) (nx σ) 0 (I3 k)) (nx σ) 1 (I3 r)) (nx σ) 2 (I3 l)) (nx σ) 3 (I3 h')) 645 t.toNat (some (nx σ))) 729 t.toNat (I3 k)) 730 t.toNat (I3 r)) 731 t.toNat (I3 l)) 732 t.toNat (I3 h')) a b = rI σ a b := by
          intro a b ha n1 n2 n3 n4
          have : a ≠ nx σ := by omega
          simp (disch := omega) only [I3_of, I6_of, I3_nat, I3_add, I3_sub, I3_mul, I3_neg, I6_add, I6_sub, I6_mul, I6_neg, I3_lt, I3_le, I3_eq, I6_lt, I6_le, I6_eq, I3_cl, I3_64, I6_32, cmp_pos', cmp_neg', cmp_eq', inb_I, cond_true, cond_false, aI_ok, aJ_ok, aA_ok, aV_ok', aI_thr, aJ_thr, aA_thr, aV_thr, ob_some, on_some, on_none, tg_wI, tg_wJ, tg_wR, ln_wI, ln_wJ, ln_wR, tg_cpI, ln_cpI, tg_cpR, ln_cpR, nx_wI, nx_wJ, nx_wR, sl_wI, sl_wJ, sl_wR, nx_cpI, sl_cpI, nx_cpR, sl_cpR, nx_nw, sl_nw, rJ_wI, rR_wI, rI_wJ, rR_wJ, rI_wR, rJ_wR, rJ_cpI, rR_cpI, rJ_cpR, rI_cpR, rI_wI, rJ_wJ, rq_wI, rq_wJ, rq_wR, rq_cpI, ↓reduceIte, Nat.reduceEqDiff, Nat.reduceAdd, Nat.reduceSub, Nat.reduceMul, Int.reduceAdd, Int.reduceSub, Int.reduceMul, Int.reduceNeg, Int.reduceLT, Int.reduceLE, Int.reduceEq, Int.reduceToNat, Int.sub_zero, Int.add_zero, Int.zero_add, true_and, and_true, false_and, and_false, or_true, true_or, or_false, false_or, not_true_eq_false, not_false_eq_true, eq_self, decide_true, decide_false, Bool.not_false, Bool.not_true, Bool.and_true, Bool.true_and, Bool.or_true, Bool.true_or, Bool.and_self, Bool.or_false, Bool.false_or, Bool.and_false, Bool.false_and, rI_nw, n1, n2, n3, n4, this, ne_eq]
        rcases h u u1 u2 with ⟨b1, b2⟩ | ⟨b, k', r', l', h'', b0, b1, b2, b3, b4, b5, b6, b7, b8, b9, b10, b11, b12⟩
        · left
          simp (disch := omega) only [I3_of, I6_of, I3_nat, I3_add, I3_sub, I3_mul, I3_neg, I6_add, I6_sub, I6_mul, I6_neg, I3_lt, I3_le, I3_eq, I6_lt, I6_le, I6_eq, I3_cl, I3_64, I6_32, cmp_pos', cmp_neg', cmp_eq', inb_I, cond_true, cond_false, aI_ok, aJ_ok, aA_ok, aV_ok', aI_thr, aJ_thr, aA_thr, aV_thr, ob_some, on_some, on_none, tg_wI, tg_wJ, tg_wR, ln_wI, ln_wJ, ln_wR, tg_cpI, ln_cpI, tg_cpR, ln_cpR, nx_wI, nx_wJ, nx_wR, sl_wI, sl_wJ, sl_wR, nx_cpI, sl_cpI, nx_cpR, sl_cpR, nx_nw, sl_nw, rJ_wI, rR_wI, rI_wJ, rR_wJ, rI_wR, rJ_wR, rJ_cpI, rR_cpI, rJ_cpR, rI_cpR, rI_wI, rJ_wJ, rq_wI, rq_wJ, rq_wR, rq_cpI, ↓reduceIte, Nat.reduceEqDiff, Nat.reduceAdd, Nat.reduceSub, Nat.reduceMul, Int.reduceAdd, Int.reduceSub, Int.reduceMul, Int.reduceNeg, Int.reduceLT, Int.reduceLE, Int.reduceEq, Int.reduceToNat, Int.sub_zero, Int.add_zero, Int.zero_add, true_and, and_true, false_and, and_false, or_true, true_or, or_false, false_or, not_true_eq_false, not_false_eq_true, eq_self, decide_true, decide_false, Bool.not_false, Bool.not_true, Bool.and_true, Bool.true_and, Bool.or_true, Bool.true_or, Bool.and_self, Bool.or_false, Bool.false_or, Bool.and_false, Bool.false_and, rq_nw, rI_nw, hu, b1, b2, show ¬ (645 = nx σ) by omega, show ¬ (730 = nx σ) by omega]
        · right
          refine ⟨b, k', r', l', h'', ?_, b1, ?_, ?_, ?_⟩
          · simp (disch := omega) only [I3_of, I6_of, I3_nat, I3_add, I3_sub, I3_mul, I3_neg, I6_add, I6_sub, I6_mul, I6_neg, I3_lt, I3_le, I3_eq, I6_lt, I6_le, I6_eq, I3_cl, I3_64, I6_32, cmp_pos', cmp_neg', cmp_eq', inb_I, cond_true, cond_false, aI_ok, aJ_ok, aA_ok, aV_ok', aI_thr, aJ_thr, aA_thr, aV_thr, ob_some, on_some, on_none, tg_wI, tg_wJ, tg_wR, ln_wI, ln_wJ, ln_wR, tg_cpI, ln_cpI, tg_cpR, ln_cpR, nx_wI, nx_wJ, nx_wR, sl_wI, sl_wJ, sl_wR, nx_cpI, sl_cpI, nx_cpR, sl_cpR, nx_nw, sl_nw, rJ_wI, rR_wI, rI_wJ, rR_wJ, rI_wR, rJ_wR, rJ_cpI, rR_cpI, rJ_cpR, rI_cpR, rI_wI, rJ_wJ, rq_wI, rq_wJ, rq_wR, rq_cpI, ↓reduceIte, Nat.reduceEqDiff, Nat.reduceAdd, Nat.reduceSub, Nat.reduceMul, Int.reduceAdd, Int.reduceSub, Int.reduceMul, Int.reduceNeg, Int.reduceLT, Int.reduceLE, Int.reduceEq, Int.reduceToNat, Int.sub_zero, Int.add_zero, Int.zero_add, true_and, and_true, false_and, and_false, or_true, true_or, or_false, false_or, not_true_eq_false, not_false_eq_true, eq_self, decide_true, decide_false, Bool.not_false, Bool.not_true, Bool.and_true, Bool.true_and, Bool.or_true, Bool.true_or, Bool.and_self, Bool.or_false, Bool.false_or, Bool.and_false, Bool.false_and, rq_nw, hu, b0, show ¬ (645 = nx σ) by omega]
          · simp (disch := omega) only [I3_of, I6_of, I3_nat, I3_add, I3_sub, I3_mul, I3_neg, I6_add, I6_sub, I6_mul, I6_neg, I3_lt, I3_le, I3_eq, I6_lt, I6_le, I6_eq, I3_cl, I3_64, I6_32, cmp_pos', cmp_neg', cmp_eq', inb_I, cond_true, cond_false, aI_ok, aJ_ok, aA_ok, aV_ok', aI_thr, aJ_thr, aA_thr, aV_thr, ob_some, on_some, on_none, tg_wI, tg_wJ, tg_wR, ln_wI, ln_wJ, ln_wR, tg_cpI, ln_cpI, tg_cpR, ln_cpR, nx_wI, nx_wJ, nx_wR, sl_wI, sl_wJ, sl_wR, nx_cpI, sl_cpI, nx_cpR, sl_cpR, nx_nw, sl_nw, rJ_wI, rR_wI, rI_wJ, rR_wJ, rI_wR, rJ_wR, rJ_cpI, rR_cpI, rJ_cpR, rI_cpR, rI_wI, rJ_wJ, rq_wI, rq_wJ, rq_wR, rq_cpI, ↓reduceIte, Nat.reduceEqDiff, Nat.reduceAdd, Nat.reduceSub, Nat.reduceMul, Int.reduceAdd, Int.reduceSub, Int.reduceMul, Int.reduceNeg, Int.reduceLT, Int.reduceLE, Int.reduceEq, Int.reduceToNat, Int.sub_zero, Int.add_zero, Int.zero_add, true_and, and_true, false_and, and_false, or_true, true_or, or_false, false_or, not_true_eq_false, not_false_eq_true, eq_self, decide_true, decide_false, Bool.not_false, Bool.not_true, Bool.and_true, Bool.true_and, Bool.or_true, Bool.true_or, Bool.and_self, Bool.or_false, Bool.false_or, Bool.and_false, Bool.false_and]; omega
          · exact (t_newn σ 18 0 4 (by omega)).trans b3
          · rw [e0 b 0 b2 (by omega) (by omega) (by omega) (by omega), e0 b 1 b2 (by omega) (by omega) (by omega) (by omega), e0 b 2 b2 (by omega) (by omega) (by omega) (by omega), e0 b 3 b2 (by omega) (by omega) (by omega) (by omega)]
            simp (disch := omega) only [I3_of, I6_of, I3_nat, I3_add, I3_sub, I3_mul, I3_neg, I6_add, I6_sub, I6_mul, I6_neg, I3_lt, I3_le, I3_eq, I6_lt, I6_le, I6_eq, I3_cl, I3_64, I6_32, cmp_pos', cmp_neg', cmp_eq', inb_I, cond_true, cond_false, aI_ok, aJ_ok, aA_ok, aV_ok', aI_thr, aJ_thr, aA_thr, aV_thr, ob_some, on_some, on_none, tg_wI, tg_wJ, tg_wR, ln_wI, ln_wJ, ln_wR, tg_cpI, ln_cpI, tg_cpR, ln_cpR, nx_wI, nx_wJ, nx_wR, sl_wI, sl_wJ, sl_wR, nx_cpI, sl_cpI, nx_cpR, sl_cpR, nx_nw, sl_nw, rJ_wI, rR_wI, rI_wJ, rR_wJ, rI_wR, rJ_wR, rJ_cpI, rR_cpI, rJ_cpR, rI_cpR, rI_wI, rJ_wJ, rq_wI, rq_wJ, rq_wR, rq_cpI, ↓reduceIte, Nat.reduceEqDiff, Nat.reduceAdd, Nat.reduceSub, Nat.reduceMul, Int.reduceAdd, Int.reduceSub, Int.reduceMul, Int.reduceNeg, Int.reduceLT, Int.reduceLE, Int.reduceEq, Int.reduceToNat, Int.sub_zero, Int.add_zero, Int.zero_add, true_and, and_true, false_and, and_false, or_true, true_or, or_false, false_or, not_true_eq_false, not_false_eq_true, eq_self, decide_true, decide_false, Bool.not_false, Bool.not_true, Bool.and_true, Bool.true_and, Bool.or_true, Bool.true_or, Bool.and_self, Bool.or_false, Bool.false_or, Bool.and_false, Bool.false_and, rI_nw, hu, show ¬ (729 = nx σ) by omega, show ¬ (730 = nx σ) by omega, show ¬ (731 = nx σ) by omega, show ¬ (732 = nx σ) by omega]
            exact ⟨b4, b5, b6, b7, b8, b9, b10, b11, b12⟩
end SMALL
