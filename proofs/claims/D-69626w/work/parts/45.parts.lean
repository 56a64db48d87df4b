/-! ===== the class's sets of runs ===== -/
section PARTS
variable {L : Nat}
/-- only the array of who is above whom has changed -/
def Only (a0 : Nat) (s τ : St) : Prop := Fr [6] s τ ∧ nx τ = nx s ∧ sl τ = sl s ∧ ∀ a k, a ≠ a0 → rI τ a k = rI s a k
theorem top_loop (d : Nat) {r : Nat} {ρ δ : Nat → Nat} (r1 : r ≤ 4096) : ∀ (q t : Nat) (s : St) (B : Nat → Nat), δ t < q → t < r → Forest r B ρ δ → (∀ i, i < r → rI s 636 i = I3 (B i)) →
    ∃ τ B', DD L d 145 2 [.ref 629, .int (I3 t)] s = ok (some (.int (I3 (ρ t)))) τ ∧ Only 636 s τ ∧ Forest r B' ρ δ ∧ (∀ i, i < r → rI τ 636 i = I3 (B' i)) := by
  intro q
  induction q with
  | zero => intro t s B h; omega
  | succ q ih =>
    intro t s B hq ht hF hB
    obtain ⟨a1, a2, a3, a4, a5, a6⟩ := hF t ht
    by_cases e : B t = t
    · refine ⟨s, B, ?_, ⟨fr_refl, rfl, rfl, fun _ _ _ => rfl⟩, hF, hB⟩
      rw [E_X2_top_2]
      simp (disch := omega) only [I3_of, I6_of, I3_nat, I3_add, I3_sub, I3_mul, I3_neg, I6_add, I6_sub, I6_mul, I6_neg, I3_lt, I3_le, I3_eq, I6_lt, I6_le, I6_eq, I3_cl, I3_64, I6_32, cmp_pos', cmp_neg', cmp_eq', inb_I, cond_true, cond_false, aI_ok, aJ_ok, aA_ok, aV_ok', aI_thr, aJ_thr, aA_thr, aV_thr, ob_some, on_some, on_none, tg_wI, tg_wJ, tg_wR, ln_wI, ln_wJ, ln_wR, tg_cpI, ln_cpI, tg_cpR, ln_cpR, nx_wI, nx_wJ, nx_wR, sl_wI, sl_wJ, sl_wR, nx_cpI, sl_cpI, nx_cpR, sl_cpR, nx_nw, sl_nw, rJ_wI, rR_wI, rI_wJ, rR_wJ, rI_wR, rJ_wR, rJ_cpI, rR_cpI, rJ_cpR, rI_cpR, rI_wI, rJ_wJ, rq_wI, rq_wJ, rq_wR, rq_cpI, ↓reduceIte, Nat.reduceEqDiff, Nat.reduceAdd, Nat.reduceSub, Nat.reduceMul, Int.reduceAdd, Int.reduceSub, Int.reduceMul, Int.reduceNeg, Int.reduceLT, Int.reduceLE, Int.reduceEq, Int.reduceToNat, Int.sub_zero, Int.add_zero, Int.zero_add, true_and, and_true, false_and, and_false, or_true, true_or, or_false, false_or, not_true_eq_false, not_false_eq_true, eq_self, decide_true, decide_false, Bool.not_false, Bool.not_true, Bool.and_true, Bool.true_and, Bool.or_true, Bool.true_or, Bool.and_self, Bool.or_false, Bool.false_or, Bool.and_false, Bool.false_and, Int.toNat_natCast, hB t ht, e, a5 e]
    · obtain ⟨b1, b2, b3, b4, b5, b6⟩ := hF (B t) a1
      have d1 := a6 e
      have dd : δ (B (B t)) < q := by
        by_cases g : B (B t) = B t
        · rw [g]; omega
        · have := b6 g; omega
      obtain ⟨τ, B', r1', r2, r3, r4⟩ := ih (B (B t)) (wI s 636 t (I3 (B (B t)))) (fun k => if k = t then B (B t) else B k) dd b1 (forest_halve hF ht) (fun i hi => by
        rw [rI_wI']
        by_cases g : i = t
        · rw [if_pos g, if_pos g]
        · rw [if_neg g, if_neg g]; exact hB i hi)
      refine ⟨τ, B', ?_, ⟨fr_tr (fr_wI rfl) r2.1, r2.2.1, r2.2.2.1, fun a k h => (r2.2.2.2 a k h).trans (rI_wIn h)⟩, r3, r4⟩
      have ne : ¬ ((B t : Int) = (t : Int)) := by omega
      rw [E_X2_top_2]
      simp (disch := omega) only [I3_of, I6_of, I3_nat, I3_add, I3_sub, I3_mul, I3_neg, I6_add, I6_sub, I6_mul, I6_neg, I3_lt, I3_le, I3_eq, I6_lt, I6_le, I6_eq, I3_cl, I3_64, I6_32, cmp_pos', cmp_neg', cmp_eq', inb_I, cond_true, cond_false, aI_ok, aJ_ok, aA_ok, aV_ok', aI_thr, aJ_thr, aA_thr, aV_thr, ob_some, on_some, on_none, tg_wI, tg_wJ, tg_wR, ln_wI, ln_wJ, ln_wR, tg_cpI, ln_cpI, tg_cpR, ln_cpR, nx_wI, nx_wJ, nx_wR, sl_wI, sl_wJ, sl_wR, nx_cpI, sl_cpI, nx_cpR, sl_cpR, nx_nw, sl_nw, rJ_wI, rR_wI, rI_wJ, rR_wJ, rI_wR, rJ_wR, rJ_cpI, rR_cpI, rJ_cpR, rI_cpR, rI_wI, rJ_wJ, rq_wI, rq_wJ, rq_wR, rq_cpI, ↓reduceIte, Nat.reduceEqDiff, Nat.reduceAdd, Nat.reduceSub, Nat.reduceMul, Int.reduceAdd, Int.reduceSub, Int.reduceMul, Int.reduceNeg, Int.reduceLT, Int.reduceLE, Int.reduceEq, Int.reduceToNat, Int.sub_zero, Int.add_zero, Int.zero_add, true_and, and_true, false_and, and_false, or_true, true_or, or_false, false_or, not_true_eq_false, not_false_eq_true, eq_self, decide_true, decide_false, Bool.not_false, Bool.not_true, Bool.and_true, Bool.true_and, Bool.or_true, Bool.true_or, Bool.and_self, Bool.or_false, Bool.false_or, Bool.and_false, Bool.false_and, Int.toNat_natCast, hB t ht, hB (B t) a1, ne]
      rw [r1', b3, a3]
theorem top_h (d : Nat) {r t : Nat} {ρ δ B : Nat → Nat} {s : St} (r1 : r ≤ 4096) (ht : t < r) (hF : Forest r B ρ δ) (hB : ∀ i, i < r → rI s 636 i = I3 (B i)) :
    ∃ τ B', DD L d 145 0 [.ref 629, .int (I3 t)] s = ok (some (.int (I3 (ρ t)))) τ ∧ Only 636 s τ ∧ Forest r B' ρ δ ∧ (∀ i, i < r → rI τ 636 i = I3 (B' i)) := by
  rw [E_X2_top_0]
  exact top_loop d r1 _ t s B (Nat.lt_succ_self _) ht hF hB
/-- the sets so far; P says which pairs of runs were looked at -/
def UInv (s0 s : St) (n m : Nat) (A : Nat → Int32) (kv : Int32) (r : Nat) (ro fr to ρ : Nat → Nat) (P : Nat → Nat → Prop) : Prop := Fr [6] s0 s ∧ nx s = nx s0 ∧ sl s = sl s0 ∧ (∀ a k, a ≠ 636 → a ≠ 637 → rI s a k = rI s0 a k) ∧
  (∃ B δ, Forest r B ρ δ ∧ ∀ i, i < r → rI s 636 i = I3 (B i)) ∧ (∀ k, k < r → ρ k = k → rI s 637 k = bi (∃ l, l < r ∧ ρ l = k ∧ opn n m ro fr to l)) ∧
  (∀ k, k < r → Conn (Adj n m A kv) (64 * ro k + fr k) (64 * ro (ρ k) + fr (ρ k))) ∧ (∀ l k, P l k → ρ l = ρ k)
/-- two runs touch -/
def Tou (rc : Nat) (ro fr to : Nat → Nat) (l k : Nat) : Prop := ro l + 1 = ro k ∧ fr l ≤ to k + rc ∧ fr k ≤ to l + rc
theorem run_conn {n m : Nat} {A : Nat → Int32} {kv : Int32} {j f t : Nat} (n1 : n ≤ 64) (hj : j < m) (ht : t < n) (hA : ∀ x, f ≤ x → x ≤ t → A (64 * j + x) = kv) : ∀ (x : Nat), f ≤ x → x ≤ t → Conn (Adj n m A kv) (64 * j + f) (64 * j + x) := by
  intro x
  induction x with
  | zero => intro h1 _; rw [show f = 0 by omega]; exact conn_refl
  | succ x ih =>
    intro h1 h2
    by_cases e : f = x + 1
    · rw [e]; exact conn_refl
    · refine conn_step (ih (by omega) (by omega)) ⟨⟨by omega, by omega⟩, ⟨by omega, by omega⟩, hA x (by omega) (by omega), hA (x + 1) h1 h2, by omega, by omega, by omega, by omega, by omega, fun _ => Or.inr (by omega)⟩
theorem tou_conn {s : St} {n m r l k rc : Nat} {A : Nat → Int32} {kv : Int32} {ro fr to : Nat → Nat} (n1 : n ≤ 64) (hR : Runs s n m A kv r ro fr to) (hk : k < r) (hl : l < r) (hrc : (rc = 0 ∧ kv = I3 1) ∨ (rc = 1 ∧ kv = I3 0)) (h : Tou rc ro fr to l k) :
    Conn (Adj n m A kv) (64 * ro l + fr l) (64 * ro k + fr k) := by
  obtain ⟨-, g2, -⟩ := hR
  obtain ⟨-, -, -, l4, l5, l6, l7⟩ := g2 l hl
  obtain ⟨-, -, -, k4, k5, k6, k7⟩ := g2 k hk
  obtain ⟨h1, h2, h3⟩ := h
  obtain ⟨x, y, x1, x2, y1, y2, xy1, xy2⟩ : ∃ x y, fr l ≤ x ∧ x ≤ to l ∧ fr k ≤ y ∧ y ≤ to k ∧ x ≤ y + rc ∧ y ≤ x + rc := by
    by_cases c : fr l ≤ fr k
    · by_cases c2 : fr k ≤ to l
      · exact ⟨fr k, fr k, c, c2, Nat.le_refl _, k5, by omega, by omega⟩
      · exact ⟨to l, fr k, l5, Nat.le_refl _, Nat.le_refl _, k5, by omega, by omega⟩
    · by_cases c2 : fr l ≤ to k
      · exact ⟨fr l, fr l, Nat.le_refl _, l5, by omega, c2, by omega, by omega⟩
      · exact ⟨fr l, to k, Nat.le_refl _, l5, k5, Nat.le_refl _, by omega, by omega⟩
  have c1 := run_conn (A := A) (kv := kv) n1 l4 l6 l7 x x1 x2
  have c2 := run_conn (A := A) (kv := kv) n1 k4 k6 k7 y y1 y2
  refine conn_tr (conn_step c1 ⟨⟨by omega, by omega⟩, ⟨by omega, by omega⟩, l7 x x1 x2, k7 y y1 y2, by omega, by omega, by omega, by omega, by omega, fun q => ?_⟩) (conn_sym adj_sym c2)
  rcases hrc with ⟨e, -⟩ | ⟨-, e⟩
  · left; omega
  · rw [e] at q; exact absurd q (by decide)
theorem bi_if {p q : Prop} {r : Res} {f : Int32 → Res} (h : ∀ v, (p ∨ q → v = I3 1) → (¬ (p ∨ q) → v = I3 0) → f v = r) : (if bi p = I3 0 then (if bi q = I3 0 then f (I3 0) else f (I3 1)) else f (I3 1)) = r := by
  by_cases c1 : p
  · rw [bi_pos c1, if_neg (by decide)]
    exact h _ (fun _ => rfl) (fun w => absurd (Or.inl c1) w)
  · rw [bi_neg c1, if_pos rfl]
    by_cases c2 : q
    · rw [bi_pos c2, if_neg (by decide)]
      exact h _ (fun _ => rfl) (fun w => absurd (Or.inr c2) w)
    · rw [bi_neg c2, if_pos rfl]
      exact h _ (fun w => by rcases w with w | w; exact absurd w c1; exact absurd w c2) (fun _ => rfl)
theorem join_h (d : Nat) {s0 s : St} {n m r l k rc : Nat} {A : Nat → Int32} {kv : Int32} {ro fr to ρ : Nat → Nat} {P : Nat → Nat → Prop} (n1 : n ≤ 64) (r1 : r ≤ 4096) (hR : Runs s0 n m A kv r ro fr to) (hk : k < r) (hl : l < r)
    (hrc : (rc = 0 ∧ kv = I3 1) ∨ (rc = 1 ∧ kv = I3 0)) (ht : Tou rc ro fr to l k) (hP : ∀ a b, P a b → a < r ∧ b < r) (hU : UInv s0 s n m A kv r ro fr to ρ P) :
    ∃ τ ρ', DD L (d + 1) 144 0 [.ref 629, .int (I3 l), .int (I3 k)] s = ok none τ ∧ UInv s0 τ n m A kv r ro fr to ρ' (fun a b => P a b ∨ (a = l ∧ b = k)) := by
  obtain ⟨u1, u2, u3, u4, ⟨B, δ, u5, u6⟩, u7, u8, u9⟩ := hU
  obtain ⟨s1, B1, e1, o1, F1, A1⟩ := top_h (L := L) d r1 hl u5 u6
  obtain ⟨s2, B2, e2, o2, F2, A2⟩ := top_h (L := L) d r1 hk F1 A1
  have rl := (u5 l hl).2.1
  have rk := (u5 k hk).2.1
  have rrl := forest_root u5 hl
  have rrk := forest_root u5 hk
  have O : ∀ a k, a ≠ 636 → rI s2 a k = rI s a k := fun a k h => (o2.2.2.2 a k h).trans (o1.2.2.2 a k h)
  have FF2 : Fr [6] s0 s2 := fr_tr (fr_tr u1 o1.1) o2.1
  have hc := tou_conn n1 hR hk hl hrc ht
  by_cases ex : ρ l = ρ k
  · refine ⟨s2, ρ, ?_, FF2, (o2.2.1.trans o1.2.1).trans u2, (o2.2.2.1.trans o1.2.2.1).trans u3, fun a k h h' => (O a k h).trans (u4 a k h h'), ⟨B2, δ, F2, A2⟩, fun k hk h => ?_, u8, fun a b h => ?_⟩
    · rw [E_X2_join_0, e1]
      simp (disch := omega) only [I3_of, I6_of, I3_nat, I3_add, I3_sub, I3_mul, I3_neg, I6_add, I6_sub, I6_mul, I6_neg, I3_lt, I3_le, I3_eq, I6_lt, I6_le, I6_eq, I3_cl, I3_64, I6_32, cmp_pos', cmp_neg', cmp_eq', inb_I, cond_true, cond_false, aI_ok, aJ_ok, aA_ok, aV_ok', aI_thr, aJ_thr, aA_thr, aV_thr, ob_some, on_some, on_none, tg_wI, tg_wJ, tg_wR, ln_wI, ln_wJ, ln_wR, tg_cpI, ln_cpI, tg_cpR, ln_cpR, nx_wI, nx_wJ, nx_wR, sl_wI, sl_wJ, sl_wR, nx_cpI, sl_cpI, nx_cpR, sl_cpR, nx_nw, sl_nw, rJ_wI, rR_wI, rI_wJ, rR_wJ, rI_wR, rJ_wR, rJ_cpI, rR_cpI, rJ_cpR, rI_cpR, rI_wI, rJ_wJ, rq_wI, rq_wJ, rq_wR, rq_cpI, ↓reduceIte, Nat.reduceEqDiff, Nat.reduceAdd, Nat.reduceSub, Nat.reduceMul, Int.reduceAdd, Int.reduceSub, Int.reduceMul, Int.reduceNeg, Int.reduceLT, Int.reduceLE, Int.reduceEq, Int.reduceToNat, Int.sub_zero, Int.add_zero, Int.zero_add, true_and, and_true, false_and, and_false, or_true, true_or, or_false, false_or, not_true_eq_false, not_false_eq_true, eq_self, decide_true, decide_false, Bool.not_false, Bool.not_true, Bool.and_true, Bool.true_and, Bool.or_true, Bool.true_or, Bool.and_self, Bool.or_false, Bool.false_or, Bool.and_false, Bool.false_and, e2, ex]
    · rw [O 637 k (by omega)]; exact u7 k hk h
    · rcases h with h | ⟨rfl, rfl⟩
      · exact u9 a b h
      · exact ex
  · have op1 : rI s2 637 (ρ l) = bi (∃ i, i < r ∧ ρ i = ρ l ∧ opn n m ro fr to i) := (O 637 _ (by omega)).trans (u7 (ρ l) rl rrl)
    have op2 : rI s2 637 (ρ k) = bi (∃ i, i < r ∧ ρ i = ρ k ∧ opn n m ro fr to i) := (O 637 _ (by omega)).trans (u7 (ρ k) rk rrk)
    refine ⟨wI (wI s2 636 (ρ k) (I3 (ρ l))) 637 (ρ l) (bi ((∃ i, i < r ∧ ρ i = ρ l ∧ opn n m ro fr to i) ∨ ∃ i, i < r ∧ ρ i = ρ k ∧ opn n m ro fr to i)), fun i => if ρ i = ρ k then ρ l else ρ i, ?_, ?_⟩
    · have ne : ¬ ((ρ l : Int) = (ρ k : Int)) := by omega
      rw [E_X2_join_0, e1]
      simp (disch := omega) only [I3_of, I6_of, I3_nat, I3_add, I3_sub, I3_mul, I3_neg, I6_add, I6_sub, I6_mul, I6_neg, I3_lt, I3_le, I3_eq, I6_lt, I6_le, I6_eq, I3_cl, I3_64, I6_32, cmp_pos', cmp_neg', cmp_eq', inb_I, cond_true, cond_false, aI_ok, aJ_ok, aA_ok, aV_ok', aI_thr, aJ_thr, aA_thr, aV_thr, ob_some, on_some, on_none, tg_wI, tg_wJ, tg_wR, ln_wI, ln_wJ, ln_wR, tg_cpI, ln_cpI, tg_cpR, ln_cpR, nx_wI, nx_wJ, nx_wR, sl_wI, sl_wJ, sl_wR, nx_cpI, sl_cpI, nx_cpR, sl_cpR, nx_nw, sl_nw, rJ_wI, rR_wI, rI_wJ, rR_wJ, rI_wR, rJ_wR, rJ_cpI, rR_cpI, rJ_cpR, rI_cpR, rI_wI, rJ_wJ, rq_wI, rq_wJ, rq_wR, rq_cpI, ↓reduceIte, Nat.reduceEqDiff, Nat.reduceAdd, Nat.reduceSub, Nat.reduceMul, Int.reduceAdd, Int.reduceSub, Int.reduceMul, Int.reduceNeg, Int.reduceLT, Int.reduceLE, Int.reduceEq, Int.reduceToNat, Int.sub_zero, Int.add_zero, Int.zero_add, true_and, and_true, false_and, and_false, or_true, true_or, or_false, false_or, not_true_eq_false, not_false_eq_true, eq_self, decide_true, decide_false, Bool.not_false, Bool.not_true, Bool.and_true, Bool.true_and, Bool.or_true, Bool.true_or, Bool.and_self, Bool.or_false, Bool.false_or, Bool.and_false, Bool.false_and, e2, ne, Int.toNat_natCast, op1, op2]
      refine bi_if (f := fun v => ok none (wI (wI s2 636 (ρ k) (I3 (ρ l))) 637 (ρ l) v)) fun v h1 h2 => ?_
      by_cases c : (∃ i, i < r ∧ ρ i = ρ l ∧ opn n m ro fr to i) ∨ ∃ i, i < r ∧ ρ i = ρ k ∧ opn n m ro fr to i
      · rw [h1 c, bi_pos c]
      · rw [h2 c, bi_neg c]
    · have FJ := forest_join F2 rl rk rrl rrk ex
      refine ⟨fr_wI' (fr_wI' FF2 rfl) rfl, (o2.2.1.trans o1.2.1).trans u2, (o2.2.2.1.trans o1.2.2.1).trans u3, fun a k h h' => ?_, ⟨_, _, FJ, fun i hi => ?_⟩, fun i hi h => ?_, fun i hi => ?_, fun a b h => ?_⟩
      · simp (disch := omega) only [I3_of, I6_of, I3_nat, I3_add, I3_sub, I3_mul, I3_neg, I6_add, I6_sub, I6_mul, I6_neg, I3_lt, I3_le, I3_eq, I6_lt, I6_le, I6_eq, I3_cl, I3_64, I6_32, cmp_pos', cmp_neg', cmp_eq', inb_I, cond_true, cond_false, aI_ok, aJ_ok, aA_ok, aV_ok', aI_thr, aJ_thr, aA_thr, aV_thr, ob_some, on_some, on_none, tg_wI, tg_wJ, tg_wR, ln_wI, ln_wJ, ln_wR, tg_cpI, ln_cpI, tg_cpR, ln_cpR, nx_wI, nx_wJ, nx_wR, sl_wI, sl_wJ, sl_wR, nx_cpI, sl_cpI, nx_cpR, sl_cpR, nx_nw, sl_nw, rJ_wI, rR_wI, rI_wJ, rR_wJ, rI_wR, rJ_wR, rJ_cpI, rR_cpI, rJ_cpR, rI_cpR, rI_wI, rJ_wJ, rq_wI, rq_wJ, rq_wR, rq_cpI, ↓reduceIte, Nat.reduceEqDiff, Nat.reduceAdd, Nat.reduceSub, Nat.reduceMul, Int.reduceAdd, Int.reduceSub, Int.reduceMul, Int.reduceNeg, Int.reduceLT, Int.reduceLE, Int.reduceEq, Int.reduceToNat, Int.sub_zero, Int.add_zero, Int.zero_add, true_and, and_true, false_and, and_false, or_true, true_or, or_false, false_or, not_true_eq_false, not_false_eq_true, eq_self, decide_true, decide_false, Bool.not_false, Bool.not_true, Bool.and_true, Bool.true_and, Bool.or_true, Bool.true_or, Bool.and_self, Bool.or_false, Bool.false_or, Bool.and_false, Bool.false_and, h, h']
        exact (O a k h).trans (u4 a k h h')
      · rw [rI_wIn (by omega), rI_wI']
        by_cases g : i = ρ k
        · rw [if_pos g, if_pos g]
        · rw [if_neg g, if_neg g]; exact A2 i hi
      · rw [rI_wI']
        by_cases g : i = ρ l
        · rw [if_pos g]
          refine bi_congr ⟨fun q => ?_, fun q => ?_⟩
          · rcases q with ⟨z, z1, z2, z3⟩ | ⟨z, z1, z2, z3⟩
            · refine ⟨z, z1, ?_, z3⟩
              dsimp only
              rw [if_neg (by omega), g]; exact z2
            · refine ⟨z, z1, ?_, z3⟩
              dsimp only
              rw [if_pos z2, g]
          · obtain ⟨z, z1, z2, z3⟩ := q
            dsimp only at z2
            by_cases w : ρ z = ρ k
            · exact Or.inr ⟨z, z1, w, z3⟩
            · rw [if_neg w] at z2
              exact Or.inl ⟨z, z1, by omega, z3⟩
        · rw [if_neg g, rI_wIn (by omega), O 637 i (by omega)]
          dsimp only at h
          by_cases w : ρ i = ρ k
          · rw [if_pos w] at h; omega
          · rw [if_neg w] at h
            rw [u7 i hi h]
            refine bi_congr ⟨fun q => ?_, fun q => ?_⟩
            · obtain ⟨z, z1, z2, z3⟩ := q
              refine ⟨z, z1, ?_, z3⟩
              dsimp only
              rw [if_neg (by omega)]; exact z2
            · obtain ⟨z, z1, z2, z3⟩ := q
              dsimp only at z2
              by_cases v : ρ z = ρ k
              · rw [if_pos v] at z2; omega
              · rw [if_neg v] at z2
                exact ⟨z, z1, z2, z3⟩
      · dsimp only
        by_cases w : ρ i = ρ k
        · rw [if_pos w]
          have q1 := u8 i hi
          rw [w] at q1
          exact conn_tr q1 (conn_tr (conn_sym adj_sym (u8 k hk)) (conn_tr (conn_sym adj_sym hc) (u8 l hl)))
        · rw [if_neg w]; exact u8 i hi
      · dsimp only
        rcases h with h | ⟨rfl, rfl⟩
        · rw [u9 a b h]
        · rw [if_neg ex, if_pos rfl]
/-- the runs above one run -/
theorem l_loop (d : Nat) {s0 : St} {n m r k rc la : Nat} {A : Nat → Int32} {kv bc : Int32} {ro fr to : Nat → Nat} (n1 : n ≤ 64) (m1 : m ≤ 64) (r1 : r ≤ 4096) (hR : Runs s0 n m A kv r ro fr to) (hk : k < r) (hrc : (rc = 0 ∧ kv = I3 1) ∨ (rc = 1 ∧ kv = I3 0)) :
    ∀ (t l : Nat) (s : St) (ρ : Nat → Nat), k - l ≤ t → l ≤ k → la ≤ l → (∀ i, i < l → ro i + 1 ≤ ro k) → (∀ i, la ≤ i → i < r → ro k ≤ ro i + 1) → UInv s0 s n m A kv r ro fr to ρ (fun a b => a < b ∧ b < r ∧ (b < k ∨ (b = k ∧ a < l)) ∧ Tou rc ro fr to a b) →
    ∃ τ ρ', DD L (d + 2) 143 51 [.ref 629, .int bc, .int (I3 rc), .int (I3 la), .int (I3 k), .int (I3 l)] s = DD L (d + 2) 143 15 [.ref 629, .int bc, .int (I3 rc), .int (I3 la), .int (I3 ((k + 1 : Nat) : Int))] τ ∧ UInv s0 τ n m A kv r ro fr to ρ' (fun a b => a < b ∧ b < r ∧ b < k + 1 ∧ Tou rc ro fr to a b) := by
  intro t
  induction t with
  | zero =>
    intro l s ρ ht hl hla hlo hhi hU
    have e : l = k := by omega
    subst e
    obtain ⟨u1, u2, u3, u4, u5, u7, u8, u9⟩ := hU
    obtain ⟨-, g2, -⟩ := hR
    obtain ⟨k1, k2, k3, k4, k5, k6, k7⟩ := g2 l hk
    have q1 : rI s 633 l = I3 (ro l) := (u4 633 l (by omega) (by omega)).trans k1
    refine ⟨s, ρ, ?_, u1, u2, u3, u4, u5, u7, u8, fun a b h => u9 a b ⟨h.1, h.2.1, by omega, h.2.2.2⟩⟩
    rw [E_X2_parts_51]
    simp (disch := omega) only [I3_of, I6_of, I3_nat, I3_add, I3_sub, I3_mul, I3_neg, I6_add, I6_sub, I6_mul, I6_neg, I3_lt, I3_le, I3_eq, I6_lt, I6_le, I6_eq, I3_cl, I3_64, I6_32, cmp_pos', cmp_neg', cmp_eq', inb_I, cond_true, cond_false, aI_ok, aJ_ok, aA_ok, aV_ok', aI_thr, aJ_thr, aA_thr, aV_thr, ob_some, on_some, on_none, tg_wI, tg_wJ, tg_wR, ln_wI, ln_wJ, ln_wR, tg_cpI, ln_cpI, tg_cpR, ln_cpR, nx_wI, nx_wJ, nx_wR, sl_wI, sl_wJ, sl_wR, nx_cpI, sl_cpI, nx_cpR, sl_cpR, nx_nw, sl_nw, rJ_wI, rR_wI, rI_wJ, rR_wJ, rI_wR, rJ_wR, rJ_cpI, rR_cpI, rJ_cpR, rI_cpR, rI_wI, rJ_wJ, rq_wI, rq_wJ, rq_wR, rq_cpI, ↓reduceIte, Nat.reduceEqDiff, Nat.reduceAdd, Nat.reduceSub, Nat.reduceMul, Int.reduceAdd, Int.reduceSub, Int.reduceMul, Int.reduceNeg, Int.reduceLT, Int.reduceLE, Int.reduceEq, Int.reduceToNat, Int.sub_zero, Int.add_zero, Int.zero_add, true_and, and_true, false_and, and_false, or_true, true_or, or_false, false_or, not_true_eq_false, not_false_eq_true, eq_self, decide_true, decide_false, Bool.not_false, Bool.not_true, Bool.and_true, Bool.true_and, Bool.or_true, Bool.true_or, Bool.and_self, Bool.or_false, Bool.false_or, Bool.and_false, Bool.false_and, Int.toNat_natCast, q1]
    rw [if_neg (by omega), show (l : Int) + 1 = ((l + 1 : Nat) : Int) by omega]
  | succ t ih =>
    intro l s ρ ht hl hla hlo hhi hU
    have hU0 := hU
    obtain ⟨u1, u2, u3, u4, u5, u7, u8, u9⟩ := hU
    obtain ⟨g1, g2, g3⟩ := id hR
    obtain ⟨k1, k2, k3, k4, k5, k6, k7⟩ := g2 k hk
    have q1 : rI s 633 k = I3 (ro k) := (u4 633 k (by omega) (by omega)).trans k1
    have q2 : rI s 634 k = I3 (fr k) := (u4 634 k (by omega) (by omega)).trans k2
    have q3 : rI s 635 k = I3 (to k) := (u4 635 k (by omega) (by omega)).trans k3
    by_cases e : l = k
    · subst e
      refine ⟨s, ρ, ?_, u1, u2, u3, u4, u5, u7, u8, fun a b h => u9 a b ⟨h.1, h.2.1, by omega, h.2.2.2⟩⟩
      rw [E_X2_parts_51]
      simp (disch := omega) only [I3_of, I6_of, I3_nat, I3_add, I3_sub, I3_mul, I3_neg, I6_add, I6_sub, I6_mul, I6_neg, I3_lt, I3_le, I3_eq, I6_lt, I6_le, I6_eq, I3_cl, I3_64, I6_32, cmp_pos', cmp_neg', cmp_eq', inb_I, cond_true, cond_false, aI_ok, aJ_ok, aA_ok, aV_ok', aI_thr, aJ_thr, aA_thr, aV_thr, ob_some, on_some, on_none, tg_wI, tg_wJ, tg_wR, ln_wI, ln_wJ, ln_wR, tg_cpI, ln_cpI, tg_cpR, ln_cpR, nx_wI, nx_wJ, nx_wR, sl_wI, sl_wJ, sl_wR, nx_cpI, sl_cpI, nx_cpR, sl_cpR, nx_nw, sl_nw, rJ_wI, rR_wI, rI_wJ, rR_wJ, rI_wR, rJ_wR, rJ_cpI, rR_cpI, rJ_cpR, rI_cpR, rI_wI, rJ_wJ, rq_wI, rq_wJ, rq_wR, rq_cpI, ↓reduceIte, Nat.reduceEqDiff, Nat.reduceAdd, Nat.reduceSub, Nat.reduceMul, Int.reduceAdd, Int.reduceSub, Int.reduceMul, Int.reduceNeg, Int.reduceLT, Int.reduceLE, Int.reduceEq, Int.reduceToNat, Int.sub_zero, Int.add_zero, Int.zero_add, true_and, and_true, false_and, and_false, or_true, true_or, or_false, false_or, not_true_eq_false, not_false_eq_true, eq_self, decide_true, decide_false, Bool.not_false, Bool.not_true, Bool.and_true, Bool.true_and, Bool.or_true, Bool.true_or, Bool.and_self, Bool.or_false, Bool.false_or, Bool.and_false, Bool.false_and, Int.toNat_natCast, q1]
      rw [if_neg (by omega), show (l : Int) + 1 = ((l + 1 : Nat) : Int) by omega]
    · have hlr : l < r := by omega
      obtain ⟨l1, l2, l3, l4, l5, l6, l7⟩ := g2 l hlr
      have p1 : rI s 633 l = I3 (ro l) := (u4 633 l (by omega) (by omega)).trans l1
      have p2 : rI s 634 l = I3 (fr l) := (u4 634 l (by omega) (by omega)).trans l2
      have p3 : rI s 635 l = I3 (to l) := (u4 635 l (by omega) (by omega)).trans l3
      have hge := hhi l hla hlr
      by_cases c0 : ro l < ro k
      · have rw1 : ro l + 1 = ro k := by omega
        have hlo' : ∀ i, i < l + 1 → ro i + 1 ≤ ro k := fun i hi => by
          by_cases z : i = l
          · rw [z]; omega
          · exact hlo i (by omega)
        have el : (l : Int) + 1 = ((l + 1 : Nat) : Int) := by omega
        by_cases c1 : to k + rc < fr l
        · obtain ⟨τ, ρ', r1', r2'⟩ := ih (l + 1) s ρ (by omega) (by omega) (by omega) hlo' hhi ⟨u1, u2, u3, u4, u5, u7, u8, fun a b h => by
            by_cases z : b = k ∧ a = l
            · obtain ⟨rfl, rfl⟩ := z
              have := h.2.2.2.2.1
              omega
            · exact u9 a b ⟨h.1, h.2.1, by omega, h.2.2.2⟩⟩
          refine ⟨τ, ρ', ?_, r2'⟩
          rw [E_X2_parts_51]
          simp (disch := omega) only [I3_of, I6_of, I3_nat, I3_add, I3_sub, I3_mul, I3_neg, I6_add, I6_sub, I6_mul, I6_neg, I3_lt, I3_le, I3_eq, I6_lt, I6_le, I6_eq, I3_cl, I3_64, I6_32, cmp_pos', cmp_neg', cmp_eq', inb_I, cond_true, cond_false, aI_ok, aJ_ok, aA_ok, aV_ok', aI_thr, aJ_thr, aA_thr, aV_thr, ob_some, on_some, on_none, tg_wI, tg_wJ, tg_wR, ln_wI, ln_wJ, ln_wR, tg_cpI, ln_cpI, tg_cpR, ln_cpR, nx_wI, nx_wJ, nx_wR, sl_wI, sl_wJ, sl_wR, nx_cpI, sl_cpI, nx_cpR, sl_cpR, nx_nw, sl_nw, rJ_wI, rR_wI, rI_wJ, rR_wJ, rI_wR, rJ_wR, rJ_cpI, rR_cpI, rJ_cpR, rI_cpR, rI_wI, rJ_wJ, rq_wI, rq_wJ, rq_wR, rq_cpI, ↓reduceIte, Nat.reduceEqDiff, Nat.reduceAdd, Nat.reduceSub, Nat.reduceMul, Int.reduceAdd, Int.reduceSub, Int.reduceMul, Int.reduceNeg, Int.reduceLT, Int.reduceLE, Int.reduceEq, Int.reduceToNat, Int.sub_zero, Int.add_zero, Int.zero_add, true_and, and_true, false_and, and_false, or_true, true_or, or_false, false_or, not_true_eq_false, not_false_eq_true, eq_self, decide_true, decide_false, Bool.not_false, Bool.not_true, Bool.and_true, Bool.true_and, Bool.or_true, Bool.true_or, Bool.and_self, Bool.or_false, Bool.false_or, Bool.and_false, Bool.false_and, Int.toNat_natCast, q1, q2, q3, p1, p2, p3]
          rw [if_pos (by omega), if_pos (by omega), el]
          exact r1'
        · by_cases c2 : (to l : Int) < (fr k : Int) - rc
          · obtain ⟨τ, ρ', r1', r2'⟩ := ih (l + 1) s ρ (by omega) (by omega) (by omega) hlo' hhi ⟨u1, u2, u3, u4, u5, u7, u8, fun a b h => by
              by_cases z : b = k ∧ a = l
              · obtain ⟨rfl, rfl⟩ := z
                have := h.2.2.2.2.2
                omega
              · exact u9 a b ⟨h.1, h.2.1, by omega, h.2.2.2⟩⟩
            refine ⟨τ, ρ', ?_, r2'⟩
            rw [E_X2_parts_51]
            simp (disch := omega) only [I3_of, I6_of, I3_nat, I3_add, I3_sub, I3_mul, I3_neg, I6_add, I6_sub, I6_mul, I6_neg, I3_lt, I3_le, I3_eq, I6_lt, I6_le, I6_eq, I3_cl, I3_64, I6_32, cmp_pos', cmp_neg', cmp_eq', inb_I, cond_true, cond_false, aI_ok, aJ_ok, aA_ok, aV_ok', aI_thr, aJ_thr, aA_thr, aV_thr, ob_some, on_some, on_none, tg_wI, tg_wJ, tg_wR, ln_wI, ln_wJ, ln_wR, tg_cpI, ln_cpI, tg_cpR, ln_cpR, nx_wI, nx_wJ, nx_wR, sl_wI, sl_wJ, sl_wR, nx_cpI, sl_cpI, nx_cpR, sl_cpR, nx_nw, sl_nw, rJ_wI, rR_wI, rI_wJ, rR_wJ, rI_wR, rJ_wR, rJ_cpI, rR_cpI, rJ_cpR, rI_cpR, rI_wI, rJ_wJ, rq_wI, rq_wJ, rq_wR, rq_cpI, ↓reduceIte, Nat.reduceEqDiff, Nat.reduceAdd, Nat.reduceSub, Nat.reduceMul, Int.reduceAdd, Int.reduceSub, Int.reduceMul, Int.reduceNeg, Int.reduceLT, Int.reduceLE, Int.reduceEq, Int.reduceToNat, Int.sub_zero, Int.add_zero, Int.zero_add, true_and, and_true, false_and, and_false, or_true, true_or, or_false, false_or, not_true_eq_false, not_false_eq_true, eq_self, decide_true, decide_false, Bool.not_false, Bool.not_true, Bool.and_true, Bool.true_and, Bool.or_true, Bool.true_or, Bool.and_self, Bool.or_false, Bool.false_or, Bool.and_false, Bool.false_and, Int.toNat_natCast, q1, q2, q3, p1, p2, p3]
            rw [if_pos (by omega), if_neg (by omega), if_pos c2, el]
            exact r1'
          · obtain ⟨s1, ρ1, j1, j2⟩ := join_h (L := L) d n1 r1 hR hk hlr hrc ⟨rw1, by omega, by omega⟩ (fun a b h => ⟨by omega, by omega⟩) hU0
            obtain ⟨v1, v2, v3, v4, v5, v7, v8, v9⟩ := j2
            obtain ⟨τ, ρ', r1', r2'⟩ := ih (l + 1) s1 ρ1 (by omega) (by omega) (by omega) hlo' hhi ⟨v1, v2, v3, v4, v5, v7, v8, fun a b h => by
              by_cases z : b = k ∧ a = l
              · exact v9 a b (Or.inr ⟨z.2, z.1⟩)
              · exact v9 a b (Or.inl ⟨h.1, h.2.1, by omega, h.2.2.2⟩)⟩
            refine ⟨τ, ρ', ?_, r2'⟩
            rw [E_X2_parts_51]
            simp (disch := omega) only [I3_of, I6_of, I3_nat, I3_add, I3_sub, I3_mul, I3_neg, I6_add, I6_sub, I6_mul, I6_neg, I3_lt, I3_le, I3_eq, I6_lt, I6_le, I6_eq, I3_cl, I3_64, I6_32, cmp_pos', cmp_neg', cmp_eq', inb_I, cond_true, cond_false, aI_ok, aJ_ok, aA_ok, aV_ok', aI_thr, aJ_thr, aA_thr, aV_thr, ob_some, on_some, on_none, tg_wI, tg_wJ, tg_wR, ln_wI, ln_wJ, ln_wR, tg_cpI, ln_cpI, tg_cpR, ln_cpR, nx_wI, nx_wJ, nx_wR, sl_wI, sl_wJ, sl_wR, nx_cpI, sl_cpI, nx_cpR, sl_cpR, nx_nw, sl_nw, rJ_wI, rR_wI, rI_wJ, rR_wJ, rI_wR, rJ_wR, rJ_cpI, rR_cpI, rJ_cpR, rI_cpR, rI_wI, rJ_wJ, rq_wI, rq_wJ, rq_wR, rq_cpI, ↓reduceIte, Nat.reduceEqDiff, Nat.reduceAdd, Nat.reduceSub, Nat.reduceMul, Int.reduceAdd, Int.reduceSub, Int.reduceMul, Int.reduceNeg, Int.reduceLT, Int.reduceLE, Int.reduceEq, Int.reduceToNat, Int.sub_zero, Int.add_zero, Int.zero_add, true_and, and_true, false_and, and_false, or_true, true_or, or_false, false_or, not_true_eq_false, not_false_eq_true, eq_self, decide_true, decide_false, Bool.not_false, Bool.not_true, Bool.and_true, Bool.true_and, Bool.or_true, Bool.true_or, Bool.and_self, Bool.or_false, Bool.false_or, Bool.and_false, Bool.false_and, Int.toNat_natCast, q1, q2, q3, p1, p2, p3, j1]
            rw [if_pos (by omega), if_neg (by omega), if_neg c2, el]
            exact r1'
      · refine ⟨s, ρ, ?_, u1, u2, u3, u4, u5, u7, u8, fun a b h => ?_⟩
        · rw [E_X2_parts_51]
          simp (disch := omega) only [I3_of, I6_of, I3_nat, I3_add, I3_sub, I3_mul, I3_neg, I6_add, I6_sub, I6_mul, I6_neg, I3_lt, I3_le, I3_eq, I6_lt, I6_le, I6_eq, I3_cl, I3_64, I6_32, cmp_pos', cmp_neg', cmp_eq', inb_I, cond_true, cond_false, aI_ok, aJ_ok, aA_ok, aV_ok', aI_thr, aJ_thr, aA_thr, aV_thr, ob_some, on_some, on_none, tg_wI, tg_wJ, tg_wR, ln_wI, ln_wJ, ln_wR, tg_cpI, ln_cpI, tg_cpR, ln_cpR, nx_wI, nx_wJ, nx_wR, sl_wI, sl_wJ, sl_wR, nx_cpI, sl_cpI, nx_cpR, sl_cpR, nx_nw, sl_nw, rJ_wI, rR_wI, rI_wJ, rR_wJ, rI_wR, rJ_wR, rJ_cpI, rR_cpI, rJ_cpR, rI_cpR, rI_wI, rJ_wJ, rq_wI, rq_wJ, rq_wR, rq_cpI, ↓reduceIte, Nat.reduceEqDiff, Nat.reduceAdd, Nat.reduceSub, Nat.reduceMul, Int.reduceAdd, Int.reduceSub, Int.reduceMul, Int.reduceNeg, Int.reduceLT, Int.reduceLE, Int.reduceEq, Int.reduceToNat, Int.sub_zero, Int.add_zero, Int.zero_add, true_and, and_true, false_and, and_false, or_true, true_or, or_false, false_or, not_true_eq_false, not_false_eq_true, eq_self, decide_true, decide_false, Bool.not_false, Bool.not_true, Bool.and_true, Bool.true_and, Bool.or_true, Bool.true_or, Bool.and_self, Bool.or_false, Bool.false_or, Bool.and_false, Bool.false_and, Int.toNat_natCast, q1, p1]
          rw [if_neg (by omega), show (k : Int) + 1 = ((k + 1 : Nat) : Int) by omega]
        · by_cases z : b < k
          · exact u9 a b ⟨h.1, h.2.1, Or.inl z, h.2.2.2⟩
          · have e2 : b = k := by omega
            subst e2
            by_cases w : a < l
            · exact u9 a b ⟨h.1, h.2.1, Or.inr ⟨rfl, w⟩, h.2.2.2⟩
            · -- a is not above: its row is at least that of l
              have h1 := h.2.2.2.1
              by_cases w2 : a = l
              · rw [w2] at h1; omega
              · have := g3 l a (by omega) (by omega)
                omega
/-- the first run that may touch -/
theorem last_loop (d : Nat) {s : St} {n m r k rc : Nat} {A : Nat → Int32} {kv bc : Int32} {ro fr to : Nat → Nat} (m1 : m ≤ 64) (r1 : r ≤ 4096) (hR : Runs s n m A kv r ro fr to) (hk : k < r) :
    ∀ (t la : Nat), k - la ≤ t → la ≤ k → (∀ i, i < la → ro i + 1 < ro k) →
    ∃ la', la' ≤ k ∧ DD L d 143 24 [.ref 629, .int bc, .int (I3 rc), .int (I3 la), .int (I3 k)] s = DD L d 143 51 [.ref 629, .int bc, .int (I3 rc), .int (I3 la'), .int (I3 k), .int (I3 la')] s ∧ (∀ i, i < la' → ro i + 1 < ro k) ∧ ro k ≤ ro la' + 1 := by
  obtain ⟨g1, g2, g3⟩ := id hR
  obtain ⟨k1, k2, k3, k4, -⟩ := g2 k hk
  intro t
  induction t with
  | zero =>
    intro la ht hl hlo
    have e : la = k := by omega
    subst e
    refine ⟨la, Nat.le_refl _, ?_, hlo, by omega⟩
    rw [E_X2_parts_24]
    simp (disch := omega) only [I3_of, I6_of, I3_nat, I3_add, I3_sub, I3_mul, I3_neg, I6_add, I6_sub, I6_mul, I6_neg, I3_lt, I3_le, I3_eq, I6_lt, I6_le, I6_eq, I3_cl, I3_64, I6_32, cmp_pos', cmp_neg', cmp_eq', inb_I, cond_true, cond_false, aI_ok, aJ_ok, aA_ok, aV_ok', aI_thr, aJ_thr, aA_thr, aV_thr, ob_some, on_some, on_none, tg_wI, tg_wJ, tg_wR, ln_wI, ln_wJ, ln_wR, tg_cpI, ln_cpI, tg_cpR, ln_cpR, nx_wI, nx_wJ, nx_wR, sl_wI, sl_wJ, sl_wR, nx_cpI, sl_cpI, nx_cpR, sl_cpR, nx_nw, sl_nw, rJ_wI, rR_wI, rI_wJ, rR_wJ, rI_wR, rJ_wR, rJ_cpI, rR_cpI, rJ_cpR, rI_cpR, rI_wI, rJ_wJ, rq_wI, rq_wJ, rq_wR, rq_cpI, ↓reduceIte, Nat.reduceEqDiff, Nat.reduceAdd, Nat.reduceSub, Nat.reduceMul, Int.reduceAdd, Int.reduceSub, Int.reduceMul, Int.reduceNeg, Int.reduceLT, Int.reduceLE, Int.reduceEq, Int.reduceToNat, Int.sub_zero, Int.add_zero, Int.zero_add, true_and, and_true, false_and, and_false, or_true, true_or, or_false, false_or, not_true_eq_false, not_false_eq_true, eq_self, decide_true, decide_false, Bool.not_false, Bool.not_true, Bool.and_true, Bool.true_and, Bool.or_true, Bool.true_or, Bool.and_self, Bool.or_false, Bool.false_or, Bool.and_false, Bool.false_and, Int.toNat_natCast, k1]
    rw [if_neg (by omega)]
  | succ t ih =>
    intro la ht hl hlo
    obtain ⟨l1, -, -, l4, -⟩ := g2 la (by omega)
    by_cases c : (ro la : Int) < (ro k : Int) - 1
    · have ne : la ≠ k := by intro e; subst e; omega
      obtain ⟨la', a1, a2, a3, a4⟩ := ih (la + 1) (by omega) (by omega) (fun i hi => by
        by_cases z : i = la
        · rw [z]; omega
        · exact hlo i (by omega))
      refine ⟨la', a1, ?_, a3, a4⟩
      rw [E_X2_parts_24]
      simp (disch := omega) only [I3_of, I6_of, I3_nat, I3_add, I3_sub, I3_mul, I3_neg, I6_add, I6_sub, I6_mul, I6_neg, I3_lt, I3_le, I3_eq, I6_lt, I6_le, I6_eq, I3_cl, I3_64, I6_32, cmp_pos', cmp_neg', cmp_eq', inb_I, cond_true, cond_false, aI_ok, aJ_ok, aA_ok, aV_ok', aI_thr, aJ_thr, aA_thr, aV_thr, ob_some, on_some, on_none, tg_wI, tg_wJ, tg_wR, ln_wI, ln_wJ, ln_wR, tg_cpI, ln_cpI, tg_cpR, ln_cpR, nx_wI, nx_wJ, nx_wR, sl_wI, sl_wJ, sl_wR, nx_cpI, sl_cpI, nx_cpR, sl_cpR, nx_nw, sl_nw, rJ_wI, rR_wI, rI_wJ, rR_wJ, rI_wR, rJ_wR, rJ_cpI, rR_cpI, rJ_cpR, rI_cpR, rI_wI, rJ_wJ, rq_wI, rq_wJ, rq_wR, rq_cpI, ↓reduceIte, Nat.reduceEqDiff, Nat.reduceAdd, Nat.reduceSub, Nat.reduceMul, Int.reduceAdd, Int.reduceSub, Int.reduceMul, Int.reduceNeg, Int.reduceLT, Int.reduceLE, Int.reduceEq, Int.reduceToNat, Int.sub_zero, Int.add_zero, Int.zero_add, true_and, and_true, false_and, and_false, or_true, true_or, or_false, false_or, not_true_eq_false, not_false_eq_true, eq_self, decide_true, decide_false, Bool.not_false, Bool.not_true, Bool.and_true, Bool.true_and, Bool.or_true, Bool.true_or, Bool.and_self, Bool.or_false, Bool.false_or, Bool.and_false, Bool.false_and, Int.toNat_natCast, k1, l1]
      rw [if_pos c, show (la : Int) + 1 = ((la + 1 : Nat) : Int) by omega]
      exact a2
    · refine ⟨la, hl, ?_, hlo, by omega⟩
      rw [E_X2_parts_24]
      simp (disch := omega) only [I3_of, I6_of, I3_nat, I3_add, I3_sub, I3_mul, I3_neg, I6_add, I6_sub, I6_mul, I6_neg, I3_lt, I3_le, I3_eq, I6_lt, I6_le, I6_eq, I3_cl, I3_64, I6_32, cmp_pos', cmp_neg', cmp_eq', inb_I, cond_true, cond_false, aI_ok, aJ_ok, aA_ok, aV_ok', aI_thr, aJ_thr, aA_thr, aV_thr, ob_some, on_some, on_none, tg_wI, tg_wJ, tg_wR, ln_wI, ln_wJ, ln_wR, tg_cpI, ln_cpI, tg_cpR, ln_cpR, nx_wI, nx_wJ, nx_wR, sl_wI, sl_wJ, sl_wR, nx_cpI, sl_cpI, nx_cpR, sl_cpR, nx_nw, sl_nw, rJ_wI, rR_wI, rI_wJ, rR_wJ, rI_wR, rJ_wR, rJ_cpI, rR_cpI, rJ_cpR, rI_cpR, rI_wI, rJ_wJ, rq_wI, rq_wJ, rq_wR, rq_cpI, ↓reduceIte, Nat.reduceEqDiff, Nat.reduceAdd, Nat.reduceSub, Nat.reduceMul, Int.reduceAdd, Int.reduceSub, Int.reduceMul, Int.reduceNeg, Int.reduceLT, Int.reduceLE, Int.reduceEq, Int.reduceToNat, Int.sub_zero, Int.add_zero, Int.zero_add, true_and, and_true, false_and, and_false, or_true, true_or, or_false, false_or, not_true_eq_false, not_false_eq_true, eq_self, decide_true, decide_false, Bool.not_false, Bool.not_true, Bool.and_true, Bool.true_and, Bool.or_true, Bool.true_or, Bool.and_self, Bool.or_false, Bool.false_or, Bool.and_false, Bool.false_and, Int.toNat_natCast, k1, l1]
      rw [if_neg c]
theorem runs_keep {s τ : St} {n m r : Nat} {A : Nat → Int32} {kv : Int32} {ro fr to : Nat → Nat} (h : ∀ a k, a ≠ 636 → a ≠ 637 → rI τ a k = rI s a k) (hR : Runs s n m A kv r ro fr to) : Runs τ n m A kv r ro fr to := by
  obtain ⟨g1, g2, g3⟩ := hR
  refine ⟨(h 629 10 (by omega) (by omega)).trans g1, fun k hk => ?_, g3⟩
  obtain ⟨k1, k2, k3, k4⟩ := g2 k hk
  exact ⟨(h 633 k (by omega) (by omega)).trans k1, (h 634 k (by omega) (by omega)).trans k2, (h 635 k (by omega) (by omega)).trans k3, k4⟩
theorem k_loop (d : Nat) {s0 : St} {n m r rc : Nat} {A : Nat → Int32} {kv bc : Int32} {ro fr to : Nat → Nat} (n1 : n ≤ 64) (m1 : m ≤ 64) (r1 : r ≤ 4096) (hR : Runs s0 n m A kv r ro fr to) (hrc : (rc = 0 ∧ kv = I3 1) ∨ (rc = 1 ∧ kv = I3 0)) :
    ∀ (t k la : Nat) (s : St) (ρ : Nat → Nat), r - k ≤ t → k ≤ r → la ≤ k → (∀ i, i < la → i < r ∧ (k < r → ro i + 1 < ro k)) → UInv s0 s n m A kv r ro fr to ρ (fun a b => a < b ∧ b < r ∧ b < k ∧ Tou rc ro fr to a b) →
    ∃ τ ρ', DD L (d + 2) 143 15 [.ref 629, .int bc, .int (I3 rc), .int (I3 la), .int (I3 k)] s = DD L (d + 2) 143 132 [.ref 629, .int bc, .int (I3 0), .int (I3 0)] τ ∧ UInv s0 τ n m A kv r ro fr to ρ' (fun a b => a < b ∧ b < r ∧ Tou rc ro fr to a b) := by
  intro t
  induction t with
  | zero =>
    intro k la s ρ ht hk hla hlo hU
    obtain ⟨u1, u2, u3, u4, u5, u7, u8, u9⟩ := hU
    have q : rI s 629 10 = I3 r := (u4 629 10 (by omega) (by omega)).trans hR.1
    refine ⟨s, ρ, ?_, u1, u2, u3, u4, u5, u7, u8, fun a b h => u9 a b ⟨h.1, h.2.1, by omega, h.2.2⟩⟩
    rw [E_X2_parts_15]
    simp (disch := omega) only [I3_of, I6_of, I3_nat, I3_add, I3_sub, I3_mul, I3_neg, I6_add, I6_sub, I6_mul, I6_neg, I3_lt, I3_le, I3_eq, I6_lt, I6_le, I6_eq, I3_cl, I3_64, I6_32, cmp_pos', cmp_neg', cmp_eq', inb_I, cond_true, cond_false, aI_ok, aJ_ok, aA_ok, aV_ok', aI_thr, aJ_thr, aA_thr, aV_thr, ob_some, on_some, on_none, tg_wI, tg_wJ, tg_wR, ln_wI, ln_wJ, ln_wR, tg_cpI, ln_cpI, tg_cpR, ln_cpR, nx_wI, nx_wJ, nx_wR, sl_wI, sl_wJ, sl_wR, nx_cpI, sl_cpI, nx_cpR, sl_cpR, nx_nw, sl_nw, rJ_wI, rR_wI, rI_wJ, rR_wJ, rI_wR, rJ_wR, rJ_cpI, rR_cpI, rJ_cpR, rI_cpR, rI_wI, rJ_wJ, rq_wI, rq_wJ, rq_wR, rq_cpI, ↓reduceIte, Nat.reduceEqDiff, Nat.reduceAdd, Nat.reduceSub, Nat.reduceMul, Int.reduceAdd, Int.reduceSub, Int.reduceMul, Int.reduceNeg, Int.reduceLT, Int.reduceLE, Int.reduceEq, Int.reduceToNat, Int.sub_zero, Int.add_zero, Int.zero_add, true_and, and_true, false_and, and_false, or_true, true_or, or_false, false_or, not_true_eq_false, not_false_eq_true, eq_self, decide_true, decide_false, Bool.not_false, Bool.not_true, Bool.and_true, Bool.true_and, Bool.or_true, Bool.true_or, Bool.and_self, Bool.or_false, Bool.false_or, Bool.and_false, Bool.false_and, q]
    rw [if_neg (by omega)]
  | succ t ih =>
    intro k la s ρ ht hk hla hlo hU
    have hU0 := hU
    obtain ⟨u1, u2, u3, u4, u5, u7, u8, u9⟩ := hU
    have q : rI s 629 10 = I3 r := (u4 629 10 (by omega) (by omega)).trans hR.1
    by_cases c : k < r
    · have hRs := runs_keep u4 hR
      obtain ⟨la', a1, a2, a3, a4⟩ := last_loop (L := L) (d + 2) (rc := rc) (bc := bc) m1 r1 hRs c _ la (Nat.le_refl _) hla (fun i hi => (hlo i hi).2 c)
      obtain ⟨-, -, g3⟩ := id hR
      obtain ⟨s1, ρ1, b1, b2⟩ := l_loop (L := L) d (bc := bc) n1 m1 r1 hR c hrc _ la' s ρ (Nat.le_refl _) a1 (Nat.le_refl _) (fun i hi => by have := a3 i hi; omega) (fun i hi hir => by
        by_cases z : i = la'
        · rw [z]; exact a4
        · have := g3 la' i (by omega) hir
          omega) (by
        refine ⟨u1, u2, u3, u4, u5, u7, u8, fun a b h => ?_⟩
        by_cases z : b < k
        · exact u9 a b ⟨h.1, h.2.1, z, h.2.2.2⟩
        · have e : b = k := by omega
          subst e
          have h1 := h.2.2.2.1
          have := a3 a (by omega)
          omega)
      obtain ⟨τ, ρ', c1, c2⟩ := ih (k + 1) la' s1 ρ1 (by omega) (by omega) (by omega) (fun i hi => ⟨by omega, fun hk1 => by
        have e1 := a3 i hi
        have := g3 k (k + 1) (by omega) hk1
        omega⟩) b2
      refine ⟨τ, ρ', ?_, c2⟩
      rw [E_X2_parts_15]
      simp (disch := omega) only [I3_of, I6_of, I3_nat, I3_add, I3_sub, I3_mul, I3_neg, I6_add, I6_sub, I6_mul, I6_neg, I3_lt, I3_le, I3_eq, I6_lt, I6_le, I6_eq, I3_cl, I3_64, I6_32, cmp_pos', cmp_neg', cmp_eq', inb_I, cond_true, cond_false, aI_ok, aJ_ok, aA_ok, aV_ok', aI_thr, aJ_thr, aA_thr, aV_thr, ob_some, on_some, on_none, tg_wI, tg_wJ, tg_wR, ln_wI, ln_wJ, ln_wR, tg_cpI, ln_cpI, tg_cpR, ln_cpR, nx_wI, nx_wJ, nx_wR, sl_wI, sl_wJ, sl_wR, nx_cpI, sl_cpI, nx_cpR, sl_cpR, nx_nw, sl_nw, rJ_wI, rR_wI, rI_wJ, rR_wJ, rI_wR, rJ_wR, rJ_cpI, rR_cpI, rJ_cpR, rI_cpR, rI_wI, rJ_wJ, rq_wI, rq_wJ, rq_wR, rq_cpI, ↓reduceIte, Nat.reduceEqDiff, Nat.reduceAdd, Nat.reduceSub, Nat.reduceMul, Int.reduceAdd, Int.reduceSub, Int.reduceMul, Int.reduceNeg, Int.reduceLT, Int.reduceLE, Int.reduceEq, Int.reduceToNat, Int.sub_zero, Int.add_zero, Int.zero_add, true_and, and_true, false_and, and_false, or_true, true_or, or_false, false_or, not_true_eq_false, not_false_eq_true, eq_self, decide_true, decide_false, Bool.not_false, Bool.not_true, Bool.and_true, Bool.true_and, Bool.or_true, Bool.true_or, Bool.and_self, Bool.or_false, Bool.false_or, Bool.and_false, Bool.false_and, q]
      rw [if_pos (by omega)]
      exact a2.trans (b1.trans c1)
    · refine ⟨s, ρ, ?_, u1, u2, u3, u4, u5, u7, u8, fun a b h => u9 a b ⟨h.1, h.2.1, by omega, h.2.2⟩⟩
      rw [E_X2_parts_15]
      simp (disch := omega) only [I3_of, I6_of, I3_nat, I3_add, I3_sub, I3_mul, I3_neg, I6_add, I6_sub, I6_mul, I6_neg, I3_lt, I3_le, I3_eq, I6_lt, I6_le, I6_eq, I3_cl, I3_64, I6_32, cmp_pos', cmp_neg', cmp_eq', inb_I, cond_true, cond_false, aI_ok, aJ_ok, aA_ok, aV_ok', aI_thr, aJ_thr, aA_thr, aV_thr, ob_some, on_some, on_none, tg_wI, tg_wJ, tg_wR, ln_wI, ln_wJ, ln_wR, tg_cpI, ln_cpI, tg_cpR, ln_cpR, nx_wI, nx_wJ, nx_wR, sl_wI, sl_wJ, sl_wR, nx_cpI, sl_cpI, nx_cpR, sl_cpR, nx_nw, sl_nw, rJ_wI, rR_wI, rI_wJ, rR_wJ, rI_wR, rJ_wR, rJ_cpI, rR_cpI, rJ_cpR, rI_cpR, rI_wI, rJ_wJ, rq_wI, rq_wJ, rq_wR, rq_cpI, ↓reduceIte, Nat.reduceEqDiff, Nat.reduceAdd, Nat.reduceSub, Nat.reduceMul, Int.reduceAdd, Int.reduceSub, Int.reduceMul, Int.reduceNeg, Int.reduceLT, Int.reduceLE, Int.reduceEq, Int.reduceToNat, Int.sub_zero, Int.add_zero, Int.zero_add, true_and, and_true, false_and, and_false, or_true, true_or, or_false, false_or, not_true_eq_false, not_false_eq_true, eq_self, decide_true, decide_false, Bool.not_false, Bool.not_true, Bool.and_true, Bool.true_and, Bool.or_true, Bool.true_or, Bool.and_self, Bool.or_false, Bool.false_or, Bool.and_false, Bool.false_and, q]
      rw [if_neg (by omega)]
def Cp (bc : Int32) (n m r : Nat) (ro fr to ρ : Nat → Nat) (k : Nat) : Prop := ρ k = k ∧ (bc = I3 0 ∨ ¬ ∃ l, l < r ∧ ρ l = k ∧ opn n m ro fr to l)
/-- how many tops -/
theorem c_loop (d : Nat) {s0 : St} {n m r : Nat} {A : Nat → Int32} {kv bc : Int32} {ro fr to ρ : Nat → Nat} {P : Nat → Nat → Prop} (r1 : r ≤ 4096) (hr : rI s0 629 10 = I3 r) (hbc : bc = I3 0 ∨ bc = I3 1) :
    ∀ (t k : Nat) (s : St), r - k ≤ t → k ≤ r → UInv s0 s n m A kv r ro fr to ρ P →
    ∃ τ, DD L (d + 1) 143 132 [.ref 629, .int bc, .int (I3 (cnt (Cp bc n m r ro fr to ρ) k)), .int (I3 k)] s = ok (some (.int (I3 (cnt (Cp bc n m r ro fr to ρ) r)))) τ ∧ UInv s0 τ n m A kv r ro fr to ρ P := by
  intro t
  induction t with
  | zero =>
    intro k s ht hk hU
    have q : rI s 629 10 = I3 r := (hU.2.2.2.1 629 10 (by omega) (by omega)).trans hr
    refine ⟨s, ?_, hU⟩
    rw [E_X2_parts_132]
    simp (disch := omega) only [I3_of, I6_of, I3_nat, I3_add, I3_sub, I3_mul, I3_neg, I6_add, I6_sub, I6_mul, I6_neg, I3_lt, I3_le, I3_eq, I6_lt, I6_le, I6_eq, I3_cl, I3_64, I6_32, cmp_pos', cmp_neg', cmp_eq', inb_I, cond_true, cond_false, aI_ok, aJ_ok, aA_ok, aV_ok', aI_thr, aJ_thr, aA_thr, aV_thr, ob_some, on_some, on_none, tg_wI, tg_wJ, tg_wR, ln_wI, ln_wJ, ln_wR, tg_cpI, ln_cpI, tg_cpR, ln_cpR, nx_wI, nx_wJ, nx_wR, sl_wI, sl_wJ, sl_wR, nx_cpI, sl_cpI, nx_cpR, sl_cpR, nx_nw, sl_nw, rJ_wI, rR_wI, rI_wJ, rR_wJ, rI_wR, rJ_wR, rJ_cpI, rR_cpI, rJ_cpR, rI_cpR, rI_wI, rJ_wJ, rq_wI, rq_wJ, rq_wR, rq_cpI, ↓reduceIte, Nat.reduceEqDiff, Nat.reduceAdd, Nat.reduceSub, Nat.reduceMul, Int.reduceAdd, Int.reduceSub, Int.reduceMul, Int.reduceNeg, Int.reduceLT, Int.reduceLE, Int.reduceEq, Int.reduceToNat, Int.sub_zero, Int.add_zero, Int.zero_add, true_and, and_true, false_and, and_false, or_true, true_or, or_false, false_or, not_true_eq_false, not_false_eq_true, eq_self, decide_true, decide_false, Bool.not_false, Bool.not_true, Bool.and_true, Bool.true_and, Bool.or_true, Bool.true_or, Bool.and_self, Bool.or_false, Bool.false_or, Bool.and_false, Bool.false_and, q]
    rw [if_neg (by omega), show k = r by omega]
  | succ t ih =>
    intro k s ht hk hU
    have hU0 := hU
    obtain ⟨u1, u2, u3, u4, ⟨B, δ, u5, u6⟩, u7, u8, u9⟩ := hU
    have q : rI s 629 10 = I3 r := (u4 629 10 (by omega) (by omega)).trans hr
    by_cases c : k < r
    · obtain ⟨s1, B1, e1, o1, F1, A1⟩ := top_h (L := L) d r1 c u5 u6
      have O := o1.2.2.2
      have U1 : UInv s0 s1 n m A kv r ro fr to ρ P := ⟨fr_tr u1 o1.1, o1.2.1.trans u2, o1.2.2.1.trans u3, fun a k h h' => (O a k h).trans (u4 a k h h'), ⟨B1, δ, F1, A1⟩, fun k hk h => (O 637 k (by omega)).trans (u7 k hk h), u8, u9⟩
      obtain ⟨τ, r1', r2'⟩ := ih (k + 1) s1 (by omega) (by omega) U1
      refine ⟨τ, ?_, r2'⟩
      have rk := (u5 k c).2.1
      have ek : (k : Int) + 1 = ((k + 1 : Nat) : Int) := by omega
      rw [E_X2_parts_132]
      simp (disch := omega) only [I3_of, I6_of, I3_nat, I3_add, I3_sub, I3_mul, I3_neg, I6_add, I6_sub, I6_mul, I6_neg, I3_lt, I3_le, I3_eq, I6_lt, I6_le, I6_eq, I3_cl, I3_64, I6_32, cmp_pos', cmp_neg', cmp_eq', inb_I, cond_true, cond_false, aI_ok, aJ_ok, aA_ok, aV_ok', aI_thr, aJ_thr, aA_thr, aV_thr, ob_some, on_some, on_none, tg_wI, tg_wJ, tg_wR, ln_wI, ln_wJ, ln_wR, tg_cpI, ln_cpI, tg_cpR, ln_cpR, nx_wI, nx_wJ, nx_wR, sl_wI, sl_wJ, sl_wR, nx_cpI, sl_cpI, nx_cpR, sl_cpR, nx_nw, sl_nw, rJ_wI, rR_wI, rI_wJ, rR_wJ, rI_wR, rJ_wR, rJ_cpI, rR_cpI, rJ_cpR, rI_cpR, rI_wI, rJ_wJ, rq_wI, rq_wJ, rq_wR, rq_cpI, ↓reduceIte, Nat.reduceEqDiff, Nat.reduceAdd, Nat.reduceSub, Nat.reduceMul, Int.reduceAdd, Int.reduceSub, Int.reduceMul, Int.reduceNeg, Int.reduceLT, Int.reduceLE, Int.reduceEq, Int.reduceToNat, Int.sub_zero, Int.add_zero, Int.zero_add, true_and, and_true, false_and, and_false, or_true, true_or, or_false, false_or, not_true_eq_false, not_false_eq_true, eq_self, decide_true, decide_false, Bool.not_false, Bool.not_true, Bool.and_true, Bool.true_and, Bool.or_true, Bool.true_or, Bool.and_self, Bool.or_false, Bool.false_or, Bool.and_false, Bool.false_and, q, e1]
      rw [if_pos (by omega)]
      by_cases cr : ρ k = k
      · have op := (O 637 k (by omega)).trans (u7 k c cr)
        rw [if_pos (by omega)]
        rcases hbc with rfl | rfl
        · simp (disch := omega) only [I3_of, I6_of, I3_nat, I3_add, I3_sub, I3_mul, I3_neg, I6_add, I6_sub, I6_mul, I6_neg, I3_lt, I3_le, I3_eq, I6_lt, I6_le, I6_eq, I3_cl, I3_64, I6_32, cmp_pos', cmp_neg', cmp_eq', inb_I, cond_true, cond_false, aI_ok, aJ_ok, aA_ok, aV_ok', aI_thr, aJ_thr, aA_thr, aV_thr, ob_some, on_some, on_none, tg_wI, tg_wJ, tg_wR, ln_wI, ln_wJ, ln_wR, tg_cpI, ln_cpI, tg_cpR, ln_cpR, nx_wI, nx_wJ, nx_wR, sl_wI, sl_wJ, sl_wR, nx_cpI, sl_cpI, nx_cpR, sl_cpR, nx_nw, sl_nw, rJ_wI, rR_wI, rI_wJ, rR_wJ, rI_wR, rJ_wR, rJ_cpI, rR_cpI, rJ_cpR, rI_cpR, rI_wI, rJ_wJ, rq_wI, rq_wJ, rq_wR, rq_cpI, ↓reduceIte, Nat.reduceEqDiff, Nat.reduceAdd, Nat.reduceSub, Nat.reduceMul, Int.reduceAdd, Int.reduceSub, Int.reduceMul, Int.reduceNeg, Int.reduceLT, Int.reduceLE, Int.reduceEq, Int.reduceToNat, Int.sub_zero, Int.add_zero, Int.zero_add, true_and, and_true, false_and, and_false, or_true, true_or, or_false, false_or, not_true_eq_false, not_false_eq_true, eq_self, decide_true, decide_false, Bool.not_false, Bool.not_true, Bool.and_true, Bool.true_and, Bool.or_true, Bool.true_or, Bool.and_self, Bool.or_false, Bool.false_or, Bool.and_false, Bool.false_and]
          rw [ek, ← cnt_pos (P := Cp (I3 0) n m r ro fr to ρ) ⟨cr, Or.inl rfl⟩]
          exact r1'
        · simp (disch := omega) only [I3_of, I6_of, I3_nat, I3_add, I3_sub, I3_mul, I3_neg, I6_add, I6_sub, I6_mul, I6_neg, I3_lt, I3_le, I3_eq, I6_lt, I6_le, I6_eq, I3_cl, I3_64, I6_32, cmp_pos', cmp_neg', cmp_eq', inb_I, cond_true, cond_false, aI_ok, aJ_ok, aA_ok, aV_ok', aI_thr, aJ_thr, aA_thr, aV_thr, ob_some, on_some, on_none, tg_wI, tg_wJ, tg_wR, ln_wI, ln_wJ, ln_wR, tg_cpI, ln_cpI, tg_cpR, ln_cpR, nx_wI, nx_wJ, nx_wR, sl_wI, sl_wJ, sl_wR, nx_cpI, sl_cpI, nx_cpR, sl_cpR, nx_nw, sl_nw, rJ_wI, rR_wI, rI_wJ, rR_wJ, rI_wR, rJ_wR, rJ_cpI, rR_cpI, rJ_cpR, rI_cpR, rI_wI, rJ_wJ, rq_wI, rq_wJ, rq_wR, rq_cpI, ↓reduceIte, Nat.reduceEqDiff, Nat.reduceAdd, Nat.reduceSub, Nat.reduceMul, Int.reduceAdd, Int.reduceSub, Int.reduceMul, Int.reduceNeg, Int.reduceLT, Int.reduceLE, Int.reduceEq, Int.reduceToNat, Int.sub_zero, Int.add_zero, Int.zero_add, true_and, and_true, false_and, and_false, or_true, true_or, or_false, false_or, not_true_eq_false, not_false_eq_true, eq_self, decide_true, decide_false, Bool.not_false, Bool.not_true, Bool.and_true, Bool.true_and, Bool.or_true, Bool.true_or, Bool.and_self, Bool.or_false, Bool.false_or, Bool.and_false, Bool.false_and, i3_10, Int.toNat_natCast, op]
          by_cases w : ∃ l, l < r ∧ ρ l = k ∧ opn n m ro fr to l
          · rw [bi_pos w, if_neg (by decide), ek, ← cnt_neg (P := Cp (I3 1) n m r ro fr to ρ) (fun z => z.2.elim (fun h => absurd h (by decide)) (fun h => h w))]
            exact r1'
          · rw [bi_neg w, if_pos rfl, ek, ← cnt_pos (P := Cp (I3 1) n m r ro fr to ρ) ⟨cr, Or.inr w⟩]
            exact r1'
      · rw [if_neg (by omega), ek, ← cnt_neg (P := Cp bc n m r ro fr to ρ) (fun z => cr z.1)]
        exact r1'
    · refine ⟨s, ?_, hU0⟩
      rw [E_X2_parts_132]
      simp (disch := omega) only [I3_of, I6_of, I3_nat, I3_add, I3_sub, I3_mul, I3_neg, I6_add, I6_sub, I6_mul, I6_neg, I3_lt, I3_le, I3_eq, I6_lt, I6_le, I6_eq, I3_cl, I3_64, I6_32, cmp_pos', cmp_neg', cmp_eq', inb_I, cond_true, cond_false, aI_ok, aJ_ok, aA_ok, aV_ok', aI_thr, aJ_thr, aA_thr, aV_thr, ob_some, on_some, on_none, tg_wI, tg_wJ, tg_wR, ln_wI, ln_wJ, ln_wR, tg_cpI, ln_cpI, tg_cpR, ln_cpR, nx_wI, nx_wJ, nx_wR, sl_wI, sl_wJ, sl_wR, nx_cpI, sl_cpI, nx_cpR, sl_cpR, nx_nw, sl_nw, rJ_wI, rR_wI, rI_wJ, rR_wJ, rI_wR, rJ_wR, rJ_cpI, rR_cpI, rJ_cpR, rI_cpR, rI_wI, rJ_wJ, rq_wI, rq_wJ, rq_wR, rq_cpI, ↓reduceIte, Nat.reduceEqDiff, Nat.reduceAdd, Nat.reduceSub, Nat.reduceMul, Int.reduceAdd, Int.reduceSub, Int.reduceMul, Int.reduceNeg, Int.reduceLT, Int.reduceLE, Int.reduceEq, Int.reduceToNat, Int.sub_zero, Int.add_zero, Int.zero_add, true_and, and_true, false_and, and_false, or_true, true_or, or_false, false_or, not_true_eq_false, not_false_eq_true, eq_self, decide_true, decide_false, Bool.not_false, Bool.not_true, Bool.and_true, Bool.true_and, Bool.or_true, Bool.true_or, Bool.and_self, Bool.or_false, Bool.false_or, Bool.and_false, Bool.false_and, q]
      rw [if_neg (by omega), show k = r by omega]
end PARTS
