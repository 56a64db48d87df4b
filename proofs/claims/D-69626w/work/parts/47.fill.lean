/-! ===== filled cells ===== -/
section FILL
variable {L : Nat}
def cellIn (A : Nat → Int32) (n m : Nat) (i j : Int) : Prop := 0 ≤ i ∧ i < n ∧ 0 ≤ j ∧ j < m ∧ A (64 * j + i).toNat = I3 1
/-- all cells around one are in -/
def W2 (A : Nat → Int32) (n m : Nat) (sh : Int) (p q : Int) : Prop := ∀ dx dy : Int, -sh ≤ dx → dx ≤ sh → -sh ≤ dy → dy ≤ sh → cellIn A n m (p + dx) (q + dy)
def W1 (A : Nat → Int32) (n m : Nat) (sh : Int) (p q : Int) : Prop := ∀ dx : Int, -sh ≤ dx → dx ≤ sh → cellIn A n m (p + dx) q
/-- so many in a row are so, up to i -/
def SP (Q : Int → Prop) (c i : Int) : Prop := 0 ≤ c ∧ c ≤ i ∧ (∀ x, i - c ≤ x → x < i → Q x) ∧ (c < i → ¬ Q (i - c - 1))
theorem sp_yes {Q : Int → Prop} {c i : Int} (h : SP Q c i) (hq : Q i) : SP Q (c + 1) (i + 1) := by
  obtain ⟨h1, h2, h3, h4⟩ := h
  refine ⟨by omega, by omega, fun x x1 x2 => ?_, fun hc => ?_⟩
  · by_cases e : x = i
    · rw [e]; exact hq
    · exact h3 x (by omega) (by omega)
  · rw [show i + 1 - (c + 1) - 1 = i - c - 1 by omega]; exact h4 (by omega)
theorem sp_no {Q : Int → Prop} {c i : Int} (h : SP Q c i) (hq : ¬ Q i) : SP Q 0 (i + 1) := by
  obtain ⟨h1, h2, h3, h4⟩ := h
  refine ⟨by omega, by omega, fun x x1 x2 => by omega, fun _ => ?_⟩
  rw [show i + 1 - 0 - 1 = i by omega]; exact hq
theorem sp_win {Q : Int → Prop} {c i sh : Int} (h0 : ∀ x, Q x → 0 ≤ x) (hs : 0 ≤ sh) (h : SP Q c (i + 1)) : 2 * sh < c ↔ ∀ dx, -sh ≤ dx → dx ≤ sh → Q (i - sh + dx) := by
  obtain ⟨h1, h2, h3, h4⟩ := h
  constructor
  · intro hc dx d1 d2
    exact h3 _ (by omega) (by omega)
  · intro hw
    rcases (by omega : (2 * sh) < c ∨ c ≤ (2 * sh)) with g | g
    · exact g
    · exfalso
      by_cases e : c < i + 1
      · refine h4 e ?_
        have := hw (sh - c) (by omega) (by omega)
        rw [show i - sh + (sh - c) = i + 1 - c - 1 by omega] at this
        exact this
      · have := h0 _ (hw (-sh) (by omega) (by omega))
        omega
/-- the first pass over a row -/
theorem half_row (d : Nat) {s0 : St} {n m j : Nat} {sh : Int} (hn : rI s0 629 0 = I3 n) (n1 : n ≤ 64) (m1 : m ≤ 64) (hj : j < m) (s1 : 0 ≤ sh) (s2 : sh ≤ 5) (hA : ∀ i, i < n → rI s0 630 (64 * j + i) = I3 0 ∨ rI s0 630 (64 * j + i) = I3 1) :
    ∀ (t : Nat) (i c : Int) (s : St), n + sh - i ≤ t → 0 ≤ i → i ≤ n + sh → SP (fun x => cellIn (rI s0 630) n m x j) c i → Fr [6] s0 s → nx s = nx s0 → sl s = sl s0 → (∀ a k, a ≠ 632 → rI s a k = rI s0 a k) →
    ∃ τ, DD L d 146 20 [.ref 629, .int (I3 sh), .int (I3 j), .int (I3 c), .int (I3 i)] s = DD L d 146 7 [.ref 629, .int (I3 sh), .int (I3 ((j : Int) + 1))] τ ∧ Fr [6] s0 τ ∧ nx τ = nx s0 ∧ sl τ = sl s0 ∧ (∀ a k, a ≠ 632 → rI τ a k = rI s0 a k) ∧
      (∀ p : Nat, p < n → i ≤ p + sh → rI τ 632 (64 * j + p) = bi (W1 (rI s0 630) n m sh p j)) ∧ ∀ x : Nat, (∀ p : Nat, p < n → i ≤ p + sh → x ≠ 64 * j + p) → rI τ 632 x = rI s 632 x := by
  intro t
  induction t with
  | zero =>
    intro i c s ht i0 hi hsp f1 f2 f3 f4
    have en : rI s 629 0 = I3 n := (f4 629 0 (by omega)).trans hn
    refine ⟨s, ?_, f1, f2, f3, f4, fun p hp hip => by omega, fun x _ => rfl⟩
    rw [E_X2_fill_20]
    simp (disch := omega) only [I3_of, I6_of, I3_nat, I3_add, I3_sub, I3_mul, I3_neg, I6_add, I6_sub, I6_mul, I6_neg, I3_lt, I3_le, I3_eq, I6_lt, I6_le, I6_eq, I3_cl, I3_64, I6_32, cmp_pos', cmp_neg', cmp_eq', inb_I, cond_true, cond_false, aI_ok, aJ_ok, aA_ok, aV_ok', aI_thr, aJ_thr, aA_thr, aV_thr, ob_some, on_some, on_none, tg_wI, tg_wJ, tg_wR, ln_wI, ln_wJ, ln_wR, tg_cpI, ln_cpI, tg_cpR, ln_cpR, nx_wI, nx_wJ, nx_wR, sl_wI, sl_wJ, sl_wR, nx_cpI, sl_cpI, nx_cpR, sl_cpR, nx_nw, sl_nw, rJ_wI, rR_wI, rI_wJ, rR_wJ, rI_wR, rJ_wR, rJ_cpI, rR_cpI, rJ_cpR, rI_cpR, rI_wI, rJ_wJ, rq_wI, rq_wJ, rq_wR, rq_cpI, ↓reduceIte, Nat.reduceEqDiff, Nat.reduceAdd, Nat.reduceSub, Nat.reduceMul, Int.reduceAdd, Int.reduceSub, Int.reduceMul, Int.reduceNeg, Int.reduceLT, Int.reduceLE, Int.reduceEq, Int.reduceToNat, Int.sub_zero, Int.add_zero, Int.zero_add, true_and, and_true, false_and, and_false, or_true, true_or, or_false, false_or, not_true_eq_false, not_false_eq_true, eq_self, decide_true, decide_false, Bool.not_false, Bool.not_true, Bool.and_true, Bool.true_and, Bool.or_true, Bool.true_or, Bool.and_self, Bool.or_false, Bool.false_or, Bool.and_false, Bool.false_and, en]
    rw [if_neg (by omega)]
  | succ t ih =>
    intro i c s ht i0 hi hsp f1 f2 f3 f4
    have en : rI s 629 0 = I3 n := (f4 629 0 (by omega)).trans hn
    have e6 : ∀ x, rI s 630 x = rI s0 630 x := fun x => f4 630 x (by omega)
    by_cases ci : i < n + sh
    · -- the count with this cell
      obtain ⟨c', hsp', hgo⟩ : ∃ c', SP (fun x => cellIn (rI s0 630) n m x j) c' (i + 1) ∧ DD L d 146 20 [.ref 629, .int (I3 sh), .int (I3 j), .int (I3 c), .int (I3 i)] s = DD L d 146 62 [.ref 629, .int (I3 sh), .int (I3 j), .int (I3 i), .int (I3 c')] s := by
        have hc2 := hsp.2.1
        have hc1 := hsp.1
        by_cases cn : i < n
        · have et : ((j : Int) * 64 + i).toNat = 64 * j + i.toNat := by omega
          have et2 : (64 * (j : Int) + i).toNat = 64 * j + i.toNat := by omega
          rcases hA i.toNat (by omega) with q | q
          · refine ⟨0, sp_no hsp (fun h => ?_), ?_⟩
            · have := h.2.2.2.2
              rw [et2, q] at this
              exact absurd this (by decide)
            · rw [E_X2_fill_20]
              simp (disch := omega) only [I3_of, I6_of, I3_nat, I3_add, I3_sub, I3_mul, I3_neg, I6_add, I6_sub, I6_mul, I6_neg, I3_lt, I3_le, I3_eq, I6_lt, I6_le, I6_eq, I3_cl, I3_64, I6_32, cmp_pos', cmp_neg', cmp_eq', inb_I, cond_true, cond_false, aI_ok, aJ_ok, aA_ok, aV_ok', aI_thr, aJ_thr, aA_thr, aV_thr, ob_some, on_some, on_none, tg_wI, tg_wJ, tg_wR, ln_wI, ln_wJ, ln_wR, tg_cpI, ln_cpI, tg_cpR, ln_cpR, nx_wI, nx_wJ, nx_wR, sl_wI, sl_wJ, sl_wR, nx_cpI, sl_cpI, nx_cpR, sl_cpR, nx_nw, sl_nw, rJ_wI, rR_wI, rI_wJ, rR_wJ, rI_wR, rJ_wR, rJ_cpI, rR_cpI, rJ_cpR, rI_cpR, rI_wI, rJ_wJ, rq_wI, rq_wJ, rq_wR, rq_cpI, ↓reduceIte, Nat.reduceEqDiff, Nat.reduceAdd, Nat.reduceSub, Nat.reduceMul, Int.reduceAdd, Int.reduceSub, Int.reduceMul, Int.reduceNeg, Int.reduceLT, Int.reduceLE, Int.reduceEq, Int.reduceToNat, Int.sub_zero, Int.add_zero, Int.zero_add, true_and, and_true, false_and, and_false, or_true, true_or, or_false, false_or, not_true_eq_false, not_false_eq_true, eq_self, decide_true, decide_false, Bool.not_false, Bool.not_true, Bool.and_true, Bool.true_and, Bool.or_true, Bool.true_or, Bool.and_self, Bool.or_false, Bool.false_or, Bool.and_false, Bool.false_and, en, et, e6, q, E_X2_fill_61]
              rw [if_pos (by omega), if_pos (by omega)]
          · refine ⟨c + 1, sp_yes hsp ⟨by omega, by omega, by omega, by omega, by rw [et2]; exact q⟩, ?_⟩
            rw [E_X2_fill_20]
            simp (disch := omega) only [I3_of, I6_of, I3_nat, I3_add, I3_sub, I3_mul, I3_neg, I6_add, I6_sub, I6_mul, I6_neg, I3_lt, I3_le, I3_eq, I6_lt, I6_le, I6_eq, I3_cl, I3_64, I6_32, cmp_pos', cmp_neg', cmp_eq', inb_I, cond_true, cond_false, aI_ok, aJ_ok, aA_ok, aV_ok', aI_thr, aJ_thr, aA_thr, aV_thr, ob_some, on_some, on_none, tg_wI, tg_wJ, tg_wR, ln_wI, ln_wJ, ln_wR, tg_cpI, ln_cpI, tg_cpR, ln_cpR, nx_wI, nx_wJ, nx_wR, sl_wI, sl_wJ, sl_wR, nx_cpI, sl_cpI, nx_cpR, sl_cpR, nx_nw, sl_nw, rJ_wI, rR_wI, rI_wJ, rR_wJ, rI_wR, rJ_wR, rJ_cpI, rR_cpI, rJ_cpR, rI_cpR, rI_wI, rJ_wJ, rq_wI, rq_wJ, rq_wR, rq_cpI, ↓reduceIte, Nat.reduceEqDiff, Nat.reduceAdd, Nat.reduceSub, Nat.reduceMul, Int.reduceAdd, Int.reduceSub, Int.reduceMul, Int.reduceNeg, Int.reduceLT, Int.reduceLE, Int.reduceEq, Int.reduceToNat, Int.sub_zero, Int.add_zero, Int.zero_add, true_and, and_true, false_and, and_false, or_true, true_or, or_false, false_or, not_true_eq_false, not_false_eq_true, eq_self, decide_true, decide_false, Bool.not_false, Bool.not_true, Bool.and_true, Bool.true_and, Bool.or_true, Bool.true_or, Bool.and_self, Bool.or_false, Bool.false_or, Bool.and_false, Bool.false_and, en, et, e6, q, i3_10]
            rw [if_pos (by omega), if_pos (by omega)]
        · refine ⟨0, sp_no hsp (fun h => by have := h.2.1; omega), ?_⟩
          rw [E_X2_fill_20]
          simp (disch := omega) only [I3_of, I6_of, I3_nat, I3_add, I3_sub, I3_mul, I3_neg, I6_add, I6_sub, I6_mul, I6_neg, I3_lt, I3_le, I3_eq, I6_lt, I6_le, I6_eq, I3_cl, I3_64, I6_32, cmp_pos', cmp_neg', cmp_eq', inb_I, cond_true, cond_false, aI_ok, aJ_ok, aA_ok, aV_ok', aI_thr, aJ_thr, aA_thr, aV_thr, ob_some, on_some, on_none, tg_wI, tg_wJ, tg_wR, ln_wI, ln_wJ, ln_wR, tg_cpI, ln_cpI, tg_cpR, ln_cpR, nx_wI, nx_wJ, nx_wR, sl_wI, sl_wJ, sl_wR, nx_cpI, sl_cpI, nx_cpR, sl_cpR, nx_nw, sl_nw, rJ_wI, rR_wI, rI_wJ, rR_wJ, rI_wR, rJ_wR, rJ_cpI, rR_cpI, rJ_cpR, rI_cpR, rI_wI, rJ_wJ, rq_wI, rq_wJ, rq_wR, rq_cpI, ↓reduceIte, Nat.reduceEqDiff, Nat.reduceAdd, Nat.reduceSub, Nat.reduceMul, Int.reduceAdd, Int.reduceSub, Int.reduceMul, Int.reduceNeg, Int.reduceLT, Int.reduceLE, Int.reduceEq, Int.reduceToNat, Int.sub_zero, Int.add_zero, Int.zero_add, true_and, and_true, false_and, and_false, or_true, true_or, or_false, false_or, not_true_eq_false, not_false_eq_true, eq_self, decide_true, decide_false, Bool.not_false, Bool.not_true, Bool.and_true, Bool.true_and, Bool.or_true, Bool.true_or, Bool.and_self, Bool.or_false, Bool.false_or, Bool.and_false, Bool.false_and, en, E_X2_fill_61]
          rw [if_pos (by omega), if_neg (by omega)]
      have hc2 := hsp'.2.1
      have hc1 := hsp'.1
      rw [hgo, E_X2_fill_62]
      simp (disch := omega) only [I3_of, I6_of, I3_nat, I3_add, I3_sub, I3_mul, I3_neg, I6_add, I6_sub, I6_mul, I6_neg, I3_lt, I3_le, I3_eq, I6_lt, I6_le, I6_eq, I3_cl, I3_64, I6_32, cmp_pos', cmp_neg', cmp_eq', inb_I, cond_true, cond_false, aI_ok, aJ_ok, aA_ok, aV_ok', aI_thr, aJ_thr, aA_thr, aV_thr, ob_some, on_some, on_none, tg_wI, tg_wJ, tg_wR, ln_wI, ln_wJ, ln_wR, tg_cpI, ln_cpI, tg_cpR, ln_cpR, nx_wI, nx_wJ, nx_wR, sl_wI, sl_wJ, sl_wR, nx_cpI, sl_cpI, nx_cpR, sl_cpR, nx_nw, sl_nw, rJ_wI, rR_wI, rI_wJ, rR_wJ, rI_wR, rJ_wR, rJ_cpI, rR_cpI, rJ_cpR, rI_cpR, rI_wI, rJ_wJ, rq_wI, rq_wJ, rq_wR, rq_cpI, ↓reduceIte, Nat.reduceEqDiff, Nat.reduceAdd, Nat.reduceSub, Nat.reduceMul, Int.reduceAdd, Int.reduceSub, Int.reduceMul, Int.reduceNeg, Int.reduceLT, Int.reduceLE, Int.reduceEq, Int.reduceToNat, Int.sub_zero, Int.add_zero, Int.zero_add, true_and, and_true, false_and, and_false, or_true, true_or, or_false, false_or, not_true_eq_false, not_false_eq_true, eq_self, decide_true, decide_false, Bool.not_false, Bool.not_true, Bool.and_true, Bool.true_and, Bool.or_true, Bool.true_or, Bool.and_self, Bool.or_false, Bool.false_or, Bool.and_false, Bool.false_and]
      by_cases cs : i < sh
      · rw [if_pos cs]
        obtain ⟨τ, r1, r2, r3, r4, r5, r6, r7⟩ := ih (i + 1) c' s (by omega) (by omega) (by omega) hsp' f1 f2 f3 f4
        refine ⟨τ, r1, r2, r3, r4, r5, fun p hp hip => r6 p hp (by omega), fun x hx => r7 x (fun p hp hip => hx p hp (by omega))⟩
      · rw [if_neg cs]
        have et : ((j : Int) * 64 + i - sh).toNat = 64 * j + (i - sh).toNat := by omega
        have hw : 2 * sh < c' ↔ W1 (rI s0 630) n m sh (((i - sh).toNat : Nat) : Int) j := by
          rw [show (((i - sh).toNat : Nat) : Int) = i - sh by omega]
          exact sp_win (fun x h => h.1) s1 hsp'
        have go2 : (if 2 * sh < c' then DD L d 146 20 [.ref 629, .int (I3 sh), .int (I3 j), .int (I3 c'), .int (I3 (i + 1))] (wI s 632 ((j : Int) * 64 + i - sh).toNat (I3 1)) else DD L d 146 20 [.ref 629, .int (I3 sh), .int (I3 j), .int (I3 c'), .int (I3 (i + 1))] (wI s 632 ((j : Int) * 64 + i - sh).toNat (I3 0))) = DD L d 146 20 [.ref 629, .int (I3 sh), .int (I3 j), .int (I3 c'), .int (I3 (i + 1))] (wI s 632 (64 * j + (i - sh).toNat) (bi (W1 (rI s0 630) n m sh (((i - sh).toNat : Nat) : Int) j))) := by
          rw [et]
          by_cases g : 2 * sh < c'
          · rw [if_pos g, bi_pos (hw.mp g)]
          · rw [if_neg g, bi_neg (fun q => g (hw.mpr q))]
        rw [go2]
        obtain ⟨τ, r1, r2, r3, r4, r5, r6, r7⟩ := ih (i + 1) c' (wI s 632 (64 * j + (i - sh).toNat) (bi (W1 (rI s0 630) n m sh (((i - sh).toNat : Nat) : Int) j))) (by omega) (by omega) (by omega) hsp' (fr_wI' f1 rfl) f2 f3 (fun a k h => (rI_wIn h).trans (f4 a k h))
        refine ⟨τ, r1, r2, r3, r4, r5, fun p hp hip => ?_, fun x hx => ?_⟩
        · by_cases e : p = (i - sh).toNat
          · rw [r7 _ (fun q hq hiq => by omega), rI_wI', if_pos (by omega), e]
          · exact r6 p hp (by omega)
        · rw [r7 x (fun p hp hip => hx p hp (by omega)), rI_wI', if_neg (hx _ (by omega) (by omega))]
    · refine ⟨s, ?_, f1, f2, f3, f4, fun p hp hip => by omega, fun x _ => rfl⟩
      rw [E_X2_fill_20]
      simp (disch := omega) only [I3_of, I6_of, I3_nat, I3_add, I3_sub, I3_mul, I3_neg, I6_add, I6_sub, I6_mul, I6_neg, I3_lt, I3_le, I3_eq, I6_lt, I6_le, I6_eq, I3_cl, I3_64, I6_32, cmp_pos', cmp_neg', cmp_eq', inb_I, cond_true, cond_false, aI_ok, aJ_ok, aA_ok, aV_ok', aI_thr, aJ_thr, aA_thr, aV_thr, ob_some, on_some, on_none, tg_wI, tg_wJ, tg_wR, ln_wI, ln_wJ, ln_wR, tg_cpI, ln_cpI, tg_cpR, ln_cpR, nx_wI, nx_wJ, nx_wR, sl_wI, sl_wJ, sl_wR, nx_cpI, sl_cpI, nx_cpR, sl_cpR, nx_nw, sl_nw, rJ_wI, rR_wI, rI_wJ, rR_wJ, rI_wR, rJ_wR, rJ_cpI, rR_cpI, rJ_cpR, rI_cpR, rI_wI, rJ_wJ, rq_wI, rq_wJ, rq_wR, rq_cpI, ↓reduceIte, Nat.reduceEqDiff, Nat.reduceAdd, Nat.reduceSub, Nat.reduceMul, Int.reduceAdd, Int.reduceSub, Int.reduceMul, Int.reduceNeg, Int.reduceLT, Int.reduceLE, Int.reduceEq, Int.reduceToNat, Int.sub_zero, Int.add_zero, Int.zero_add, true_and, and_true, false_and, and_false, or_true, true_or, or_false, false_or, not_true_eq_false, not_false_eq_true, eq_self, decide_true, decide_false, Bool.not_false, Bool.not_true, Bool.and_true, Bool.true_and, Bool.or_true, Bool.true_or, Bool.and_self, Bool.or_false, Bool.false_or, Bool.and_false, Bool.false_and, en]
      rw [if_neg (by omega)]
theorem sp_0 {Q : Int → Prop} : SP Q 0 0 := ⟨by omega, by omega, fun x x1 x2 => by omega, fun h => by omega⟩
theorem half_all (d : Nat) {s0 : St} {n m : Nat} {sh : Int} (hn : rI s0 629 0 = I3 n) (hm : rI s0 629 1 = I3 m) (n1 : n ≤ 64) (m1 : m ≤ 64) (s1 : 0 ≤ sh) (s2 : sh ≤ 5) (hA : ∀ i j, i < n → j < m → rI s0 630 (64 * j + i) = I3 0 ∨ rI s0 630 (64 * j + i) = I3 1) :
    ∀ (t j : Nat) (s : St), m - j ≤ t → j ≤ m → Fr [6] s0 s → nx s = nx s0 → sl s = sl s0 → (∀ a k, a ≠ 632 → rI s a k = rI s0 a k) → (∀ p q : Nat, p < n → q < j → rI s 632 (64 * q + p) = bi (W1 (rI s0 630) n m sh p q)) →
    ∃ τ, DD L d 146 7 [.ref 629, .int (I3 sh), .int (I3 j)] s = DD L d 146 109 [.ref 629, .int (I3 sh), .int (I3 0)] τ ∧ Fr [6] s0 τ ∧ nx τ = nx s0 ∧ sl τ = sl s0 ∧ (∀ a k, a ≠ 632 → rI τ a k = rI s0 a k) ∧ (∀ p q : Nat, p < n → q < m → rI τ 632 (64 * q + p) = bi (W1 (rI s0 630) n m sh p q)) := by
  intro t
  induction t with
  | zero =>
    intro j s ht hj f1 f2 f3 f4 hw
    have em : rI s 629 1 = I3 m := (f4 629 1 (by omega)).trans hm
    refine ⟨s, ?_, f1, f2, f3, f4, fun p q hp hq => hw p q hp (by omega)⟩
    rw [E_X2_fill_7]
    simp (disch := omega) only [I3_of, I6_of, I3_nat, I3_add, I3_sub, I3_mul, I3_neg, I6_add, I6_sub, I6_mul, I6_neg, I3_lt, I3_le, I3_eq, I6_lt, I6_le, I6_eq, I3_cl, I3_64, I6_32, cmp_pos', cmp_neg', cmp_eq', inb_I, cond_true, cond_false, aI_ok, aJ_ok, aA_ok, aV_ok', aI_thr, aJ_thr, aA_thr, aV_thr, ob_some, on_some, on_none, tg_wI, tg_wJ, tg_wR, ln_wI, ln_wJ, ln_wR, tg_cpI, ln_cpI, tg_cpR, ln_cpR, nx_wI, nx_wJ, nx_wR, sl_wI, sl_wJ, sl_wR, nx_cpI, sl_cpI, nx_cpR, sl_cpR, nx_nw, sl_nw, rJ_wI, rR_wI, rI_wJ, rR_wJ, rI_wR, rJ_wR, rJ_cpI, rR_cpI, rJ_cpR, rI_cpR, rI_wI, rJ_wJ, rq_wI, rq_wJ, rq_wR, rq_cpI, ↓reduceIte, Nat.reduceEqDiff, Nat.reduceAdd, Nat.reduceSub, Nat.reduceMul, Int.reduceAdd, Int.reduceSub, Int.reduceMul, Int.reduceNeg, Int.reduceLT, Int.reduceLE, Int.reduceEq, Int.reduceToNat, Int.sub_zero, Int.add_zero, Int.zero_add, true_and, and_true, false_and, and_false, or_true, true_or, or_false, false_or, not_true_eq_false, not_false_eq_true, eq_self, decide_true, decide_false, Bool.not_false, Bool.not_true, Bool.and_true, Bool.true_and, Bool.or_true, Bool.true_or, Bool.and_self, Bool.or_false, Bool.false_or, Bool.and_false, Bool.false_and, em]
    rw [if_neg (by omega)]
  | succ t ih =>
    intro j s ht hj f1 f2 f3 f4 hw
    have em : rI s 629 1 = I3 m := (f4 629 1 (by omega)).trans hm
    by_cases cj : j < m
    · have e6 : rI s 630 = rI s0 630 := funext fun x => f4 630 x (by omega)
      obtain ⟨s', r1, r2, r3, r4, r5, r6, r7⟩ := half_row (L := L) d (s0 := s0) hn n1 m1 cj s1 s2 (fun i hi => hA i j hi cj) (n + sh).toNat 0 0 s (by omega) (by omega) (by omega) sp_0 f1 f2 f3 f4
      obtain ⟨τ, u1, u2⟩ := ih (j + 1) s' (by omega) (by omega) r2 r3 r4 r5 (fun p q hp hq => by
        by_cases e : q = j
        · subst e; exact r6 p hp (by omega)
        · rw [r7 _ (fun p' hp' _ => by omega)]; exact hw p q hp (by omega))
      refine ⟨τ, ?_, u2⟩
      rw [E_X2_fill_7]
      simp (disch := omega) only [I3_of, I6_of, I3_nat, I3_add, I3_sub, I3_mul, I3_neg, I6_add, I6_sub, I6_mul, I6_neg, I3_lt, I3_le, I3_eq, I6_lt, I6_le, I6_eq, I3_cl, I3_64, I6_32, cmp_pos', cmp_neg', cmp_eq', inb_I, cond_true, cond_false, aI_ok, aJ_ok, aA_ok, aV_ok', aI_thr, aJ_thr, aA_thr, aV_thr, ob_some, on_some, on_none, tg_wI, tg_wJ, tg_wR, ln_wI, ln_wJ, ln_wR, tg_cpI, ln_cpI, tg_cpR, ln_cpR, nx_wI, nx_wJ, nx_wR, sl_wI, sl_wJ, sl_wR, nx_cpI, sl_cpI, nx_cpR, sl_cpR, nx_nw, sl_nw, rJ_wI, rR_wI, rI_wJ, rR_wJ, rI_wR, rJ_wR, rJ_cpI, rR_cpI, rJ_cpR, rI_cpR, rI_wI, rJ_wJ, rq_wI, rq_wJ, rq_wR, rq_cpI, ↓reduceIte, Nat.reduceEqDiff, Nat.reduceAdd, Nat.reduceSub, Nat.reduceMul, Int.reduceAdd, Int.reduceSub, Int.reduceMul, Int.reduceNeg, Int.reduceLT, Int.reduceLE, Int.reduceEq, Int.reduceToNat, Int.sub_zero, Int.add_zero, Int.zero_add, true_and, and_true, false_and, and_false, or_true, true_or, or_false, false_or, not_true_eq_false, not_false_eq_true, eq_self, decide_true, decide_false, Bool.not_false, Bool.not_true, Bool.and_true, Bool.true_and, Bool.or_true, Bool.true_or, Bool.and_self, Bool.or_false, Bool.false_or, Bool.and_false, Bool.false_and, em]
      rw [if_pos (by omega), r1, show (j : Int) + 1 = ((j + 1 : Nat) : Int) by omega]
      exact u1
    · refine ⟨s, ?_, f1, f2, f3, f4, fun p q hp hq => hw p q hp (by omega)⟩
      rw [E_X2_fill_7]
      simp (disch := omega) only [I3_of, I6_of, I3_nat, I3_add, I3_sub, I3_mul, I3_neg, I6_add, I6_sub, I6_mul, I6_neg, I3_lt, I3_le, I3_eq, I6_lt, I6_le, I6_eq, I3_cl, I3_64, I6_32, cmp_pos', cmp_neg', cmp_eq', inb_I, cond_true, cond_false, aI_ok, aJ_ok, aA_ok, aV_ok', aI_thr, aJ_thr, aA_thr, aV_thr, ob_some, on_some, on_none, tg_wI, tg_wJ, tg_wR, ln_wI, ln_wJ, ln_wR, tg_cpI, ln_cpI, tg_cpR, ln_cpR, nx_wI, nx_wJ, nx_wR, sl_wI, sl_wJ, sl_wR, nx_cpI, sl_cpI, nx_cpR, sl_cpR, nx_nw, sl_nw, rJ_wI, rR_wI, rI_wJ, rR_wJ, rI_wR, rJ_wR, rJ_cpI, rR_cpI, rJ_cpR, rI_cpR, rI_wI, rJ_wJ, rq_wI, rq_wJ, rq_wR, rq_cpI, ↓reduceIte, Nat.reduceEqDiff, Nat.reduceAdd, Nat.reduceSub, Nat.reduceMul, Int.reduceAdd, Int.reduceSub, Int.reduceMul, Int.reduceNeg, Int.reduceLT, Int.reduceLE, Int.reduceEq, Int.reduceToNat, Int.sub_zero, Int.add_zero, Int.zero_add, true_and, and_true, false_and, and_false, or_true, true_or, or_false, false_or, not_true_eq_false, not_false_eq_true, eq_self, decide_true, decide_false, Bool.not_false, Bool.not_true, Bool.and_true, Bool.true_and, Bool.or_true, Bool.true_or, Bool.and_self, Bool.or_false, Bool.false_or, Bool.and_false, Bool.false_and, em]
      rw [if_neg (by omega)]
/-- the second pass over a column -/
theorem fill_col (d : Nat) {s0 : St} {n m i : Nat} {sh : Int} {A : Nat → Int32} (hm : rI s0 629 1 = I3 m) (n1 : n ≤ 64) (m1 : m ≤ 64) (hi : i < n) (s1 : 0 ≤ sh) (s2 : sh ≤ 5) (hH : ∀ q, q < m → rI s0 632 (64 * q + i) = bi (W1 A n m sh i q)) :
    ∀ (t : Nat) (j c : Int) (s : St), m + sh - j ≤ t → 0 ≤ j → j ≤ m + sh → SP (fun y => 0 ≤ y ∧ y < m ∧ W1 A n m sh i y) c j → Fr [6] s0 s → nx s = nx s0 → sl s = sl s0 → (∀ a k, a ≠ 631 → rI s a k = rI s0 a k) →
    ∃ τ, DD L d 146 122 [.ref 629, .int (I3 sh), .int (I3 i), .int (I3 c), .int (I3 j)] s = DD L d 146 109 [.ref 629, .int (I3 sh), .int (I3 ((i : Int) + 1))] τ ∧ Fr [6] s0 τ ∧ nx τ = nx s0 ∧ sl τ = sl s0 ∧ (∀ a k, a ≠ 631 → rI τ a k = rI s0 a k) ∧
      (∀ q : Nat, q < m → j ≤ q + sh → rI τ 631 (64 * q + i) = bi (W2 A n m sh i q)) ∧ ∀ x : Nat, (∀ q : Nat, q < m → j ≤ q + sh → x ≠ 64 * q + i) → rI τ 631 x = rI s 631 x := by
  intro t
  induction t with
  | zero =>
    intro j c s ht j0 hj hsp f1 f2 f3 f4
    have em : rI s 629 1 = I3 m := (f4 629 1 (by omega)).trans hm
    refine ⟨s, ?_, f1, f2, f3, f4, fun p hp hip => by omega, fun x _ => rfl⟩
    rw [E_X2_fill_122]
    simp (disch := omega) only [I3_of, I6_of, I3_nat, I3_add, I3_sub, I3_mul, I3_neg, I6_add, I6_sub, I6_mul, I6_neg, I3_lt, I3_le, I3_eq, I6_lt, I6_le, I6_eq, I3_cl, I3_64, I6_32, cmp_pos', cmp_neg', cmp_eq', inb_I, cond_true, cond_false, aI_ok, aJ_ok, aA_ok, aV_ok', aI_thr, aJ_thr, aA_thr, aV_thr, ob_some, on_some, on_none, tg_wI, tg_wJ, tg_wR, ln_wI, ln_wJ, ln_wR, tg_cpI, ln_cpI, tg_cpR, ln_cpR, nx_wI, nx_wJ, nx_wR, sl_wI, sl_wJ, sl_wR, nx_cpI, sl_cpI, nx_cpR, sl_cpR, nx_nw, sl_nw, rJ_wI, rR_wI, rI_wJ, rR_wJ, rI_wR, rJ_wR, rJ_cpI, rR_cpI, rJ_cpR, rI_cpR, rI_wI, rJ_wJ, rq_wI, rq_wJ, rq_wR, rq_cpI, ↓reduceIte, Nat.reduceEqDiff, Nat.reduceAdd, Nat.reduceSub, Nat.reduceMul, Int.reduceAdd, Int.reduceSub, Int.reduceMul, Int.reduceNeg, Int.reduceLT, Int.reduceLE, Int.reduceEq, Int.reduceToNat, Int.sub_zero, Int.add_zero, Int.zero_add, true_and, and_true, false_and, and_false, or_true, true_or, or_false, false_or, not_true_eq_false, not_false_eq_true, eq_self, decide_true, decide_false, Bool.not_false, Bool.not_true, Bool.and_true, Bool.true_and, Bool.or_true, Bool.true_or, Bool.and_self, Bool.or_false, Bool.false_or, Bool.and_false, Bool.false_and, em]
    rw [if_neg (by omega)]
  | succ t ih =>
    intro j c s ht j0 hj hsp f1 f2 f3 f4
    have em : rI s 629 1 = I3 m := (f4 629 1 (by omega)).trans hm
    have e6 : ∀ x, rI s 632 x = rI s0 632 x := fun x => f4 632 x (by omega)
    by_cases cj : j < m + sh
    · obtain ⟨c', hsp', hgo⟩ : ∃ c', SP (fun y => 0 ≤ y ∧ y < m ∧ W1 A n m sh i y) c' (j + 1) ∧ DD L d 146 122 [.ref 629, .int (I3 sh), .int (I3 i), .int (I3 c), .int (I3 j)] s = DD L d 146 164 [.ref 629, .int (I3 sh), .int (I3 i), .int (I3 j), .int (I3 c')] s := by
        have hc2 := hsp.2.1
        have hc1 := hsp.1
        by_cases cn : j < m
        · have et : (j * 64 + (i : Int)).toNat = 64 * j.toNat + i := by omega
          have q := hH j.toNat (by omega)
          rw [show ((j.toNat : Nat) : Int) = j by omega] at q
          by_cases w : W1 A n m sh i j
          · rw [bi_pos w] at q
            refine ⟨c + 1, sp_yes hsp ⟨j0, cn, w⟩, ?_⟩
            rw [E_X2_fill_122]
            simp (disch := omega) only [I3_of, I6_of, I3_nat, I3_add, I3_sub, I3_mul, I3_neg, I6_add, I6_sub, I6_mul, I6_neg, I3_lt, I3_le, I3_eq, I6_lt, I6_le, I6_eq, I3_cl, I3_64, I6_32, cmp_pos', cmp_neg', cmp_eq', inb_I, cond_true, cond_false, aI_ok, aJ_ok, aA_ok, aV_ok', aI_thr, aJ_thr, aA_thr, aV_thr, ob_some, on_some, on_none, tg_wI, tg_wJ, tg_wR, ln_wI, ln_wJ, ln_wR, tg_cpI, ln_cpI, tg_cpR, ln_cpR, nx_wI, nx_wJ, nx_wR, sl_wI, sl_wJ, sl_wR, nx_cpI, sl_cpI, nx_cpR, sl_cpR, nx_nw, sl_nw, rJ_wI, rR_wI, rI_wJ, rR_wJ, rI_wR, rJ_wR, rJ_cpI, rR_cpI, rJ_cpR, rI_cpR, rI_wI, rJ_wJ, rq_wI, rq_wJ, rq_wR, rq_cpI, ↓reduceIte, Nat.reduceEqDiff, Nat.reduceAdd, Nat.reduceSub, Nat.reduceMul, Int.reduceAdd, Int.reduceSub, Int.reduceMul, Int.reduceNeg, Int.reduceLT, Int.reduceLE, Int.reduceEq, Int.reduceToNat, Int.sub_zero, Int.add_zero, Int.zero_add, true_and, and_true, false_and, and_false, or_true, true_or, or_false, false_or, not_true_eq_false, not_false_eq_true, eq_self, decide_true, decide_false, Bool.not_false, Bool.not_true, Bool.and_true, Bool.true_and, Bool.or_true, Bool.true_or, Bool.and_self, Bool.or_false, Bool.false_or, Bool.and_false, Bool.false_and, em, et, e6, q, i3_10]
            rw [if_pos (by omega), if_pos (by omega)]
          · rw [bi_neg w] at q
            refine ⟨0, sp_no hsp (fun h => w h.2.2), ?_⟩
            rw [E_X2_fill_122]
            simp (disch := omega) only [I3_of, I6_of, I3_nat, I3_add, I3_sub, I3_mul, I3_neg, I6_add, I6_sub, I6_mul, I6_neg, I3_lt, I3_le, I3_eq, I6_lt, I6_le, I6_eq, I3_cl, I3_64, I6_32, cmp_pos', cmp_neg', cmp_eq', inb_I, cond_true, cond_false, aI_ok, aJ_ok, aA_ok, aV_ok', aI_thr, aJ_thr, aA_thr, aV_thr, ob_some, on_some, on_none, tg_wI, tg_wJ, tg_wR, ln_wI, ln_wJ, ln_wR, tg_cpI, ln_cpI, tg_cpR, ln_cpR, nx_wI, nx_wJ, nx_wR, sl_wI, sl_wJ, sl_wR, nx_cpI, sl_cpI, nx_cpR, sl_cpR, nx_nw, sl_nw, rJ_wI, rR_wI, rI_wJ, rR_wJ, rI_wR, rJ_wR, rJ_cpI, rR_cpI, rJ_cpR, rI_cpR, rI_wI, rJ_wJ, rq_wI, rq_wJ, rq_wR, rq_cpI, ↓reduceIte, Nat.reduceEqDiff, Nat.reduceAdd, Nat.reduceSub, Nat.reduceMul, Int.reduceAdd, Int.reduceSub, Int.reduceMul, Int.reduceNeg, Int.reduceLT, Int.reduceLE, Int.reduceEq, Int.reduceToNat, Int.sub_zero, Int.add_zero, Int.zero_add, true_and, and_true, false_and, and_false, or_true, true_or, or_false, false_or, not_true_eq_false, not_false_eq_true, eq_self, decide_true, decide_false, Bool.not_false, Bool.not_true, Bool.and_true, Bool.true_and, Bool.or_true, Bool.true_or, Bool.and_self, Bool.or_false, Bool.false_or, Bool.and_false, Bool.false_and, em, et, e6, q, E_X2_fill_163]
            rw [if_pos (by omega), if_pos (by omega)]
        · refine ⟨0, sp_no hsp (fun h => by have := h.2.1; omega), ?_⟩
          rw [E_X2_fill_122]
          simp (disch := omega) only [I3_of, I6_of, I3_nat, I3_add, I3_sub, I3_mul, I3_neg, I6_add, I6_sub, I6_mul, I6_neg, I3_lt, I3_le, I3_eq, I6_lt, I6_le, I6_eq, I3_cl, I3_64, I6_32, cmp_pos', cmp_neg', cmp_eq', inb_I, cond_true, cond_false, aI_ok, aJ_ok, aA_ok, aV_ok', aI_thr, aJ_thr, aA_thr, aV_thr, ob_some, on_some, on_none, tg_wI, tg_wJ, tg_wR, ln_wI, ln_wJ, ln_wR, tg_cpI, ln_cpI, tg_cpR, ln_cpR, nx_wI, nx_wJ, nx_wR, sl_wI, sl_wJ, sl_wR, nx_cpI, sl_cpI, nx_cpR, sl_cpR, nx_nw, sl_nw, rJ_wI, rR_wI, rI_wJ, rR_wJ, rI_wR, rJ_wR, rJ_cpI, rR_cpI, rJ_cpR, rI_cpR, rI_wI, rJ_wJ, rq_wI, rq_wJ, rq_wR, rq_cpI, ↓reduceIte, Nat.reduceEqDiff, Nat.reduceAdd, Nat.reduceSub, Nat.reduceMul, Int.reduceAdd, Int.reduceSub, Int.reduceMul, Int.reduceNeg, Int.reduceLT, Int.reduceLE, Int.reduceEq, Int.reduceToNat, Int.sub_zero, Int.add_zero, Int.zero_add, true_and, and_true, false_and, and_false, or_true, true_or, or_false, false_or, not_true_eq_false, not_false_eq_true, eq_self, decide_true, decide_false, Bool.not_false, Bool.not_true, Bool.and_true, Bool.true_and, Bool.or_true, Bool.true_or, Bool.and_self, Bool.or_false, Bool.false_or, Bool.and_false, Bool.false_and, em, E_X2_fill_163]
          rw [if_pos (by omega), if_neg (by omega)]
      have hc2 := hsp'.2.1
      have hc1 := hsp'.1
      rw [hgo, E_X2_fill_164]
      simp (disch := omega) only [I3_of, I6_of, I3_nat, I3_add, I3_sub, I3_mul, I3_neg, I6_add, I6_sub, I6_mul, I6_neg, I3_lt, I3_le, I3_eq, I6_lt, I6_le, I6_eq, I3_cl, I3_64, I6_32, cmp_pos', cmp_neg', cmp_eq', inb_I, cond_true, cond_false, aI_ok, aJ_ok, aA_ok, aV_ok', aI_thr, aJ_thr, aA_thr, aV_thr, ob_some, on_some, on_none, tg_wI, tg_wJ, tg_wR, ln_wI, ln_wJ, ln_wR, tg_cpI, ln_cpI, tg_cpR, ln_cpR, nx_wI, nx_wJ, nx_wR, sl_wI, sl_wJ, sl_wR, nx_cpI, sl_cpI, nx_cpR, sl_cpR, nx_nw, sl_nw, rJ_wI, rR_wI, rI_wJ, rR_wJ, rI_wR, rJ_wR, rJ_cpI, rR_cpI, rJ_cpR, rI_cpR, rI_wI, rJ_wJ, rq_wI, rq_wJ, rq_wR, rq_cpI, ↓reduceIte, Nat.reduceEqDiff, Nat.reduceAdd, Nat.reduceSub, Nat.reduceMul, Int.reduceAdd, Int.reduceSub, Int.reduceMul, Int.reduceNeg, Int.reduceLT, Int.reduceLE, Int.reduceEq, Int.reduceToNat, Int.sub_zero, Int.add_zero, Int.zero_add, true_and, and_true, false_and, and_false, or_true, true_or, or_false, false_or, not_true_eq_false, not_false_eq_true, eq_self, decide_true, decide_false, Bool.not_false, Bool.not_true, Bool.and_true, Bool.true_and, Bool.or_true, Bool.true_or, Bool.and_self, Bool.or_false, Bool.false_or, Bool.and_false, Bool.false_and]
      by_cases cs : j < sh
      · rw [if_pos cs]
        obtain ⟨τ, r1, r2, r3, r4, r5, r6, r7⟩ := ih (j + 1) c' s (by omega) (by omega) (by omega) hsp' f1 f2 f3 f4
        refine ⟨τ, r1, r2, r3, r4, r5, fun p hp hip => r6 p hp (by omega), fun x hx => r7 x (fun p hp hip => hx p hp (by omega))⟩
      · rw [if_neg cs]
        have et : ((j - sh) * 64 + (i : Int)).toNat = 64 * (j - sh).toNat + i := by omega
        have hw : 2 * sh < c' ↔ W2 A n m sh i (((j - sh).toNat : Nat) : Int) := by
          rw [show (((j - sh).toNat : Nat) : Int) = j - sh by omega, sp_win (fun x h => h.1) s1 hsp']
          constructor
          · intro h dx dy x1 x2 y1 y2
            exact (h dy y1 y2).2.2 dx x1 x2
          · intro h dy y1 y2
            have := h 0 dy (by omega) (by omega) y1 y2
            exact ⟨this.2.2.1, this.2.2.2.1, fun dx x1 x2 => h dx dy x1 x2 y1 y2⟩
        have go2 : (if 2 * sh < c' then DD L d 146 122 [.ref 629, .int (I3 sh), .int (I3 i), .int (I3 c'), .int (I3 (j + 1))] (wI s 631 ((j - sh) * 64 + (i : Int)).toNat (I3 1)) else DD L d 146 122 [.ref 629, .int (I3 sh), .int (I3 i), .int (I3 c'), .int (I3 (j + 1))] (wI s 631 ((j - sh) * 64 + (i : Int)).toNat (I3 0))) = DD L d 146 122 [.ref 629, .int (I3 sh), .int (I3 i), .int (I3 c'), .int (I3 (j + 1))] (wI s 631 (64 * (j - sh).toNat + i) (bi (W2 A n m sh i (((j - sh).toNat : Nat) : Int)))) := by
          rw [et]
          by_cases g : 2 * sh < c'
          · rw [if_pos g, bi_pos (hw.mp g)]
          · rw [if_neg g, bi_neg (fun q => g (hw.mpr q))]
        rw [go2]
        obtain ⟨τ, r1, r2, r3, r4, r5, r6, r7⟩ := ih (j + 1) c' (wI s 631 (64 * (j - sh).toNat + i) (bi (W2 A n m sh i (((j - sh).toNat : Nat) : Int)))) (by omega) (by omega) (by omega) hsp' (fr_wI' f1 rfl) f2 f3 (fun a k h => (rI_wIn h).trans (f4 a k h))
        refine ⟨τ, r1, r2, r3, r4, r5, fun p hp hip => ?_, fun x hx => ?_⟩
        · by_cases e : p = (j - sh).toNat
          · rw [r7 _ (fun q hq hiq => by omega), rI_wI', if_pos (by omega), e]
          · exact r6 p hp (by omega)
        · rw [r7 x (fun p hp hip => hx p hp (by omega)), rI_wI', if_neg (hx _ (by omega) (by omega))]
    · refine ⟨s, ?_, f1, f2, f3, f4, fun p hp hip => by omega, fun x _ => rfl⟩
      rw [E_X2_fill_122]
      simp (disch := omega) only [I3_of, I6_of, I3_nat, I3_add, I3_sub, I3_mul, I3_neg, I6_add, I6_sub, I6_mul, I6_neg, I3_lt, I3_le, I3_eq, I6_lt, I6_le, I6_eq, I3_cl, I3_64, I6_32, cmp_pos', cmp_neg', cmp_eq', inb_I, cond_true, cond_false, aI_ok, aJ_ok, aA_ok, aV_ok', aI_thr, aJ_thr, aA_thr, aV_thr, ob_some, on_some, on_none, tg_wI, tg_wJ, tg_wR, ln_wI, ln_wJ, ln_wR, tg_cpI, ln_cpI, tg_cpR, ln_cpR, nx_wI, nx_wJ, nx_wR, sl_wI, sl_wJ, sl_wR, nx_cpI, sl_cpI, nx_cpR, sl_cpR, nx_nw, sl_nw, rJ_wI, rR_wI, rI_wJ, rR_wJ, rI_wR, rJ_wR, rJ_cpI, rR_cpI, rJ_cpR, rI_cpR, rI_wI, rJ_wJ, rq_wI, rq_wJ, rq_wR, rq_cpI, ↓reduceIte, Nat.reduceEqDiff, Nat.reduceAdd, Nat.reduceSub, Nat.reduceMul, Int.reduceAdd, Int.reduceSub, Int.reduceMul, Int.reduceNeg, Int.reduceLT, Int.reduceLE, Int.reduceEq, Int.reduceToNat, Int.sub_zero, Int.add_zero, Int.zero_add, true_and, and_true, false_and, and_false, or_true, true_or, or_false, false_or, not_true_eq_false, not_false_eq_true, eq_self, decide_true, decide_false, Bool.not_false, Bool.not_true, Bool.and_true, Bool.true_and, Bool.or_true, Bool.true_or, Bool.and_self, Bool.or_false, Bool.false_or, Bool.and_false, Bool.false_and, em]
      rw [if_neg (by omega)]
theorem fill_all (d : Nat) {s0 : St} {n m : Nat} {sh : Int} {A : Nat → Int32} (hn : rI s0 629 0 = I3 n) (hm : rI s0 629 1 = I3 m) (n1 : n ≤ 64) (m1 : m ≤ 64) (s1 : 0 ≤ sh) (s2 : sh ≤ 5) (hH : ∀ p q, p < n → q < m → rI s0 632 (64 * q + p) = bi (W1 A n m sh p q)) :
    ∀ (t i : Nat) (s : St), n - i ≤ t → i ≤ n → Fr [6] s0 s → nx s = nx s0 → sl s = sl s0 → (∀ a k, a ≠ 631 → rI s a k = rI s0 a k) → (∀ p q : Nat, p < i → q < m → rI s 631 (64 * q + p) = bi (W2 A n m sh p q)) →
    ∃ τ, DD L d 146 109 [.ref 629, .int (I3 sh), .int (I3 i)] s = DD L d 146 216 [.ref 629, .int (I3 0)] (wI τ 629 15 (I3 0)) ∧ Fr [6] s0 τ ∧ nx τ = nx s0 ∧ sl τ = sl s0 ∧ (∀ a k, a ≠ 631 → rI τ a k = rI s0 a k) ∧ (∀ p q : Nat, p < n → q < m → rI τ 631 (64 * q + p) = bi (W2 A n m sh p q)) := by
  intro t
  induction t with
  | zero =>
    intro i s ht hi f1 f2 f3 f4 hw
    have en : rI s 629 0 = I3 n := (f4 629 0 (by omega)).trans hn
    refine ⟨s, ?_, f1, f2, f3, f4, fun p q hp hq => hw p q (by omega) hq⟩
    rw [E_X2_fill_109]
    simp (disch := omega) only [I3_of, I6_of, I3_nat, I3_add, I3_sub, I3_mul, I3_neg, I6_add, I6_sub, I6_mul, I6_neg, I3_lt, I3_le, I3_eq, I6_lt, I6_le, I6_eq, I3_cl, I3_64, I6_32, cmp_pos', cmp_neg', cmp_eq', inb_I, cond_true, cond_false, aI_ok, aJ_ok, aA_ok, aV_ok', aI_thr, aJ_thr, aA_thr, aV_thr, ob_some, on_some, on_none, tg_wI, tg_wJ, tg_wR, ln_wI, ln_wJ, ln_wR, tg_cpI, ln_cpI, tg_cpR, ln_cpR, nx_wI, nx_wJ, nx_wR, sl_wI, sl_wJ, sl_wR, nx_cpI, sl_cpI, nx_cpR, sl_cpR, nx_nw, sl_nw, rJ_wI, rR_wI, rI_wJ, rR_wJ, rI_wR, rJ_wR, rJ_cpI, rR_cpI, rJ_cpR, rI_cpR, rI_wI, rJ_wJ, rq_wI, rq_wJ, rq_wR, rq_cpI, ↓reduceIte, Nat.reduceEqDiff, Nat.reduceAdd, Nat.reduceSub, Nat.reduceMul, Int.reduceAdd, Int.reduceSub, Int.reduceMul, Int.reduceNeg, Int.reduceLT, Int.reduceLE, Int.reduceEq, Int.reduceToNat, Int.sub_zero, Int.add_zero, Int.zero_add, true_and, and_true, false_and, and_false, or_true, true_or, or_false, false_or, not_true_eq_false, not_false_eq_true, eq_self, decide_true, decide_false, Bool.not_false, Bool.not_true, Bool.and_true, Bool.true_and, Bool.or_true, Bool.true_or, Bool.and_self, Bool.or_false, Bool.false_or, Bool.and_false, Bool.false_and, en]
    rw [if_neg (by omega)]
  | succ t ih =>
    intro i s ht hi f1 f2 f3 f4 hw
    have en : rI s 629 0 = I3 n := (f4 629 0 (by omega)).trans hn
    by_cases ci : i < n
    · obtain ⟨s', r1, r2, r3, r4, r5, r6, r7⟩ := fill_col (L := L) d (s0 := s0) (A := A) hm n1 m1 ci s1 s2 (fun q hq => hH i q ci hq) (m + sh).toNat 0 0 s (by omega) (by omega) (by omega) sp_0 f1 f2 f3 f4
      obtain ⟨τ, u1, u2⟩ := ih (i + 1) s' (by omega) (by omega) r2 r3 r4 r5 (fun p q hp hq => by
        by_cases e : p = i
        · subst e; exact r6 q hq (by omega)
        · rw [r7 _ (fun q' hq' _ => by omega)]; exact hw p q (by omega) hq)
      refine ⟨τ, ?_, u2⟩
      rw [E_X2_fill_109]
      simp (disch := omega) only [I3_of, I6_of, I3_nat, I3_add, I3_sub, I3_mul, I3_neg, I6_add, I6_sub, I6_mul, I6_neg, I3_lt, I3_le, I3_eq, I6_lt, I6_le, I6_eq, I3_cl, I3_64, I6_32, cmp_pos', cmp_neg', cmp_eq', inb_I, cond_true, cond_false, aI_ok, aJ_ok, aA_ok, aV_ok', aI_thr, aJ_thr, aA_thr, aV_thr, ob_some, on_some, on_none, tg_wI, tg_wJ, tg_wR, ln_wI, ln_wJ, ln_wR, tg_cpI, ln_cpI, tg_cpR, ln_cpR, nx_wI, nx_wJ, nx_wR, sl_wI, sl_wJ, sl_wR, nx_cpI, sl_cpI, nx_cpR, sl_cpR, nx_nw, sl_nw, rJ_wI, rR_wI, rI_wJ, rR_wJ, rI_wR, rJ_wR, rJ_cpI, rR_cpI, rJ_cpR, rI_cpR, rI_wI, rJ_wJ, rq_wI, rq_wJ, rq_wR, rq_cpI, ↓reduceIte, Nat.reduceEqDiff, Nat.reduceAdd, Nat.reduceSub, Nat.reduceMul, Int.reduceAdd, Int.reduceSub, Int.reduceMul, Int.reduceNeg, Int.reduceLT, Int.reduceLE, Int.reduceEq, Int.reduceToNat, Int.sub_zero, Int.add_zero, Int.zero_add, true_and, and_true, false_and, and_false, or_true, true_or, or_false, false_or, not_true_eq_false, not_false_eq_true, eq_self, decide_true, decide_false, Bool.not_false, Bool.not_true, Bool.and_true, Bool.true_and, Bool.or_true, Bool.true_or, Bool.and_self, Bool.or_false, Bool.false_or, Bool.and_false, Bool.false_and, en]
      rw [if_pos (by omega), r1, show (i : Int) + 1 = ((i + 1 : Nat) : Int) by omega]
      exact u1
    · refine ⟨s, ?_, f1, f2, f3, f4, fun p q hp hq => hw p q (by omega) hq⟩
      rw [E_X2_fill_109]
      simp (disch := omega) only [I3_of, I6_of, I3_nat, I3_add, I3_sub, I3_mul, I3_neg, I6_add, I6_sub, I6_mul, I6_neg, I3_lt, I3_le, I3_eq, I6_lt, I6_le, I6_eq, I3_cl, I3_64, I6_32, cmp_pos', cmp_neg', cmp_eq', inb_I, cond_true, cond_false, aI_ok, aJ_ok, aA_ok, aV_ok', aI_thr, aJ_thr, aA_thr, aV_thr, ob_some, on_some, on_none, tg_wI, tg_wJ, tg_wR, ln_wI, ln_wJ, ln_wR, tg_cpI, ln_cpI, tg_cpR, ln_cpR, nx_wI, nx_wJ, nx_wR, sl_wI, sl_wJ, sl_wR, nx_cpI, sl_cpI, nx_cpR, sl_cpR, nx_nw, sl_nw, rJ_wI, rR_wI, rI_wJ, rR_wJ, rI_wR, rJ_wR, rJ_cpI, rR_cpI, rJ_cpR, rI_cpR, rI_wI, rJ_wJ, rq_wI, rq_wJ, rq_wR, rq_cpI, ↓reduceIte, Nat.reduceEqDiff, Nat.reduceAdd, Nat.reduceSub, Nat.reduceMul, Int.reduceAdd, Int.reduceSub, Int.reduceMul, Int.reduceNeg, Int.reduceLT, Int.reduceLE, Int.reduceEq, Int.reduceToNat, Int.sub_zero, Int.add_zero, Int.zero_add, true_and, and_true, false_and, and_false, or_true, true_or, or_false, false_or, not_true_eq_false, not_false_eq_true, eq_self, decide_true, decide_false, Bool.not_false, Bool.not_true, Bool.and_true, Bool.true_and, Bool.or_true, Bool.true_or, Bool.and_self, Bool.or_false, Bool.false_or, Bool.and_false, Bool.false_and, en]
      rw [if_neg (by omega)]
-- the model's
theorem inCell_m (d : Nat) {s : St} {n m : Nat} {i j : Int} (hn : rI s 714 10 = I3 n) (hm : rI s 714 11 = I3 m) (n1 : n ≤ 64) (m1 : m ≤ 64) (hi : -100 ≤ i ∧ i ≤ 100) (hj : -100 ≤ j ∧ j ≤ 100) (hA : ∀ i j, i < n → j < m → rI s 720 (64 * j + i) = I3 0 ∨ rI s 720 (64 * j + i) = I3 1) :
    DD L d 219 0 [.ref 714, .int (I3 i), .int (I3 j)] s = ok (some (.int (bi (cellIn (rI s 720) n m i j)))) s := by
  rw [E_X8_isInCell_0]
  simp (disch := omega) only [I3_of, I6_of, I3_nat, I3_add, I3_sub, I3_mul, I3_neg, I6_add, I6_sub, I6_mul, I6_neg, I3_lt, I3_le, I3_eq, I6_lt, I6_le, I6_eq, I3_cl, I3_64, I6_32, cmp_pos', cmp_neg', cmp_eq', cond_true, cond_false, aI_ok, aJ_ok, aA_ok, aV_ok', aI_thr, aJ_thr, aA_thr, aV_thr, ob_some, on_some, on_none, tg_wI, tg_wJ, tg_wR, ln_wI, ln_wJ, ln_wR, tg_cpI, ln_cpI, tg_cpR, ln_cpR, nx_wI, nx_wJ, nx_wR, sl_wI, sl_wJ, sl_wR, nx_cpI, sl_cpI, nx_cpR, sl_cpR, nx_nw, sl_nw, rJ_wI, rR_wI, rI_wJ, rR_wJ, rI_wR, rJ_wR, rJ_cpI, rR_cpI, rJ_cpR, rI_cpR, rI_wI, rJ_wJ, rq_wI, rq_wJ, rq_wR, rq_cpI, ↓reduceIte, Nat.reduceEqDiff, Nat.reduceAdd, Nat.reduceSub, Nat.reduceMul, Int.reduceAdd, Int.reduceSub, Int.reduceMul, Int.reduceNeg, Int.reduceLT, Int.reduceLE, Int.reduceEq, Int.reduceToNat, Int.sub_zero, Int.add_zero, Int.zero_add, true_and, and_true, false_and, and_false, or_true, true_or, or_false, false_or, not_true_eq_false, not_false_eq_true, eq_self, decide_true, decide_false, Bool.not_false, Bool.not_true, Bool.and_true, Bool.true_and, Bool.or_true, Bool.true_or, Bool.and_self, Bool.or_false, Bool.false_or, Bool.and_false, Bool.false_and, hn, hm]
  by_cases c1 : i < 0
  · rw [if_pos c1, bi_neg]; unfold cellIn; omega
  rw [if_neg c1]
  by_cases c2 : j < 0
  · rw [if_pos c2, bi_neg]; unfold cellIn; omega
  rw [if_neg c2]
  by_cases c3 : i < n
  · rw [if_pos c3]
    by_cases c4 : j < m
    · rw [if_pos c4, inb_I (by omega)]
      have et : (64 * j + i).toNat = 64 * j.toNat + i.toNat := by omega
      rcases hA i.toNat j.toNat (by omega) (by omega) with q | q
      · rw [et, q, bi_neg (fun h => ?_)]
        · simp (disch := omega) only [I3_of, I6_of, I3_nat, I3_add, I3_sub, I3_mul, I3_neg, I6_add, I6_sub, I6_mul, I6_neg, I3_lt, I3_le, I3_eq, I6_lt, I6_le, I6_eq, I3_cl, I3_64, I6_32, cmp_pos', cmp_neg', cmp_eq', inb_I, cond_true, cond_false, aI_ok, aJ_ok, aA_ok, aV_ok', aI_thr, aJ_thr, aA_thr, aV_thr, ob_some, on_some, on_none, tg_wI, tg_wJ, tg_wR, ln_wI, ln_wJ, ln_wR, tg_cpI, ln_cpI, tg_cpR, ln_cpR, nx_wI, nx_wJ, nx_wR, sl_wI, sl_wJ, sl_wR, nx_cpI, sl_cpI, nx_cpR, sl_cpR, nx_nw, sl_nw, rJ_wI, rR_wI, rI_wJ, rR_wJ, rI_wR, rJ_wR, rJ_cpI, rR_cpI, rJ_cpR, rI_cpR, rI_wI, rJ_wJ, rq_wI, rq_wJ, rq_wR, rq_cpI, ↓reduceIte, Nat.reduceEqDiff, Nat.reduceAdd, Nat.reduceSub, Nat.reduceMul, Int.reduceAdd, Int.reduceSub, Int.reduceMul, Int.reduceNeg, Int.reduceLT, Int.reduceLE, Int.reduceEq, Int.reduceToNat, Int.sub_zero, Int.add_zero, Int.zero_add, true_and, and_true, false_and, and_false, or_true, true_or, or_false, false_or, not_true_eq_false, not_false_eq_true, eq_self, decide_true, decide_false, Bool.not_false, Bool.not_true, Bool.and_true, Bool.true_and, Bool.or_true, Bool.true_or, Bool.and_self, Bool.or_false, Bool.false_or, Bool.and_false, Bool.false_and]
        · have := h.2.2.2.2
          rw [et, q] at this
          exact absurd this (by decide)
      · rw [bi_pos ⟨by omega, c3, by omega, c4, by rw [et]; exact q⟩, et, q]
        simp (disch := omega) only [I3_of, I6_of, I3_nat, I3_add, I3_sub, I3_mul, I3_neg, I6_add, I6_sub, I6_mul, I6_neg, I3_lt, I3_le, I3_eq, I6_lt, I6_le, I6_eq, I3_cl, I3_64, I6_32, cmp_pos', cmp_neg', cmp_eq', inb_I, cond_true, cond_false, aI_ok, aJ_ok, aA_ok, aV_ok', aI_thr, aJ_thr, aA_thr, aV_thr, ob_some, on_some, on_none, tg_wI, tg_wJ, tg_wR, ln_wI, ln_wJ, ln_wR, tg_cpI, ln_cpI, tg_cpR, ln_cpR, nx_wI, nx_wJ, nx_wR, sl_wI, sl_wJ, sl_wR, nx_cpI, sl_cpI, nx_cpR, sl_cpR, nx_nw, sl_nw, rJ_wI, rR_wI, rI_wJ, rR_wJ, rI_wR, rJ_wR, rJ_cpI, rR_cpI, rJ_cpR, rI_cpR, rI_wI, rJ_wJ, rq_wI, rq_wJ, rq_wR, rq_cpI, ↓reduceIte, Nat.reduceEqDiff, Nat.reduceAdd, Nat.reduceSub, Nat.reduceMul, Int.reduceAdd, Int.reduceSub, Int.reduceMul, Int.reduceNeg, Int.reduceLT, Int.reduceLE, Int.reduceEq, Int.reduceToNat, Int.sub_zero, Int.add_zero, Int.zero_add, true_and, and_true, false_and, and_false, or_true, true_or, or_false, false_or, not_true_eq_false, not_false_eq_true, eq_self, decide_true, decide_false, Bool.not_false, Bool.not_true, Bool.and_true, Bool.true_and, Bool.or_true, Bool.true_or, Bool.and_self, Bool.or_false, Bool.false_or, Bool.and_false, Bool.false_and, i3_10]
    · rw [if_neg c4, bi_neg]; unfold cellIn; omega
  · rw [if_neg c3, bi_neg]; unfold cellIn; omega
theorem win_x (d : Nat) {s : St} {n m : Nat} {sh i j y : Int} (hn : rI s 714 10 = I3 n) (hm : rI s 714 11 = I3 m) (n1 : n ≤ 64) (m1 : m ≤ 64) (s1 : 0 ≤ sh) (s2 : sh ≤ 5) (hi : 0 ≤ i ∧ i < 64) (hj : 0 ≤ j ∧ j < 64) (hy : -sh ≤ y ∧ y ≤ sh) (hA : ∀ i j, i < n → j < m → rI s 720 (64 * j + i) = I3 0 ∨ rI s 720 (64 * j + i) = I3 1) :
    ∀ (t : Nat) (x : Int) (al : Prop), sh + 1 - x ≤ t → -sh ≤ x → x ≤ sh + 1 →
    DD L (d + 1) 218 42 [.ref 714, .int (I3 sh), .int (I3 j), .int (I3 i), .int (bi al), .int (I3 y), .int (I3 x)] s = DD L (d + 1) 218 32 [.ref 714, .int (I3 sh), .int (I3 j), .int (I3 i), .int (bi (al ∧ ∀ dx, x ≤ dx → dx ≤ sh → cellIn (rI s 720) n m (i + dx) (j + y))), .int (I3 (y + 1))] s := by
  intro t
  induction t with
  | zero =>
    intro x al ht x1 x2
    rw [E_X8_fill_42]
    simp (disch := omega) only [I3_of, I6_of, I3_nat, I3_add, I3_sub, I3_mul, I3_neg, I6_add, I6_sub, I6_mul, I6_neg, I3_lt, I3_le, I3_eq, I6_lt, I6_le, I6_eq, I3_cl, I3_64, I6_32, cmp_pos', cmp_neg', cmp_eq', inb_I, cond_true, cond_false, aI_ok, aJ_ok, aA_ok, aV_ok', aI_thr, aJ_thr, aA_thr, aV_thr, ob_some, on_some, on_none, tg_wI, tg_wJ, tg_wR, ln_wI, ln_wJ, ln_wR, tg_cpI, ln_cpI, tg_cpR, ln_cpR, nx_wI, nx_wJ, nx_wR, sl_wI, sl_wJ, sl_wR, nx_cpI, sl_cpI, nx_cpR, sl_cpR, nx_nw, sl_nw, rJ_wI, rR_wI, rI_wJ, rR_wJ, rI_wR, rJ_wR, rJ_cpI, rR_cpI, rJ_cpR, rI_cpR, rI_wI, rJ_wJ, rq_wI, rq_wJ, rq_wR, rq_cpI, ↓reduceIte, Nat.reduceEqDiff, Nat.reduceAdd, Nat.reduceSub, Nat.reduceMul, Int.reduceAdd, Int.reduceSub, Int.reduceMul, Int.reduceNeg, Int.reduceLT, Int.reduceLE, Int.reduceEq, Int.reduceToNat, Int.sub_zero, Int.add_zero, Int.zero_add, true_and, and_true, false_and, and_false, or_true, true_or, or_false, false_or, not_true_eq_false, not_false_eq_true, eq_self, decide_true, decide_false, Bool.not_false, Bool.not_true, Bool.and_true, Bool.true_and, Bool.or_true, Bool.true_or, Bool.and_self, Bool.or_false, Bool.false_or, Bool.and_false, Bool.false_and]
    rw [if_pos (by omega), bi_congr (p := al)]
    exact ⟨fun h => ⟨h, fun dx d1 d2 => by omega⟩, fun h => h.1⟩
  | succ t ih =>
    intro x al ht x1 x2
    rw [E_X8_fill_42]
    simp (disch := omega) only [I3_of, I6_of, I3_nat, I3_add, I3_sub, I3_mul, I3_neg, I6_add, I6_sub, I6_mul, I6_neg, I3_lt, I3_le, I3_eq, I6_lt, I6_le, I6_eq, I3_cl, I3_64, I6_32, cmp_pos', cmp_neg', cmp_eq', inb_I, cond_true, cond_false, aI_ok, aJ_ok, aA_ok, aV_ok', aI_thr, aJ_thr, aA_thr, aV_thr, ob_some, on_some, on_none, tg_wI, tg_wJ, tg_wR, ln_wI, ln_wJ, ln_wR, tg_cpI, ln_cpI, tg_cpR, ln_cpR, nx_wI, nx_wJ, nx_wR, sl_wI, sl_wJ, sl_wR, nx_cpI, sl_cpI, nx_cpR, sl_cpR, nx_nw, sl_nw, rJ_wI, rR_wI, rI_wJ, rR_wJ, rI_wR, rJ_wR, rJ_cpI, rR_cpI, rJ_cpR, rI_cpR, rI_wI, rJ_wJ, rq_wI, rq_wJ, rq_wR, rq_cpI, ↓reduceIte, Nat.reduceEqDiff, Nat.reduceAdd, Nat.reduceSub, Nat.reduceMul, Int.reduceAdd, Int.reduceSub, Int.reduceMul, Int.reduceNeg, Int.reduceLT, Int.reduceLE, Int.reduceEq, Int.reduceToNat, Int.sub_zero, Int.add_zero, Int.zero_add, true_and, and_true, false_and, and_false, or_true, true_or, or_false, false_or, not_true_eq_false, not_false_eq_true, eq_self, decide_true, decide_false, Bool.not_false, Bool.not_true, Bool.and_true, Bool.true_and, Bool.or_true, Bool.true_or, Bool.and_self, Bool.or_false, Bool.false_or, Bool.and_false, Bool.false_and]
    by_cases cx : sh < x
    · rw [if_pos cx, bi_congr (p := al)]
      exact ⟨fun h => ⟨h, fun dx d1 d2 => by omega⟩, fun h => h.1⟩
    · rw [if_neg cx]
      by_cases ha : al
      · rw [bi_pos ha]
        simp (disch := omega) only [I3_of, I6_of, I3_nat, I3_add, I3_sub, I3_mul, I3_neg, I6_add, I6_sub, I6_mul, I6_neg, I3_lt, I3_le, I3_eq, I6_lt, I6_le, I6_eq, I3_cl, I3_64, I6_32, cmp_pos', cmp_neg', cmp_eq', inb_I, cond_true, cond_false, aI_ok, aJ_ok, aA_ok, aV_ok', aI_thr, aJ_thr, aA_thr, aV_thr, ob_some, on_some, on_none, tg_wI, tg_wJ, tg_wR, ln_wI, ln_wJ, ln_wR, tg_cpI, ln_cpI, tg_cpR, ln_cpR, nx_wI, nx_wJ, nx_wR, sl_wI, sl_wJ, sl_wR, nx_cpI, sl_cpI, nx_cpR, sl_cpR, nx_nw, sl_nw, rJ_wI, rR_wI, rI_wJ, rR_wJ, rI_wR, rJ_wR, rJ_cpI, rR_cpI, rJ_cpR, rI_cpR, rI_wI, rJ_wJ, rq_wI, rq_wJ, rq_wR, rq_cpI, ↓reduceIte, Nat.reduceEqDiff, Nat.reduceAdd, Nat.reduceSub, Nat.reduceMul, Int.reduceAdd, Int.reduceSub, Int.reduceMul, Int.reduceNeg, Int.reduceLT, Int.reduceLE, Int.reduceEq, Int.reduceToNat, Int.sub_zero, Int.add_zero, Int.zero_add, true_and, and_true, false_and, and_false, or_true, true_or, or_false, false_or, not_true_eq_false, not_false_eq_true, eq_self, decide_true, decide_false, Bool.not_false, Bool.not_true, Bool.and_true, Bool.true_and, Bool.or_true, Bool.true_or, Bool.and_self, Bool.or_false, Bool.false_or, Bool.and_false, Bool.false_and, i3_10, inCell_m d hn hm n1 m1 (i := i + x) (j := j + y) (by omega) (by omega) hA]
        by_cases g : cellIn (rI s 720) n m (i + x) (j + y)
        · rw [bi_pos g]
          simp (disch := omega) only [I3_of, I6_of, I3_nat, I3_add, I3_sub, I3_mul, I3_neg, I6_add, I6_sub, I6_mul, I6_neg, I3_lt, I3_le, I3_eq, I6_lt, I6_le, I6_eq, I3_cl, I3_64, I6_32, cmp_pos', cmp_neg', cmp_eq', inb_I, cond_true, cond_false, aI_ok, aJ_ok, aA_ok, aV_ok', aI_thr, aJ_thr, aA_thr, aV_thr, ob_some, on_some, on_none, tg_wI, tg_wJ, tg_wR, ln_wI, ln_wJ, ln_wR, tg_cpI, ln_cpI, tg_cpR, ln_cpR, nx_wI, nx_wJ, nx_wR, sl_wI, sl_wJ, sl_wR, nx_cpI, sl_cpI, nx_cpR, sl_cpR, nx_nw, sl_nw, rJ_wI, rR_wI, rI_wJ, rR_wJ, rI_wR, rJ_wR, rJ_cpI, rR_cpI, rJ_cpR, rI_cpR, rI_wI, rJ_wJ, rq_wI, rq_wJ, rq_wR, rq_cpI, ↓reduceIte, Nat.reduceEqDiff, Nat.reduceAdd, Nat.reduceSub, Nat.reduceMul, Int.reduceAdd, Int.reduceSub, Int.reduceMul, Int.reduceNeg, Int.reduceLT, Int.reduceLE, Int.reduceEq, Int.reduceToNat, Int.sub_zero, Int.add_zero, Int.zero_add, true_and, and_true, false_and, and_false, or_true, true_or, or_false, false_or, not_true_eq_false, not_false_eq_true, eq_self, decide_true, decide_false, Bool.not_false, Bool.not_true, Bool.and_true, Bool.true_and, Bool.or_true, Bool.true_or, Bool.and_self, Bool.or_false, Bool.false_or, Bool.and_false, Bool.false_and, i3_10]
          have := ih (x + 1) True (by omega) (by omega) (by omega)
          rw [bi_pos trivial] at this
          rw [this, bi_congr]
          refine ⟨fun h => ⟨ha, fun dx d1 d2 => ?_⟩, fun h => ⟨trivial, fun dx d1 d2 => h.2 dx (by omega) d2⟩⟩
          by_cases e : dx = x
          · rw [e]; exact g
          · exact h.2 dx (by omega) d2
        · rw [bi_neg g]
          simp (disch := omega) only [I3_of, I6_of, I3_nat, I3_add, I3_sub, I3_mul, I3_neg, I6_add, I6_sub, I6_mul, I6_neg, I3_lt, I3_le, I3_eq, I6_lt, I6_le, I6_eq, I3_cl, I3_64, I6_32, cmp_pos', cmp_neg', cmp_eq', inb_I, cond_true, cond_false, aI_ok, aJ_ok, aA_ok, aV_ok', aI_thr, aJ_thr, aA_thr, aV_thr, ob_some, on_some, on_none, tg_wI, tg_wJ, tg_wR, ln_wI, ln_wJ, ln_wR, tg_cpI, ln_cpI, tg_cpR, ln_cpR, nx_wI, nx_wJ, nx_wR, sl_wI, sl_wJ, sl_wR, nx_cpI, sl_cpI, nx_cpR, sl_cpR, nx_nw, sl_nw, rJ_wI, rR_wI, rI_wJ, rR_wJ, rI_wR, rJ_wR, rJ_cpI, rR_cpI, rJ_cpR, rI_cpR, rI_wI, rJ_wJ, rq_wI, rq_wJ, rq_wR, rq_cpI, ↓reduceIte, Nat.reduceEqDiff, Nat.reduceAdd, Nat.reduceSub, Nat.reduceMul, Int.reduceAdd, Int.reduceSub, Int.reduceMul, Int.reduceNeg, Int.reduceLT, Int.reduceLE, Int.reduceEq, Int.reduceToNat, Int.sub_zero, Int.add_zero, Int.zero_add, true_and, and_true, false_and, and_false, or_true, true_or, or_false, false_or, not_true_eq_false, not_false_eq_true, eq_self, decide_true, decide_false, Bool.not_false, Bool.not_true, Bool.and_true, Bool.true_and, Bool.or_true, Bool.true_or, Bool.and_self, Bool.or_false, Bool.false_or, Bool.and_false, Bool.false_and]
          have := ih (x + 1) False (by omega) (by omega) (by omega)
          rw [bi_neg (fun h => h)] at this
          rw [this, bi_neg (fun h => h.1), bi_neg (fun h => g (h.2 x (by omega) (by omega)))]
      · rw [bi_neg ha]
        simp (disch := omega) only [I3_of, I6_of, I3_nat, I3_add, I3_sub, I3_mul, I3_neg, I6_add, I6_sub, I6_mul, I6_neg, I3_lt, I3_le, I3_eq, I6_lt, I6_le, I6_eq, I3_cl, I3_64, I6_32, cmp_pos', cmp_neg', cmp_eq', inb_I, cond_true, cond_false, aI_ok, aJ_ok, aA_ok, aV_ok', aI_thr, aJ_thr, aA_thr, aV_thr, ob_some, on_some, on_none, tg_wI, tg_wJ, tg_wR, ln_wI, ln_wJ, ln_wR, tg_cpI, ln_cpI, tg_cpR, ln_cpR, nx_wI, nx_wJ, nx_wR, sl_wI, sl_wJ, sl_wR, nx_cpI, sl_cpI, nx_cpR, sl_cpR, nx_nw, sl_nw, rJ_wI, rR_wI, rI_wJ, rR_wJ, rI_wR, rJ_wR, rJ_cpI, rR_cpI, rJ_cpR, rI_cpR, rI_wI, rJ_wJ, rq_wI, rq_wJ, rq_wR, rq_cpI, ↓reduceIte, Nat.reduceEqDiff, Nat.reduceAdd, Nat.reduceSub, Nat.reduceMul, Int.reduceAdd, Int.reduceSub, Int.reduceMul, Int.reduceNeg, Int.reduceLT, Int.reduceLE, Int.reduceEq, Int.reduceToNat, Int.sub_zero, Int.add_zero, Int.zero_add, true_and, and_true, false_and, and_false, or_true, true_or, or_false, false_or, not_true_eq_false, not_false_eq_true, eq_self, decide_true, decide_false, Bool.not_false, Bool.not_true, Bool.and_true, Bool.true_and, Bool.or_true, Bool.true_or, Bool.and_self, Bool.or_false, Bool.false_or, Bool.and_false, Bool.false_and]
        have := ih (x + 1) False (by omega) (by omega) (by omega)
        rw [bi_neg (fun h => h)] at this
        rw [this, bi_neg (fun h => h.1), bi_neg (fun h => ha h.1)]
theorem win_y (d : Nat) {s : St} {n m : Nat} {sh i j : Int} (hn : rI s 714 10 = I3 n) (hm : rI s 714 11 = I3 m) (n1 : n ≤ 64) (m1 : m ≤ 64) (s1 : 0 ≤ sh) (s2 : sh ≤ 5) (hi : 0 ≤ i ∧ i < 64) (hj : 0 ≤ j ∧ j < 64) (hA : ∀ i j, i < n → j < m → rI s 720 (64 * j + i) = I3 0 ∨ rI s 720 (64 * j + i) = I3 1) :
    ∀ (t : Nat) (y : Int) (al : Prop), sh + 1 - y ≤ t → -sh ≤ y → y ≤ sh + 1 →
    DD L (d + 1) 218 32 [.ref 714, .int (I3 sh), .int (I3 j), .int (I3 i), .int (bi al), .int (I3 y)] s = DD L (d + 1) 218 32 [.ref 714, .int (I3 sh), .int (I3 j), .int (I3 i), .int (bi (al ∧ ∀ dy, y ≤ dy → dy ≤ sh → ∀ dx, -sh ≤ dx → dx ≤ sh → cellIn (rI s 720) n m (i + dx) (j + dy))), .int (I3 (sh + 1))] s := by
  intro t
  induction t with
  | zero =>
    intro y al ht y1 y2
    rw [show y = sh + 1 by omega, bi_congr (p := al)]
    exact ⟨fun h => ⟨h, fun dx d1 d2 => by omega⟩, fun h => h.1⟩
  | succ t ih =>
    intro y al ht y1 y2
    by_cases cy : sh < y
    · rw [show y = sh + 1 by omega, bi_congr (p := al)]
      exact ⟨fun h => ⟨h, fun dx d1 d2 => by omega⟩, fun h => h.1⟩
    · rw [E_X8_fill_32]
      simp (disch := omega) only [I3_of, I6_of, I3_nat, I3_add, I3_sub, I3_mul, I3_neg, I6_add, I6_sub, I6_mul, I6_neg, I3_lt, I3_le, I3_eq, I6_lt, I6_le, I6_eq, I3_cl, I3_64, I6_32, cmp_pos', cmp_neg', cmp_eq', inb_I, cond_true, cond_false, aI_ok, aJ_ok, aA_ok, aV_ok', aI_thr, aJ_thr, aA_thr, aV_thr, ob_some, on_some, on_none, tg_wI, tg_wJ, tg_wR, ln_wI, ln_wJ, ln_wR, tg_cpI, ln_cpI, tg_cpR, ln_cpR, nx_wI, nx_wJ, nx_wR, sl_wI, sl_wJ, sl_wR, nx_cpI, sl_cpI, nx_cpR, sl_cpR, nx_nw, sl_nw, rJ_wI, rR_wI, rI_wJ, rR_wJ, rI_wR, rJ_wR, rJ_cpI, rR_cpI, rJ_cpR, rI_cpR, rI_wI, rJ_wJ, rq_wI, rq_wJ, rq_wR, rq_cpI, ↓reduceIte, Nat.reduceEqDiff, Nat.reduceAdd, Nat.reduceSub, Nat.reduceMul, Int.reduceAdd, Int.reduceSub, Int.reduceMul, Int.reduceNeg, Int.reduceLT, Int.reduceLE, Int.reduceEq, Int.reduceToNat, Int.sub_zero, Int.add_zero, Int.zero_add, true_and, and_true, false_and, and_false, or_true, true_or, or_false, false_or, not_true_eq_false, not_false_eq_true, eq_self, decide_true, decide_false, Bool.not_false, Bool.not_true, Bool.and_true, Bool.true_and, Bool.or_true, Bool.true_or, Bool.and_self, Bool.or_false, Bool.false_or, Bool.and_false, Bool.false_and]
      rw [if_neg cy, win_x d hn hm n1 m1 s1 s2 hi hj (by omega) hA _ (-sh) al (Int.self_le_toNat _) (by omega) (by omega), ih (y + 1) _ (by omega) (by omega) (by omega), bi_congr]
      refine ⟨fun h => ⟨h.1.1, fun dy d1 d2 dx e1 e2 => ?_⟩, fun h => ⟨⟨h.1, fun dx d1 d2 => h.2 y (by omega) (by omega) dx d1 d2⟩, fun dy d1 d2 => h.2 dy (by omega) d2⟩⟩
      by_cases e : dy = y
      · rw [e]; exact h.1.2 dx e1 e2
      · exact h.2 dy (by omega) d2 dx e1 e2
end FILL
