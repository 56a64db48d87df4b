/-! ===== spans ===== -/
section SPANS
variable {L : Nat}
/-- where a row of spans lies -/
def SpA (p : Nat) : Prop := p = 19 ∨ (23 ≤ p ∧ p < 629 ∧ (p - 23) % 3 = 0)
theorem bltF {a b : Nat} (h : b ≤ a) : Nat.blt a b = false := by rw [Bool.eq_false_iff, ne_eq, Nat.blt_eq]; omega
theorem bltT {a b : Nat} (h : a < b) : Nat.blt a b = true := Nat.blt_eq.mpr h
theorem beqF {a b : Nat} (h : a ≠ b) : Nat.beq a b = false := by rw [Bool.eq_false_iff, ne_eq, Nat.beq_eq]; exact h
theorem sp_facts {p : Nat} (h : SpA p) (s : St) : tg (FF L) s p = 1 ∧ tg (FF L) s (p + 1) = 65 ∧ tg (FF L) s (p + 2) = 65 ∧ ln (FF L) s (p + 1) = 101 ∧ ln (FF L) s (p + 2) = 101 ∧ rR (FF L) s p 0 = some (p + 1) ∧ rR (FF L) s p 1 = some (p + 2) := by
  rcases h with rfl | ⟨h1, h2, h3⟩
  · exact ⟨rfl, rfl, rfl, rfl, rfl, rfl, rfl⟩
  · have b0 : ∀ q, p ≤ q → q ≤ p + 2 → Nat.blt q (FF L).1 = true := fun q a b => bltT (show q < 776 by omega)
    have b1 : ∀ q, p ≤ q → q ≤ p + 2 → Nat.blt q 23 = false := fun q a b => bltF (by omega)
    have b2 : ∀ q, p ≤ q → q ≤ p + 2 → Nat.blt q 629 = true := fun q a b => bltT (by omega)
    have m0 : Nat.beq ((p - 23) % 3) 0 = true := by rw [h3]; rfl
    have m1 : Nat.beq ((p + 1 - 23) % 3) 0 = false := beqF (by omega)
    have m2 : Nat.beq ((p + 2 - 23) % 3) 0 = false := beqF (by omega)
    have T : ∀ q, p ≤ q → q ≤ p + 2 → tg (FF L) s q = bif Nat.beq ((q - 23) % 3) 0 then 1 else 65 := by
      intro q a b
      unfold tg
      rw [b0 q a b]
      show FT q = _
      unfold FT
      rw [b1 q a b, b2 q a b]; rfl
    have N : ∀ q, p ≤ q → q ≤ p + 2 → ln (FF L) s q = bif Nat.beq ((q - 23) % 3) 0 then 0 else 101 := by
      intro q a b
      unfold ln
      rw [b0 q a b]
      show (bif Nat.beq q 0 then L else FLn q) = _
      rw [beqF (show q ≠ 0 by omega)]
      show FLn q = _
      unfold FLn
      rw [b1 q a b, b2 q a b]; rfl
    have R : ∀ k, fR (FF L) p k = bif Nat.beq k 0 then some (p + 1) else bif Nat.beq k 1 then some (p + 2) else none := by
      intro k
      unfold fR
      rw [b0 p (Nat.le_refl _) (by omega)]
      show FRf p k = _
      unfold FRf
      rw [b1 p (Nat.le_refl _) (by omega), b2 p (Nat.le_refl _) (by omega), m0]; rfl
    refine ⟨?_, ?_, ?_, ?_, ?_, ?_, ?_⟩
    · rw [T p (Nat.le_refl _) (by omega), m0]; rfl
    · rw [T (p + 1) (by omega) (by omega), m1]; rfl
    · rw [T (p + 2) (by omega) (by omega), m2]; rfl
    · rw [N (p + 1) (by omega) (by omega), m1]; rfl
    · rw [N (p + 2) (by omega) (by omega), m2]; rfl
    · rw [rR_rq, R]; rfl
    · rw [rR_rq, R]; rfl
theorem sp_md {p : Nat} (h : SpA p) {σ : St} {q k : Nat} (h1 : p ≤ q) (h2 : q ≤ p + 2) : md σ q k = 4 := by
  have hq : 19 ≤ q ∧ q < 629 := by rcases h with h | h <;> omega
  unfold md
  rw [bltT (show q < 776 by omega), beqF (show q ≠ 16 by omega), beqF (show q ≠ 714 by omega), bltT (show q < 714 by omega), bltF (show 16 ≤ q by omega), bltF (show 19 ≤ q by omega), bltT (show q < 629 by omega)]
  rfl
def Sp (s : St) (p c : Nat) (F G : Nat → Int) : Prop := rI s p 2 = I3 c ∧ c ≤ 100 ∧ (∀ k, k < c → rJ s (p + 1) k = I6 (F k) ∧ rJ s (p + 2) k = I6 (G k) ∧ F k < G k ∧ -3000000 ≤ F k ∧ G k ≤ 3000000) ∧ ∀ k, k + 1 < c → G k < F (k + 1)
def SIn (c : Nat) (F G : Nat → Int) (z : Int) : Prop := ∃ k, k < c ∧ F k ≤ z ∧ z < G k
/-- the rows at p alone are changed -/
def OnlyS (p : Nat) (s τ : St) : Prop := Fr [4] s τ ∧ nx τ = nx s ∧ sl τ = sl s ∧ (∀ a k, a ≠ p → rI τ a k = rI s a k) ∧ (∀ a k, a ≠ p + 1 → a ≠ p + 2 → rJ τ a k = rJ s a k) ∧ ∀ a k, rq τ a k = rq s a k
theorem onlyS_refl {p : Nat} {s : St} : OnlyS p s s := ⟨fr_refl, rfl, rfl, fun _ _ _ => rfl, fun _ _ _ _ => rfl, fun _ _ => rfl⟩
theorem onlyS_tr {p : Nat} {s τ υ : St} (h1 : OnlyS p s τ) (h2 : OnlyS p τ υ) : OnlyS p s υ := ⟨fr_tr h1.1 h2.1, h2.2.1.trans h1.2.1, h2.2.2.1.trans h1.2.2.1, fun a k h => (h2.2.2.2.1 a k h).trans (h1.2.2.2.1 a k h), fun a k h h' => (h2.2.2.2.2.1 a k h h').trans (h1.2.2.2.2.1 a k h h'), fun a k => (h2.2.2.2.2.2 a k).trans (h1.2.2.2.2.2 a k)⟩
theorem onlyS_c {p : Nat} (h : SpA p) {s : St} {v : Int32} : OnlyS p s (wI s p 2 v) := ⟨fr_wI (by rw [sp_md h (Nat.le_refl _) (by omega)]; rfl), rfl, rfl, fun _ _ h => rI_wIn h, fun _ _ _ _ => rfl, fun _ _ => rfl⟩
theorem sp_keep {p q c : Nat} {F G : Nat → Int} {s τ : St} (hp : SpA p) (hq : SpA q) (hne : p ≠ q) (h : OnlyS q s τ) (hs : Sp s p c F G) : Sp τ p c F G := by
  have e : p ≠ q + 1 ∧ p ≠ q + 2 ∧ p + 1 ≠ q + 1 ∧ p + 1 ≠ q + 2 ∧ p + 2 ≠ q + 1 ∧ p + 2 ≠ q + 2 := by
    unfold SpA at hp hq; omega
  obtain ⟨h1, h2, h3, h4⟩ := hs
  refine ⟨(h.2.2.2.1 p 2 hne).trans h1, h2, fun k hk => ?_, h4⟩
  obtain ⟨a, b, c⟩ := h3 k hk
  exact ⟨(h.2.2.2.2.1 _ k e.2.2.1 e.2.2.2.1).trans a, (h.2.2.2.2.1 _ k e.2.2.2.2.1 e.2.2.2.2.2).trans b, c⟩
theorem add_s (d : Nat) {s : St} {p c : Nat} {F G : Nat → Int} {a b : Int} (hp : SpA p) (hs : Sp s p c F G) (hc : c < 100) (hab : a < b) (ha : -3000000 ≤ a) (hb : b ≤ 3000000) (hlast : ∀ k, k + 1 = c → G k < a) :
    ∃ τ, DD L d 109 0 [.ref p, .long (I6 a), .long (I6 b)] s = ok none τ ∧ OnlyS p s τ ∧ Sp τ p (c + 1) (fun k => if k = c then a else F k) (fun k => if k = c then b else G k) := by
  obtain ⟨t1, t2, t3, t4, t5, t6, t7⟩ := sp_facts (L := L) hp s
  obtain ⟨h1, h2, h3, h4⟩ := hs
  have m1 : memN 1 [1] = true := rfl
  have m2 : Nat.beq 65 65 = true := rfl
  refine ⟨wI (wJ (wJ s (p + 1) c (I6 a)) (p + 2) c (I6 b)) p 2 (I3 ((c : Int) + 1)), ?_, ⟨?_, rfl, rfl, fun x k h => ?_, fun x k h h' => ?_, fun _ _ => rfl⟩, ?_, by omega, fun k hk => ?_, fun k hk => ?_⟩
  · rw [E_X1_add_0]
    simp (disch := omega) only [I3_of, I6_of, I3_nat, I3_add, I3_sub, I3_mul, I3_neg, I6_add, I6_sub, I6_mul, I6_neg, I3_lt, I3_le, I3_eq, I6_lt, I6_le, I6_eq, I3_cl, I3_64, I6_32, cmp_pos', cmp_neg', cmp_eq', inb_I, cond_true, cond_false, aI_ok, aJ_ok, aA_ok, aV_ok', aI_thr, aJ_thr, aA_thr, aV_thr, ob_some, on_some, on_none, tg_wI, tg_wJ, tg_wR, ln_wI, ln_wJ, ln_wR, tg_cpI, ln_cpI, tg_cpR, ln_cpR, nx_wI, nx_wJ, nx_wR, sl_wI, sl_wJ, sl_wR, nx_cpI, sl_cpI, nx_cpR, sl_cpR, nx_nw, sl_nw, rJ_wI, rR_wI, rI_wJ, rR_wJ, rI_wR, rJ_wR, rJ_cpI, rR_cpI, rJ_cpR, rI_cpR, rI_wI, rJ_wJ, rq_wI, rq_wJ, rq_wR, rq_cpI, ↓reduceIte, Nat.reduceEqDiff, Nat.reduceAdd, Nat.reduceSub, Nat.reduceMul, Int.reduceAdd, Int.reduceSub, Int.reduceMul, Int.reduceNeg, Int.reduceLT, Int.reduceLE, Int.reduceEq, Int.reduceToNat, Int.sub_zero, Int.add_zero, Int.zero_add, true_and, and_true, false_and, and_false, or_true, true_or, or_false, false_or, not_true_eq_false, not_false_eq_true, eq_self, decide_true, decide_false, Bool.not_false, Bool.not_true, Bool.and_true, Bool.true_and, Bool.or_true, Bool.true_or, Bool.and_self, Bool.or_false, Bool.false_or, Bool.and_false, Bool.false_and, t1, t2, t3, t4, t5, t6, t7, m1, m2, h1, Int.toNat_natCast]
    rw [if_pos hab]
  · exact fr_wI' (fr_wJ' (fr_wJ (by rw [sp_md hp (by omega) (by omega)]; rfl)) (by rw [sp_md hp (by omega) (by omega)]; rfl)) (by rw [sp_md hp (Nat.le_refl _) (by omega)]; rfl)
  · simp (disch := omega) only [I3_of, I6_of, I3_nat, I3_add, I3_sub, I3_mul, I3_neg, I6_add, I6_sub, I6_mul, I6_neg, I3_lt, I3_le, I3_eq, I6_lt, I6_le, I6_eq, I3_cl, I3_64, I6_32, cmp_pos', cmp_neg', cmp_eq', inb_I, cond_true, cond_false, aI_ok, aJ_ok, aA_ok, aV_ok', aI_thr, aJ_thr, aA_thr, aV_thr, ob_some, on_some, on_none, tg_wI, tg_wJ, tg_wR, ln_wI, ln_wJ, ln_wR, tg_cpI, ln_cpI, tg_cpR, ln_cpR, nx_wI, nx_wJ, nx_wR, sl_wI, sl_wJ, sl_wR, nx_cpI, sl_cpI, nx_cpR, sl_cpR, nx_nw, sl_nw, rJ_wI, rR_wI, rI_wJ, rR_wJ, rI_wR, rJ_wR, rJ_cpI, rR_cpI, rJ_cpR, rI_cpR, rI_wI, rJ_wJ, rq_wI, rq_wJ, rq_wR, rq_cpI, ↓reduceIte, Nat.reduceEqDiff, Nat.reduceAdd, Nat.reduceSub, Nat.reduceMul, Int.reduceAdd, Int.reduceSub, Int.reduceMul, Int.reduceNeg, Int.reduceLT, Int.reduceLE, Int.reduceEq, Int.reduceToNat, Int.sub_zero, Int.add_zero, Int.zero_add, true_and, and_true, false_and, and_false, or_true, true_or, or_false, false_or, not_true_eq_false, not_false_eq_true, eq_self, decide_true, decide_false, Bool.not_false, Bool.not_true, Bool.and_true, Bool.true_and, Bool.or_true, Bool.true_or, Bool.and_self, Bool.or_false, Bool.false_or, Bool.and_false, Bool.false_and, h]
  · simp (disch := omega) only [I3_of, I6_of, I3_nat, I3_add, I3_sub, I3_mul, I3_neg, I6_add, I6_sub, I6_mul, I6_neg, I3_lt, I3_le, I3_eq, I6_lt, I6_le, I6_eq, I3_cl, I3_64, I6_32, cmp_pos', cmp_neg', cmp_eq', inb_I, cond_true, cond_false, aI_ok, aJ_ok, aA_ok, aV_ok', aI_thr, aJ_thr, aA_thr, aV_thr, ob_some, on_some, on_none, tg_wI, tg_wJ, tg_wR, ln_wI, ln_wJ, ln_wR, tg_cpI, ln_cpI, tg_cpR, ln_cpR, nx_wI, nx_wJ, nx_wR, sl_wI, sl_wJ, sl_wR, nx_cpI, sl_cpI, nx_cpR, sl_cpR, nx_nw, sl_nw, rJ_wI, rR_wI, rI_wJ, rR_wJ, rI_wR, rJ_wR, rJ_cpI, rR_cpI, rJ_cpR, rI_cpR, rI_wI, rJ_wJ, rq_wI, rq_wJ, rq_wR, rq_cpI, ↓reduceIte, Nat.reduceEqDiff, Nat.reduceAdd, Nat.reduceSub, Nat.reduceMul, Int.reduceAdd, Int.reduceSub, Int.reduceMul, Int.reduceNeg, Int.reduceLT, Int.reduceLE, Int.reduceEq, Int.reduceToNat, Int.sub_zero, Int.add_zero, Int.zero_add, true_and, and_true, false_and, and_false, or_true, true_or, or_false, false_or, not_true_eq_false, not_false_eq_true, eq_self, decide_true, decide_false, Bool.not_false, Bool.not_true, Bool.and_true, Bool.true_and, Bool.or_true, Bool.true_or, Bool.and_self, Bool.or_false, Bool.false_or, Bool.and_false, Bool.false_and, h, h']
  · simp (disch := omega) only [I3_of, I6_of, I3_nat, I3_add, I3_sub, I3_mul, I3_neg, I6_add, I6_sub, I6_mul, I6_neg, I3_lt, I3_le, I3_eq, I6_lt, I6_le, I6_eq, I3_cl, I3_64, I6_32, cmp_pos', cmp_neg', cmp_eq', inb_I, cond_true, cond_false, aI_ok, aJ_ok, aA_ok, aV_ok', aI_thr, aJ_thr, aA_thr, aV_thr, ob_some, on_some, on_none, tg_wI, tg_wJ, tg_wR, ln_wI, ln_wJ, ln_wR, tg_cpI, ln_cpI, tg_cpR, ln_cpR, nx_wI, nx_wJ, nx_wR, sl_wI, sl_wJ, sl_wR, nx_cpI, sl_cpI, nx_cpR, sl_cpR, nx_nw, sl_nw, rJ_wI, rR_wI, rI_wJ, rR_wJ, rI_wR, rJ_wR, rJ_cpI, rR_cpI, rJ_cpR, rI_cpR, rI_wI, rJ_wJ, rq_wI, rq_wJ, rq_wR, rq_cpI, ↓reduceIte, Nat.reduceEqDiff, Nat.reduceAdd, Nat.reduceSub, Nat.reduceMul, Int.reduceAdd, Int.reduceSub, Int.reduceMul, Int.reduceNeg, Int.reduceLT, Int.reduceLE, Int.reduceEq, Int.reduceToNat, Int.sub_zero, Int.add_zero, Int.zero_add, true_and, and_true, false_and, and_false, or_true, true_or, or_false, false_or, not_true_eq_false, not_false_eq_true, eq_self, decide_true, decide_false, Bool.not_false, Bool.not_true, Bool.and_true, Bool.true_and, Bool.or_true, Bool.true_or, Bool.and_self, Bool.or_false, Bool.false_or, Bool.and_false, Bool.false_and]
    rfl
  · by_cases e : k = c
    · simp only [if_pos e]
      simp (disch := omega) only [I3_of, I6_of, I3_nat, I3_add, I3_sub, I3_mul, I3_neg, I6_add, I6_sub, I6_mul, I6_neg, I3_lt, I3_le, I3_eq, I6_lt, I6_le, I6_eq, I3_cl, I3_64, I6_32, cmp_pos', cmp_neg', cmp_eq', inb_I, cond_true, cond_false, aI_ok, aJ_ok, aA_ok, aV_ok', aI_thr, aJ_thr, aA_thr, aV_thr, ob_some, on_some, on_none, tg_wI, tg_wJ, tg_wR, ln_wI, ln_wJ, ln_wR, tg_cpI, ln_cpI, tg_cpR, ln_cpR, nx_wI, nx_wJ, nx_wR, sl_wI, sl_wJ, sl_wR, nx_cpI, sl_cpI, nx_cpR, sl_cpR, nx_nw, sl_nw, rJ_wI, rR_wI, rI_wJ, rR_wJ, rI_wR, rJ_wR, rJ_cpI, rR_cpI, rJ_cpR, rI_cpR, rI_wI, rJ_wJ, rq_wI, rq_wJ, rq_wR, rq_cpI, ↓reduceIte, Nat.reduceEqDiff, Nat.reduceAdd, Nat.reduceSub, Nat.reduceMul, Int.reduceAdd, Int.reduceSub, Int.reduceMul, Int.reduceNeg, Int.reduceLT, Int.reduceLE, Int.reduceEq, Int.reduceToNat, Int.sub_zero, Int.add_zero, Int.zero_add, true_and, and_true, false_and, and_false, or_true, true_or, or_false, false_or, not_true_eq_false, not_false_eq_true, eq_self, decide_true, decide_false, Bool.not_false, Bool.not_true, Bool.and_true, Bool.true_and, Bool.or_true, Bool.true_or, Bool.and_self, Bool.or_false, Bool.false_or, Bool.and_false, Bool.false_and, e, show ¬ (p + 1 = p + 2) by omega]
      exact ⟨hab, ha, hb⟩
    · simp only [if_neg e]
      simp (disch := omega) only [I3_of, I6_of, I3_nat, I3_add, I3_sub, I3_mul, I3_neg, I6_add, I6_sub, I6_mul, I6_neg, I3_lt, I3_le, I3_eq, I6_lt, I6_le, I6_eq, I3_cl, I3_64, I6_32, cmp_pos', cmp_neg', cmp_eq', inb_I, cond_true, cond_false, aI_ok, aJ_ok, aA_ok, aV_ok', aI_thr, aJ_thr, aA_thr, aV_thr, ob_some, on_some, on_none, tg_wI, tg_wJ, tg_wR, ln_wI, ln_wJ, ln_wR, tg_cpI, ln_cpI, tg_cpR, ln_cpR, nx_wI, nx_wJ, nx_wR, sl_wI, sl_wJ, sl_wR, nx_cpI, sl_cpI, nx_cpR, sl_cpR, nx_nw, sl_nw, rJ_wI, rR_wI, rI_wJ, rR_wJ, rI_wR, rJ_wR, rJ_cpI, rR_cpI, rJ_cpR, rI_cpR, rI_wI, rJ_wJ, rq_wI, rq_wJ, rq_wR, rq_cpI, ↓reduceIte, Nat.reduceEqDiff, Nat.reduceAdd, Nat.reduceSub, Nat.reduceMul, Int.reduceAdd, Int.reduceSub, Int.reduceMul, Int.reduceNeg, Int.reduceLT, Int.reduceLE, Int.reduceEq, Int.reduceToNat, Int.sub_zero, Int.add_zero, Int.zero_add, true_and, and_true, false_and, and_false, or_true, true_or, or_false, false_or, not_true_eq_false, not_false_eq_true, eq_self, decide_true, decide_false, Bool.not_false, Bool.not_true, Bool.and_true, Bool.true_and, Bool.or_true, Bool.true_or, Bool.and_self, Bool.or_false, Bool.false_or, Bool.and_false, Bool.false_and, e]
      exact h3 k (by omega)
  · simp only [if_neg (show ¬ k = c by omega)]
    by_cases e : k + 1 = c
    · rw [if_pos e]; exact hlast k e
    · rw [if_neg e]; exact h4 k (by omega)
/-- one more behind the last -/
theorem push_s (d : Nat) {s : St} {p c : Nat} {F G : Nat → Int} {a b : Int} (hp : SpA p) (hs : Sp s p c F G) (hc : c < 100) (hab : a < b) (ha : -3000000 ≤ a) (hb : b ≤ 3000000) (hlast : ∀ k, k + 1 = c → G k < a) :
    ∃ τ, DD L (d + 1) 112 0 [.ref p, .long (I6 a), .long (I6 b)] s = ok none τ ∧ OnlyS p s τ ∧ Sp τ p (c + 1) (fun k => if k = c then a else F k) (fun k => if k = c then b else G k) := by
  obtain ⟨τ, r1, r2, r3⟩ := add_s (L := L) d hp hs hc hab ha hb hlast
  refine ⟨τ, ?_, r2, r3⟩
  obtain ⟨t1, t2, t3, t4, t5, t6, t7⟩ := sp_facts (L := L) hp s
  obtain ⟨h1, h2, h3, h4⟩ := hs
  have m1 : memN 1 [1] = true := rfl
  have m2 : Nat.beq 65 65 = true := rfl
  have v1 : lkN 1 [(1, 109, 5)] = some (109, 5) := rfl
  have v2 : Nat.ble (0 + 5 + 11) 64 = true := rfl
  have e38 : DD L (d + 1) 112 38 [.ref p, .long (I6 a), .long (I6 b)] s = ok none τ := by
    rw [E_X1_push_38]
    simp (disch := omega) only [I3_of, I6_of, I3_nat, I3_add, I3_sub, I3_mul, I3_neg, I6_add, I6_sub, I6_mul, I6_neg, I3_lt, I3_le, I3_eq, I6_lt, I6_le, I6_eq, I3_cl, I3_64, I6_32, cmp_pos', cmp_neg', cmp_eq', inb_I, cond_true, cond_false, aI_ok, aJ_ok, aA_ok, aV_ok', aI_thr, aJ_thr, aA_thr, aV_thr, ob_some, on_some, on_none, tg_wI, tg_wJ, tg_wR, ln_wI, ln_wJ, ln_wR, tg_cpI, ln_cpI, tg_cpR, ln_cpR, nx_wI, nx_wJ, nx_wR, sl_wI, sl_wJ, sl_wR, nx_cpI, sl_cpI, nx_cpR, sl_cpR, nx_nw, sl_nw, rJ_wI, rR_wI, rI_wJ, rR_wJ, rI_wR, rJ_wR, rJ_cpI, rR_cpI, rJ_cpR, rI_cpR, rI_wI, rJ_wJ, rq_wI, rq_wJ, rq_wR, rq_cpI, ↓reduceIte, Nat.reduceEqDiff, Nat.reduceAdd, Nat.reduceSub, Nat.reduceMul, Int.reduceAdd, Int.reduceSub, Int.reduceMul, Int.reduceNeg, Int.reduceLT, Int.reduceLE, Int.reduceEq, Int.reduceToNat, Int.sub_zero, Int.add_zero, Int.zero_add, true_and, and_true, false_and, and_false, or_true, true_or, or_false, false_or, not_true_eq_false, not_false_eq_true, eq_self, decide_true, decide_false, Bool.not_false, Bool.not_true, Bool.and_true, Bool.true_and, Bool.or_true, Bool.true_or, Bool.and_self, Bool.or_false, Bool.false_or, Bool.and_false, Bool.false_and, t1, vcall_def, v1, v2, r1]
  rw [E_X1_push_0]
  by_cases c0 : 0 < c
  · obtain ⟨q1, q2, q3, q4, q5⟩ := h3 (c - 1) (by omega)
    have hl := hlast (c - 1) (by omega)
    simp (disch := omega) only [I3_of, I6_of, I3_nat, I3_add, I3_sub, I3_mul, I3_neg, I6_add, I6_sub, I6_mul, I6_neg, I3_lt, I3_le, I3_eq, I6_lt, I6_le, I6_eq, I3_cl, I3_64, I6_32, cmp_pos', cmp_neg', cmp_eq', inb_I, cond_true, cond_false, aI_ok, aJ_ok, aA_ok, aV_ok', aI_thr, aJ_thr, aA_thr, aV_thr, ob_some, on_some, on_none, tg_wI, tg_wJ, tg_wR, ln_wI, ln_wJ, ln_wR, tg_cpI, ln_cpI, tg_cpR, ln_cpR, nx_wI, nx_wJ, nx_wR, sl_wI, sl_wJ, sl_wR, nx_cpI, sl_cpI, nx_cpR, sl_cpR, nx_nw, sl_nw, rJ_wI, rR_wI, rI_wJ, rR_wJ, rI_wR, rJ_wR, rJ_cpI, rR_cpI, rJ_cpR, rI_cpR, rI_wI, rJ_wJ, rq_wI, rq_wJ, rq_wR, rq_cpI, ↓reduceIte, Nat.reduceEqDiff, Nat.reduceAdd, Nat.reduceSub, Nat.reduceMul, Int.reduceAdd, Int.reduceSub, Int.reduceMul, Int.reduceNeg, Int.reduceLT, Int.reduceLE, Int.reduceEq, Int.reduceToNat, Int.sub_zero, Int.add_zero, Int.zero_add, true_and, and_true, false_and, and_false, or_true, true_or, or_false, false_or, not_true_eq_false, not_false_eq_true, eq_self, decide_true, decide_false, Bool.not_false, Bool.not_true, Bool.and_true, Bool.true_and, Bool.or_true, Bool.true_or, Bool.and_self, Bool.or_false, Bool.false_or, Bool.and_false, Bool.false_and, t1, t3, t5, t7, m1, m2, h1]
    rw [if_pos (by omega), show ((c : Int) - 1).toNat = c - 1 by omega, q2]
    simp (disch := omega) only [I3_of, I6_of, I3_nat, I3_add, I3_sub, I3_mul, I3_neg, I6_add, I6_sub, I6_mul, I6_neg, I3_lt, I3_le, I3_eq, I6_lt, I6_le, I6_eq, I3_cl, I3_64, I6_32, cmp_pos', cmp_neg', cmp_eq', inb_I, cond_true, cond_false, aI_ok, aJ_ok, aA_ok, aV_ok', aI_thr, aJ_thr, aA_thr, aV_thr, ob_some, on_some, on_none, tg_wI, tg_wJ, tg_wR, ln_wI, ln_wJ, ln_wR, tg_cpI, ln_cpI, tg_cpR, ln_cpR, nx_wI, nx_wJ, nx_wR, sl_wI, sl_wJ, sl_wR, nx_cpI, sl_cpI, nx_cpR, sl_cpR, nx_nw, sl_nw, rJ_wI, rR_wI, rI_wJ, rR_wJ, rI_wR, rJ_wR, rJ_cpI, rR_cpI, rJ_cpR, rI_cpR, rI_wI, rJ_wJ, rq_wI, rq_wJ, rq_wR, rq_cpI, ↓reduceIte, Nat.reduceEqDiff, Nat.reduceAdd, Nat.reduceSub, Nat.reduceMul, Int.reduceAdd, Int.reduceSub, Int.reduceMul, Int.reduceNeg, Int.reduceLT, Int.reduceLE, Int.reduceEq, Int.reduceToNat, Int.sub_zero, Int.add_zero, Int.zero_add, true_and, and_true, false_and, and_false, or_true, true_or, or_false, false_or, not_true_eq_false, not_false_eq_true, eq_self, decide_true, decide_false, Bool.not_false, Bool.not_true, Bool.and_true, Bool.true_and, Bool.or_true, Bool.true_or, Bool.and_self, Bool.or_false, Bool.false_or, Bool.and_false, Bool.false_and]
    rw [if_neg (by omega)]
    exact e38
  · simp (disch := omega) only [I3_of, I6_of, I3_nat, I3_add, I3_sub, I3_mul, I3_neg, I6_add, I6_sub, I6_mul, I6_neg, I3_lt, I3_le, I3_eq, I6_lt, I6_le, I6_eq, I3_cl, I3_64, I6_32, cmp_pos', cmp_neg', cmp_eq', inb_I, cond_true, cond_false, aI_ok, aJ_ok, aA_ok, aV_ok', aI_thr, aJ_thr, aA_thr, aV_thr, ob_some, on_some, on_none, tg_wI, tg_wJ, tg_wR, ln_wI, ln_wJ, ln_wR, tg_cpI, ln_cpI, tg_cpR, ln_cpR, nx_wI, nx_wJ, nx_wR, sl_wI, sl_wJ, sl_wR, nx_cpI, sl_cpI, nx_cpR, sl_cpR, nx_nw, sl_nw, rJ_wI, rR_wI, rI_wJ, rR_wJ, rI_wR, rJ_wR, rJ_cpI, rR_cpI, rJ_cpR, rI_cpR, rI_wI, rJ_wJ, rq_wI, rq_wJ, rq_wR, rq_cpI, ↓reduceIte, Nat.reduceEqDiff, Nat.reduceAdd, Nat.reduceSub, Nat.reduceMul, Int.reduceAdd, Int.reduceSub, Int.reduceMul, Int.reduceNeg, Int.reduceLT, Int.reduceLE, Int.reduceEq, Int.reduceToNat, Int.sub_zero, Int.add_zero, Int.zero_add, true_and, and_true, false_and, and_false, or_true, true_or, or_false, false_or, not_true_eq_false, not_false_eq_true, eq_self, decide_true, decide_false, Bool.not_false, Bool.not_true, Bool.and_true, Bool.true_and, Bool.or_true, Bool.true_or, Bool.and_self, Bool.or_false, Bool.false_or, Bool.and_false, Bool.false_and, t1, m1, h1]
    rw [if_neg (by omega)]
    exact e38
theorem moved_s (d : Nat) {p c : Nat} {F G : Nat → Int} {by' : Int} (hp : SpA p) (hb : -5000 ≤ by' ∧ by' ≤ 5000) (hc : c ≤ 100) (hFG : ∀ k, k < c → -2500000 ≤ F k ∧ F k < G k ∧ G k ≤ 2500000) :
    ∀ (t k : Nat) (s : St), c - k ≤ t → k ≤ c → rI s p 2 = I3 c → (∀ i, i < c → rJ s (p + 1) i = I6 (if i < k then F i + by' else F i) ∧ rJ s (p + 2) i = I6 (if i < k then G i + by' else G i)) →
    ∃ τ, DD L d 110 2 [.ref p, .long (I6 by'), .int (I3 k)] s = ok none τ ∧ OnlyS p s τ ∧ rI τ p 2 = I3 c ∧ ∀ i, i < c → rJ τ (p + 1) i = I6 (F i + by') ∧ rJ τ (p + 2) i = I6 (G i + by') := by
  have m1 : memN 1 [1] = true := rfl
  have m2 : Nat.beq 65 65 = true := rfl
  intro t
  induction t with
  | zero =>
    intro k s ht hk h1 h2
    obtain ⟨t1, t2, t3, t4, t5, t6, t7⟩ := sp_facts (L := L) hp s
    refine ⟨s, ?_, onlyS_refl, h1, fun i hi => ?_⟩
    · rw [E_X1_moved_2]
      simp (disch := omega) only [I3_of, I6_of, I3_nat, I3_add, I3_sub, I3_mul, I3_neg, I6_add, I6_sub, I6_mul, I6_neg, I3_lt, I3_le, I3_eq, I6_lt, I6_le, I6_eq, I3_cl, I3_64, I6_32, cmp_pos', cmp_neg', cmp_eq', inb_I, cond_true, cond_false, aI_ok, aJ_ok, aA_ok, aV_ok', aI_thr, aJ_thr, aA_thr, aV_thr, ob_some, on_some, on_none, tg_wI, tg_wJ, tg_wR, ln_wI, ln_wJ, ln_wR, tg_cpI, ln_cpI, tg_cpR, ln_cpR, nx_wI, nx_wJ, nx_wR, sl_wI, sl_wJ, sl_wR, nx_cpI, sl_cpI, nx_cpR, sl_cpR, nx_nw, sl_nw, rJ_wI, rR_wI, rI_wJ, rR_wJ, rI_wR, rJ_wR, rJ_cpI, rR_cpI, rJ_cpR, rI_cpR, rI_wI, rJ_wJ, rq_wI, rq_wJ, rq_wR, rq_cpI, ↓reduceIte, Nat.reduceEqDiff, Nat.reduceAdd, Nat.reduceSub, Nat.reduceMul, Int.reduceAdd, Int.reduceSub, Int.reduceMul, Int.reduceNeg, Int.reduceLT, Int.reduceLE, Int.reduceEq, Int.reduceToNat, Int.sub_zero, Int.add_zero, Int.zero_add, true_and, and_true, false_and, and_false, or_true, true_or, or_false, false_or, not_true_eq_false, not_false_eq_true, eq_self, decide_true, decide_false, Bool.not_false, Bool.not_true, Bool.and_true, Bool.true_and, Bool.or_true, Bool.true_or, Bool.and_self, Bool.or_false, Bool.false_or, Bool.and_false, Bool.false_and, t1, m1, h1]
      rw [if_neg (by omega)]
    · have := h2 i hi
      rw [if_pos (by omega), if_pos (by omega)] at this
      exact this
  | succ t ih =>
    intro k s ht hk h1 h2
    obtain ⟨t1, t2, t3, t4, t5, t6, t7⟩ := sp_facts (L := L) hp s
    by_cases ck : k < c
    · obtain ⟨q1, q2⟩ := h2 k ck
      obtain ⟨b1, b2, b3⟩ := hFG k ck
      rw [if_neg (by omega)] at q1 q2
      obtain ⟨τ, r1, r2, r3, r4⟩ := ih (k + 1) (wJ (wJ s (p + 1) k (I6 (F k + by'))) (p + 2) k (I6 (G k + by'))) (by omega) (by omega) h1 (fun i hi => by
        obtain ⟨z1, z2⟩ := h2 i hi
        simp (disch := omega) only [I3_of, I6_of, I3_nat, I3_add, I3_sub, I3_mul, I3_neg, I6_add, I6_sub, I6_mul, I6_neg, I3_lt, I3_le, I3_eq, I6_lt, I6_le, I6_eq, I3_cl, I3_64, I6_32, cmp_pos', cmp_neg', cmp_eq', inb_I, cond_true, cond_false, aI_ok, aJ_ok, aA_ok, aV_ok', aI_thr, aJ_thr, aA_thr, aV_thr, ob_some, on_some, on_none, tg_wI, tg_wJ, tg_wR, ln_wI, ln_wJ, ln_wR, tg_cpI, ln_cpI, tg_cpR, ln_cpR, nx_wI, nx_wJ, nx_wR, sl_wI, sl_wJ, sl_wR, nx_cpI, sl_cpI, nx_cpR, sl_cpR, nx_nw, sl_nw, rJ_wI, rR_wI, rI_wJ, rR_wJ, rI_wR, rJ_wR, rJ_cpI, rR_cpI, rJ_cpR, rI_cpR, rI_wI, rJ_wJ, rq_wI, rq_wJ, rq_wR, rq_cpI, ↓reduceIte, Nat.reduceEqDiff, Nat.reduceAdd, Nat.reduceSub, Nat.reduceMul, Int.reduceAdd, Int.reduceSub, Int.reduceMul, Int.reduceNeg, Int.reduceLT, Int.reduceLE, Int.reduceEq, Int.reduceToNat, Int.sub_zero, Int.add_zero, Int.zero_add, true_and, and_true, false_and, and_false, or_true, true_or, or_false, false_or, not_true_eq_false, not_false_eq_true, eq_self, decide_true, decide_false, Bool.not_false, Bool.not_true, Bool.and_true, Bool.true_and, Bool.or_true, Bool.true_or, Bool.and_self, Bool.or_false, Bool.false_or, Bool.and_false, Bool.false_and, show ¬ (p + 1 = p + 2) by omega, show ¬ (p + 2 = p + 1) by omega]
        by_cases e : i = k
        · subst e
          rw [if_pos rfl, if_pos rfl, if_pos (by omega), if_pos (by omega)]
          exact ⟨rfl, rfl⟩
        · rw [if_neg e, if_neg e]
          by_cases g : i < k
          · rw [if_pos g] at z1 z2
            rw [if_pos (by omega), if_pos (by omega)]
            exact ⟨z1, z2⟩
          · rw [if_neg g] at z1 z2
            rw [if_neg (by omega), if_neg (by omega)]
            exact ⟨z1, z2⟩)
      refine ⟨τ, ?_, onlyS_tr ⟨fr_wJ' (fr_wJ (by rw [sp_md hp (by omega) (by omega)]; rfl)) (by rw [sp_md hp (by omega) (by omega)]; rfl), rfl, rfl, fun _ _ _ => rfl, fun a i h h' => ?_, fun _ _ => rfl⟩ r2, r3, r4⟩
      · rw [E_X1_moved_2]
        simp (disch := omega) only [I3_of, I6_of, I3_nat, I3_add, I3_sub, I3_mul, I3_neg, I6_add, I6_sub, I6_mul, I6_neg, I3_lt, I3_le, I3_eq, I6_lt, I6_le, I6_eq, I3_cl, I3_64, I6_32, cmp_pos', cmp_neg', cmp_eq', inb_I, cond_true, cond_false, aI_ok, aJ_ok, aA_ok, aV_ok', aI_thr, aJ_thr, aA_thr, aV_thr, ob_some, on_some, on_none, tg_wI, tg_wJ, tg_wR, ln_wI, ln_wJ, ln_wR, tg_cpI, ln_cpI, tg_cpR, ln_cpR, nx_wI, nx_wJ, nx_wR, sl_wI, sl_wJ, sl_wR, nx_cpI, sl_cpI, nx_cpR, sl_cpR, nx_nw, sl_nw, rJ_wI, rR_wI, rI_wJ, rR_wJ, rI_wR, rJ_wR, rJ_cpI, rR_cpI, rJ_cpR, rI_cpR, rI_wI, rJ_wJ, rq_wI, rq_wJ, rq_wR, rq_cpI, ↓reduceIte, Nat.reduceEqDiff, Nat.reduceAdd, Nat.reduceSub, Nat.reduceMul, Int.reduceAdd, Int.reduceSub, Int.reduceMul, Int.reduceNeg, Int.reduceLT, Int.reduceLE, Int.reduceEq, Int.reduceToNat, Int.sub_zero, Int.add_zero, Int.zero_add, true_and, and_true, false_and, and_false, or_true, true_or, or_false, false_or, not_true_eq_false, not_false_eq_true, eq_self, decide_true, decide_false, Bool.not_false, Bool.not_true, Bool.and_true, Bool.true_and, Bool.or_true, Bool.true_or, Bool.and_self, Bool.or_false, Bool.false_or, Bool.and_false, Bool.false_and, t1, t2, t3, t4, t5, t6, t7, m1, m2, h1, Int.toNat_natCast, q1, q2, show ¬ (p + 2 = p + 1) by omega]
        rw [if_pos (by omega), show (k : Int) + 1 = ((k + 1 : Nat) : Int) by omega]
        exact r1
      · simp (disch := omega) only [I3_of, I6_of, I3_nat, I3_add, I3_sub, I3_mul, I3_neg, I6_add, I6_sub, I6_mul, I6_neg, I3_lt, I3_le, I3_eq, I6_lt, I6_le, I6_eq, I3_cl, I3_64, I6_32, cmp_pos', cmp_neg', cmp_eq', inb_I, cond_true, cond_false, aI_ok, aJ_ok, aA_ok, aV_ok', aI_thr, aJ_thr, aA_thr, aV_thr, ob_some, on_some, on_none, tg_wI, tg_wJ, tg_wR, ln_wI, ln_wJ, ln_wR, tg_cpI, ln_cpI, tg_cpR, ln_cpR, nx_wI, nx_wJ, nx_wR, sl_wI, sl_wJ, sl_wR, nx_cpI, sl_cpI, nx_cpR, sl_cpR, nx_nw, sl_nw, rJ_wI, rR_wI, rI_wJ, rR_wJ, rI_wR, rJ_wR, rJ_cpI, rR_cpI, rJ_cpR, rI_cpR, rI_wI, rJ_wJ, rq_wI, rq_wJ, rq_wR, rq_cpI, ↓reduceIte, Nat.reduceEqDiff, Nat.reduceAdd, Nat.reduceSub, Nat.reduceMul, Int.reduceAdd, Int.reduceSub, Int.reduceMul, Int.reduceNeg, Int.reduceLT, Int.reduceLE, Int.reduceEq, Int.reduceToNat, Int.sub_zero, Int.add_zero, Int.zero_add, true_and, and_true, false_and, and_false, or_true, true_or, or_false, false_or, not_true_eq_false, not_false_eq_true, eq_self, decide_true, decide_false, Bool.not_false, Bool.not_true, Bool.and_true, Bool.true_and, Bool.or_true, Bool.true_or, Bool.and_self, Bool.or_false, Bool.false_or, Bool.and_false, Bool.false_and, h, h']
    · refine ⟨s, ?_, onlyS_refl, h1, fun i hi => ?_⟩
      · rw [E_X1_moved_2]
        simp (disch := omega) only [I3_of, I6_of, I3_nat, I3_add, I3_sub, I3_mul, I3_neg, I6_add, I6_sub, I6_mul, I6_neg, I3_lt, I3_le, I3_eq, I6_lt, I6_le, I6_eq, I3_cl, I3_64, I6_32, cmp_pos', cmp_neg', cmp_eq', inb_I, cond_true, cond_false, aI_ok, aJ_ok, aA_ok, aV_ok', aI_thr, aJ_thr, aA_thr, aV_thr, ob_some, on_some, on_none, tg_wI, tg_wJ, tg_wR, ln_wI, ln_wJ, ln_wR, tg_cpI, ln_cpI, tg_cpR, ln_cpR, nx_wI, nx_wJ, nx_wR, sl_wI, sl_wJ, sl_wR, nx_cpI, sl_cpI, nx_cpR, sl_cpR, nx_nw, sl_nw, rJ_wI, rR_wI, rI_wJ, rR_wJ, rI_wR, rJ_wR, rJ_cpI, rR_cpI, rJ_cpR, rI_cpR, rI_wI, rJ_wJ, rq_wI, rq_wJ, rq_wR, rq_cpI, ↓reduceIte, Nat.reduceEqDiff, Nat.reduceAdd, Nat.reduceSub, Nat.reduceMul, Int.reduceAdd, Int.reduceSub, Int.reduceMul, Int.reduceNeg, Int.reduceLT, Int.reduceLE, Int.reduceEq, Int.reduceToNat, Int.sub_zero, Int.add_zero, Int.zero_add, true_and, and_true, false_and, and_false, or_true, true_or, or_false, false_or, not_true_eq_false, not_false_eq_true, eq_self, decide_true, decide_false, Bool.not_false, Bool.not_true, Bool.and_true, Bool.true_and, Bool.or_true, Bool.true_or, Bool.and_self, Bool.or_false, Bool.false_or, Bool.and_false, Bool.false_and, t1, m1, h1]
        rw [if_neg (by omega)]
      · have := h2 i hi
        rw [if_pos (by omega), if_pos (by omega)] at this
        exact this
-- the join of two rows
def ib (b : Bool) : Int32 := bif b then I3 1 else I3 0
def opB (how : Int) (a b : Bool) : Bool := if how = 0 then a || b else if how = 1 then a && b else a && !b
def opP (how : Int) (A B : Prop) : Prop := (how = 0 ∧ (A ∨ B)) ∨ (how = 1 ∧ A ∧ B) ∨ (how = 2 ∧ A ∧ ¬ B)
/-- the next place of a row -/
def nxt (c : Nat) (F G : Nat → Int) (i : Nat) (b : Bool) : Int := if i < c then (if b = true then G i else F i) else 9223372036854775807
theorem ib_0 (b : Bool) : (ib b = I3 0) = (b = false) := by
  cases b
  · simp [ib]
  · simp only [ib, cond_true, i3_10, Bool.true_eq_false]
theorem ib_eq (a b : Bool) : (ib a = ib b) = (a = b) := by
  cases a <;> cases b <;> simp [ib, i3_10, i3_01]
section JOIN
variable {s : St} {p x y cx cy : Nat} {F G H K : Nat → Int}
theorem nxt_rng {c : Nat} {F G : Nat → Int} {i : Nat} {b : Bool} (h : ∀ k, k < c → F k < G k ∧ -3000000 ≤ F k ∧ G k ≤ 3000000) : -9223372036854775808 ≤ nxt c F G i b ∧ nxt c F G i b ≤ 9223372036854775807 := by
  unfold nxt
  by_cases c1 : i < c
  · have := h i c1
    rw [if_pos c1]
    split <;> omega
  · rw [if_neg c1]; omega
/-- what comes next in both rows -/
theorem stA (d : Nat) {how : Int} {i j : Nat} {bx by' bo : Bool} {g : Int} (hx : SpA x) (hy : SpA y) (sx : Sp s x cx F G) (sy : Sp s y cy H K) (hi : i ≤ 100) (hj : j ≤ 100) (hl : i < cx ∨ j < cy) :
    DD L d 111 23 [.ref p, .ref x, .ref y, .int (I3 how), .int (I3 i), .int (I3 j), .int (ib bx), .int (ib by'), .int (ib bo), .long (I6 g)] s = DD L d 111 117 [.ref p, .ref x, .ref y, .int (I3 how), .int (I3 i), .int (I3 j), .int (ib bx), .int (ib by'), .int (ib bo), .long (I6 g), .long (I6 (nxt cx F G i bx)), .long (I6 (nxt cy H K j by'))] s := by
  obtain ⟨t1, t2, t3, t4, t5, t6, t7⟩ := sp_facts (L := L) hx s
  obtain ⟨u1, u2, u3, u4, u5, u6, u7⟩ := sp_facts (L := L) hy s
  obtain ⟨x1, x2, x3, x4⟩ := sx
  obtain ⟨y1, y2, y3, y4⟩ := sy
  have m1 : memN 1 [1] = true := rfl
  have m2 : Nat.beq 65 65 = true := rfl
  have e1 : DD L d 111 23 [.ref p, .ref x, .ref y, .int (I3 how), .int (I3 i), .int (I3 j), .int (ib bx), .int (ib by'), .int (ib bo), .long (I6 g)] s = DD L d 111 41 [.ref p, .ref x, .ref y, .int (I3 how), .int (I3 i), .int (I3 j), .int (ib bx), .int (ib by'), .int (ib bo), .long (I6 g)] s := by
    rw [E_X1_joined_23]
    simp (disch := omega) only [I3_of, I6_of, I3_nat, I3_add, I3_sub, I3_mul, I3_neg, I6_add, I6_sub, I6_mul, I6_neg, I3_lt, I3_le, I3_eq, I6_lt, I6_le, I6_eq, I3_cl, I3_64, I6_32, cmp_pos', cmp_neg', cmp_eq', inb_I, cond_true, cond_false, aI_ok, aJ_ok, aA_ok, aV_ok', aI_thr, aJ_thr, aA_thr, aV_thr, ob_some, on_some, on_none, tg_wI, tg_wJ, tg_wR, ln_wI, ln_wJ, ln_wR, tg_cpI, ln_cpI, tg_cpR, ln_cpR, nx_wI, nx_wJ, nx_wR, sl_wI, sl_wJ, sl_wR, nx_cpI, sl_cpI, nx_cpR, sl_cpR, nx_nw, sl_nw, rJ_wI, rR_wI, rI_wJ, rR_wJ, rI_wR, rJ_wR, rJ_cpI, rR_cpI, rJ_cpR, rI_cpR, rI_wI, rJ_wJ, rq_wI, rq_wJ, rq_wR, rq_cpI, ↓reduceIte, Nat.reduceEqDiff, Nat.reduceAdd, Nat.reduceSub, Nat.reduceMul, Int.reduceAdd, Int.reduceSub, Int.reduceMul, Int.reduceNeg, Int.reduceLT, Int.reduceLE, Int.reduceEq, Int.reduceToNat, Int.sub_zero, Int.add_zero, Int.zero_add, true_and, and_true, false_and, and_false, or_true, true_or, or_false, false_or, not_true_eq_false, not_false_eq_true, eq_self, decide_true, decide_false, Bool.not_false, Bool.not_true, Bool.and_true, Bool.true_and, Bool.or_true, Bool.true_or, Bool.and_self, Bool.or_false, Bool.false_or, Bool.and_false, Bool.false_and, t1, u1, m1, x1, y1]
    by_cases c : i < cx
    · rw [if_pos (by omega)]
    · rw [if_neg (by omega), if_pos (by omega)]
  have e2 : DD L d 111 41 [.ref p, .ref x, .ref y, .int (I3 how), .int (I3 i), .int (I3 j), .int (ib bx), .int (ib by'), .int (ib bo), .long (I6 g)] s = DD L d 111 78 [.ref p, .ref x, .ref y, .int (I3 how), .int (I3 i), .int (I3 j), .int (ib bx), .int (ib by'), .int (ib bo), .long (I6 g), .long (I6 (nxt cx F G i bx))] s := by
    rw [E_X1_joined_41]
    unfold nxt
    by_cases c : i < cx
    · obtain ⟨z1, z2, -⟩ := x3 i c
      simp (disch := omega) only [I3_of, I6_of, I3_nat, I3_add, I3_sub, I3_mul, I3_neg, I6_add, I6_sub, I6_mul, I6_neg, I3_lt, I3_le, I3_eq, I6_lt, I6_le, I6_eq, I3_cl, I3_64, I6_32, cmp_pos', cmp_neg', cmp_eq', inb_I, cond_true, cond_false, aI_ok, aJ_ok, aA_ok, aV_ok', aI_thr, aJ_thr, aA_thr, aV_thr, ob_some, on_some, on_none, tg_wI, tg_wJ, tg_wR, ln_wI, ln_wJ, ln_wR, tg_cpI, ln_cpI, tg_cpR, ln_cpR, nx_wI, nx_wJ, nx_wR, sl_wI, sl_wJ, sl_wR, nx_cpI, sl_cpI, nx_cpR, sl_cpR, nx_nw, sl_nw, rJ_wI, rR_wI, rI_wJ, rR_wJ, rI_wR, rJ_wR, rJ_cpI, rR_cpI, rJ_cpR, rI_cpR, rI_wI, rJ_wJ, rq_wI, rq_wJ, rq_wR, rq_cpI, ↓reduceIte, Nat.reduceEqDiff, Nat.reduceAdd, Nat.reduceSub, Nat.reduceMul, Int.reduceAdd, Int.reduceSub, Int.reduceMul, Int.reduceNeg, Int.reduceLT, Int.reduceLE, Int.reduceEq, Int.reduceToNat, Int.sub_zero, Int.add_zero, Int.zero_add, true_and, and_true, false_and, and_false, or_true, true_or, or_false, false_or, not_true_eq_false, not_false_eq_true, eq_self, decide_true, decide_false, Bool.not_false, Bool.not_true, Bool.and_true, Bool.true_and, Bool.or_true, Bool.true_or, Bool.and_self, Bool.or_false, Bool.false_or, Bool.and_false, Bool.false_and, t1, t2, t3, t4, t5, t6, t7, m1, m2, x1, Int.toNat_natCast, z1, z2, ib_0]
      rw [if_pos (by omega), if_pos c]
      cases bx
      · simp (disch := omega) only [I3_of, I6_of, I3_nat, I3_add, I3_sub, I3_mul, I3_neg, I6_add, I6_sub, I6_mul, I6_neg, I3_lt, I3_le, I3_eq, I6_lt, I6_le, I6_eq, I3_cl, I3_64, I6_32, cmp_pos', cmp_neg', cmp_eq', inb_I, cond_true, cond_false, aI_ok, aJ_ok, aA_ok, aV_ok', aI_thr, aJ_thr, aA_thr, aV_thr, ob_some, on_some, on_none, tg_wI, tg_wJ, tg_wR, ln_wI, ln_wJ, ln_wR, tg_cpI, ln_cpI, tg_cpR, ln_cpR, nx_wI, nx_wJ, nx_wR, sl_wI, sl_wJ, sl_wR, nx_cpI, sl_cpI, nx_cpR, sl_cpR, nx_nw, sl_nw, rJ_wI, rR_wI, rI_wJ, rR_wJ, rI_wR, rJ_wR, rJ_cpI, rR_cpI, rJ_cpR, rI_cpR, rI_wI, rJ_wJ, rq_wI, rq_wJ, rq_wR, rq_cpI, ↓reduceIte, Nat.reduceEqDiff, Nat.reduceAdd, Nat.reduceSub, Nat.reduceMul, Int.reduceAdd, Int.reduceSub, Int.reduceMul, Int.reduceNeg, Int.reduceLT, Int.reduceLE, Int.reduceEq, Int.reduceToNat, Int.sub_zero, Int.add_zero, Int.zero_add, true_and, and_true, false_and, and_false, or_true, true_or, or_false, false_or, not_true_eq_false, not_false_eq_true, eq_self, decide_true, decide_false, Bool.not_false, Bool.not_true, Bool.and_true, Bool.true_and, Bool.or_true, Bool.true_or, Bool.and_self, Bool.or_false, Bool.false_or, Bool.and_false, Bool.false_and, Bool.false_eq_true]
      · simp (disch := omega) only [I3_of, I6_of, I3_nat, I3_add, I3_sub, I3_mul, I3_neg, I6_add, I6_sub, I6_mul, I6_neg, I3_lt, I3_le, I3_eq, I6_lt, I6_le, I6_eq, I3_cl, I3_64, I6_32, cmp_pos', cmp_neg', cmp_eq', inb_I, cond_true, cond_false, aI_ok, aJ_ok, aA_ok, aV_ok', aI_thr, aJ_thr, aA_thr, aV_thr, ob_some, on_some, on_none, tg_wI, tg_wJ, tg_wR, ln_wI, ln_wJ, ln_wR, tg_cpI, ln_cpI, tg_cpR, ln_cpR, nx_wI, nx_wJ, nx_wR, sl_wI, sl_wJ, sl_wR, nx_cpI, sl_cpI, nx_cpR, sl_cpR, nx_nw, sl_nw, rJ_wI, rR_wI, rI_wJ, rR_wJ, rI_wR, rJ_wR, rJ_cpI, rR_cpI, rJ_cpR, rI_cpR, rI_wI, rJ_wJ, rq_wI, rq_wJ, rq_wR, rq_cpI, ↓reduceIte, Nat.reduceEqDiff, Nat.reduceAdd, Nat.reduceSub, Nat.reduceMul, Int.reduceAdd, Int.reduceSub, Int.reduceMul, Int.reduceNeg, Int.reduceLT, Int.reduceLE, Int.reduceEq, Int.reduceToNat, Int.sub_zero, Int.add_zero, Int.zero_add, true_and, and_true, false_and, and_false, or_true, true_or, or_false, false_or, not_true_eq_false, not_false_eq_true, eq_self, decide_true, decide_false, Bool.not_false, Bool.not_true, Bool.and_true, Bool.true_and, Bool.or_true, Bool.true_or, Bool.and_self, Bool.or_false, Bool.false_or, Bool.and_false, Bool.false_and, Bool.true_eq_false]
    · simp (disch := omega) only [I3_of, I6_of, I3_nat, I3_add, I3_sub, I3_mul, I3_neg, I6_add, I6_sub, I6_mul, I6_neg, I3_lt, I3_le, I3_eq, I6_lt, I6_le, I6_eq, I3_cl, I3_64, I6_32, cmp_pos', cmp_neg', cmp_eq', inb_I, cond_true, cond_false, aI_ok, aJ_ok, aA_ok, aV_ok', aI_thr, aJ_thr, aA_thr, aV_thr, ob_some, on_some, on_none, tg_wI, tg_wJ, tg_wR, ln_wI, ln_wJ, ln_wR, tg_cpI, ln_cpI, tg_cpR, ln_cpR, nx_wI, nx_wJ, nx_wR, sl_wI, sl_wJ, sl_wR, nx_cpI, sl_cpI, nx_cpR, sl_cpR, nx_nw, sl_nw, rJ_wI, rR_wI, rI_wJ, rR_wJ, rI_wR, rJ_wR, rJ_cpI, rR_cpI, rJ_cpR, rI_cpR, rI_wI, rJ_wJ, rq_wI, rq_wJ, rq_wR, rq_cpI, ↓reduceIte, Nat.reduceEqDiff, Nat.reduceAdd, Nat.reduceSub, Nat.reduceMul, Int.reduceAdd, Int.reduceSub, Int.reduceMul, Int.reduceNeg, Int.reduceLT, Int.reduceLE, Int.reduceEq, Int.reduceToNat, Int.sub_zero, Int.add_zero, Int.zero_add, true_and, and_true, false_and, and_false, or_true, true_or, or_false, false_or, not_true_eq_false, not_false_eq_true, eq_self, decide_true, decide_false, Bool.not_false, Bool.not_true, Bool.and_true, Bool.true_and, Bool.or_true, Bool.true_or, Bool.and_self, Bool.or_false, Bool.false_or, Bool.and_false, Bool.false_and, t1, m1, x1]
      rw [if_neg (by omega), if_neg c]
  have e3 : DD L d 111 78 [.ref p, .ref x, .ref y, .int (I3 how), .int (I3 i), .int (I3 j), .int (ib bx), .int (ib by'), .int (ib bo), .long (I6 g), .long (I6 (nxt cx F G i bx))] s = DD L d 111 117 [.ref p, .ref x, .ref y, .int (I3 how), .int (I3 i), .int (I3 j), .int (ib bx), .int (ib by'), .int (ib bo), .long (I6 g), .long (I6 (nxt cx F G i bx)), .long (I6 (nxt cy H K j by'))] s := by
    rw [E_X1_joined_78]
    rw [show nxt cy H K j by' = (if j < cy then (if by' = true then K j else H j) else 9223372036854775807) from rfl]
    by_cases c : j < cy
    · obtain ⟨z1, z2, -⟩ := y3 j c
      simp (disch := omega) only [I3_of, I6_of, I3_nat, I3_add, I3_sub, I3_mul, I3_neg, I6_add, I6_sub, I6_mul, I6_neg, I3_lt, I3_le, I3_eq, I6_lt, I6_le, I6_eq, I3_cl, I3_64, I6_32, cmp_pos', cmp_neg', cmp_eq', inb_I, cond_true, cond_false, aI_ok, aJ_ok, aA_ok, aV_ok', aI_thr, aJ_thr, aA_thr, aV_thr, ob_some, on_some, on_none, tg_wI, tg_wJ, tg_wR, ln_wI, ln_wJ, ln_wR, tg_cpI, ln_cpI, tg_cpR, ln_cpR, nx_wI, nx_wJ, nx_wR, sl_wI, sl_wJ, sl_wR, nx_cpI, sl_cpI, nx_cpR, sl_cpR, nx_nw, sl_nw, rJ_wI, rR_wI, rI_wJ, rR_wJ, rI_wR, rJ_wR, rJ_cpI, rR_cpI, rJ_cpR, rI_cpR, rI_wI, rJ_wJ, rq_wI, rq_wJ, rq_wR, rq_cpI, ↓reduceIte, Nat.reduceEqDiff, Nat.reduceAdd, Nat.reduceSub, Nat.reduceMul, Int.reduceAdd, Int.reduceSub, Int.reduceMul, Int.reduceNeg, Int.reduceLT, Int.reduceLE, Int.reduceEq, Int.reduceToNat, Int.sub_zero, Int.add_zero, Int.zero_add, true_and, and_true, false_and, and_false, or_true, true_or, or_false, false_or, not_true_eq_false, not_false_eq_true, eq_self, decide_true, decide_false, Bool.not_false, Bool.not_true, Bool.and_true, Bool.true_and, Bool.or_true, Bool.true_or, Bool.and_self, Bool.or_false, Bool.false_or, Bool.and_false, Bool.false_and, u1, u2, u3, u4, u5, u6, u7, m1, m2, y1, Int.toNat_natCast, z1, z2, ib_0]
      rw [if_pos (by omega), if_pos c]
      cases by'
      · simp (disch := omega) only [I3_of, I6_of, I3_nat, I3_add, I3_sub, I3_mul, I3_neg, I6_add, I6_sub, I6_mul, I6_neg, I3_lt, I3_le, I3_eq, I6_lt, I6_le, I6_eq, I3_cl, I3_64, I6_32, cmp_pos', cmp_neg', cmp_eq', inb_I, cond_true, cond_false, aI_ok, aJ_ok, aA_ok, aV_ok', aI_thr, aJ_thr, aA_thr, aV_thr, ob_some, on_some, on_none, tg_wI, tg_wJ, tg_wR, ln_wI, ln_wJ, ln_wR, tg_cpI, ln_cpI, tg_cpR, ln_cpR, nx_wI, nx_wJ, nx_wR, sl_wI, sl_wJ, sl_wR, nx_cpI, sl_cpI, nx_cpR, sl_cpR, nx_nw, sl_nw, rJ_wI, rR_wI, rI_wJ, rR_wJ, rI_wR, rJ_wR, rJ_cpI, rR_cpI, rJ_cpR, rI_cpR, rI_wI, rJ_wJ, rq_wI, rq_wJ, rq_wR, rq_cpI, ↓reduceIte, Nat.reduceEqDiff, Nat.reduceAdd, Nat.reduceSub, Nat.reduceMul, Int.reduceAdd, Int.reduceSub, Int.reduceMul, Int.reduceNeg, Int.reduceLT, Int.reduceLE, Int.reduceEq, Int.reduceToNat, Int.sub_zero, Int.add_zero, Int.zero_add, true_and, and_true, false_and, and_false, or_true, true_or, or_false, false_or, not_true_eq_false, not_false_eq_true, eq_self, decide_true, decide_false, Bool.not_false, Bool.not_true, Bool.and_true, Bool.true_and, Bool.or_true, Bool.true_or, Bool.and_self, Bool.or_false, Bool.false_or, Bool.and_false, Bool.false_and, Bool.false_eq_true]
      · simp (disch := omega) only [I3_of, I6_of, I3_nat, I3_add, I3_sub, I3_mul, I3_neg, I6_add, I6_sub, I6_mul, I6_neg, I3_lt, I3_le, I3_eq, I6_lt, I6_le, I6_eq, I3_cl, I3_64, I6_32, cmp_pos', cmp_neg', cmp_eq', inb_I, cond_true, cond_false, aI_ok, aJ_ok, aA_ok, aV_ok', aI_thr, aJ_thr, aA_thr, aV_thr, ob_some, on_some, on_none, tg_wI, tg_wJ, tg_wR, ln_wI, ln_wJ, ln_wR, tg_cpI, ln_cpI, tg_cpR, ln_cpR, nx_wI, nx_wJ, nx_wR, sl_wI, sl_wJ, sl_wR, nx_cpI, sl_cpI, nx_cpR, sl_cpR, nx_nw, sl_nw, rJ_wI, rR_wI, rI_wJ, rR_wJ, rI_wR, rJ_wR, rJ_cpI, rR_cpI, rJ_cpR, rI_cpR, rI_wI, rJ_wJ, rq_wI, rq_wJ, rq_wR, rq_cpI, ↓reduceIte, Nat.reduceEqDiff, Nat.reduceAdd, Nat.reduceSub, Nat.reduceMul, Int.reduceAdd, Int.reduceSub, Int.reduceMul, Int.reduceNeg, Int.reduceLT, Int.reduceLE, Int.reduceEq, Int.reduceToNat, Int.sub_zero, Int.add_zero, Int.zero_add, true_and, and_true, false_and, and_false, or_true, true_or, or_false, false_or, not_true_eq_false, not_false_eq_true, eq_self, decide_true, decide_false, Bool.not_false, Bool.not_true, Bool.and_true, Bool.true_and, Bool.or_true, Bool.true_or, Bool.and_self, Bool.or_false, Bool.false_or, Bool.and_false, Bool.false_and, Bool.true_eq_false]
    · simp (disch := omega) only [I3_of, I6_of, I3_nat, I3_add, I3_sub, I3_mul, I3_neg, I6_add, I6_sub, I6_mul, I6_neg, I3_lt, I3_le, I3_eq, I6_lt, I6_le, I6_eq, I3_cl, I3_64, I6_32, cmp_pos', cmp_neg', cmp_eq', inb_I, cond_true, cond_false, aI_ok, aJ_ok, aA_ok, aV_ok', aI_thr, aJ_thr, aA_thr, aV_thr, ob_some, on_some, on_none, tg_wI, tg_wJ, tg_wR, ln_wI, ln_wJ, ln_wR, tg_cpI, ln_cpI, tg_cpR, ln_cpR, nx_wI, nx_wJ, nx_wR, sl_wI, sl_wJ, sl_wR, nx_cpI, sl_cpI, nx_cpR, sl_cpR, nx_nw, sl_nw, rJ_wI, rR_wI, rI_wJ, rR_wJ, rI_wR, rJ_wR, rJ_cpI, rR_cpI, rJ_cpR, rI_cpR, rI_wI, rJ_wJ, rq_wI, rq_wJ, rq_wR, rq_cpI, ↓reduceIte, Nat.reduceEqDiff, Nat.reduceAdd, Nat.reduceSub, Nat.reduceMul, Int.reduceAdd, Int.reduceSub, Int.reduceMul, Int.reduceNeg, Int.reduceLT, Int.reduceLE, Int.reduceEq, Int.reduceToNat, Int.sub_zero, Int.add_zero, Int.zero_add, true_and, and_true, false_and, and_false, or_true, true_or, or_false, false_or, not_true_eq_false, not_false_eq_true, eq_self, decide_true, decide_false, Bool.not_false, Bool.not_true, Bool.and_true, Bool.true_and, Bool.or_true, Bool.true_or, Bool.and_self, Bool.or_false, Bool.false_or, Bool.and_false, Bool.false_and, u1, m1, y1]
      rw [if_neg (by omega), if_neg c]
  rw [e1, e2, e3]
/-- the rows go on at a place -/
theorem stB (d : Nat) {how : Int} {i j : Nat} {bx by' bo : Bool} {g u v a : Int} (hu : -9223372036854775808 ≤ u ∧ u ≤ 9223372036854775807) (hv : -9223372036854775808 ≤ v ∧ v ≤ 9223372036854775807) (ha : a = if v < u then v else u) :
    DD L d 111 117 [.ref p, .ref x, .ref y, .int (I3 how), .int (I3 i), .int (I3 j), .int (ib bx), .int (ib by'), .int (ib bo), .long (I6 g), .long (I6 u), .long (I6 v)] s = DD L d 111 184 [.ref p, .ref x, .ref y, .int (I3 how), .int (I3 ((if u = a ∧ bx = true then i + 1 else i : Nat) : Int)), .int (I3 ((if v = a ∧ by' = true then j + 1 else j : Nat) : Int)), .int (ib (if u = a then !bx else bx)), .int (ib (if v = a then !by' else by')), .int (ib bo), .long (I6 g), .long (I6 a)] s := by
  have hmin : (if I6 v < I6 u then I6 v else I6 u) = I6 a := by
    simp only [I6_lt (a := v) (b := u) (by omega)]
    rw [ha]
    split <;> rfl
  have hab : -9223372036854775808 ≤ a ∧ a ≤ 9223372036854775807 := by rw [ha]; split <;> omega
  have e1 : DD L d 111 117 [.ref p, .ref x, .ref y, .int (I3 how), .int (I3 i), .int (I3 j), .int (ib bx), .int (ib by'), .int (ib bo), .long (I6 g), .long (I6 u), .long (I6 v)] s = DD L d 111 156 [.ref p, .ref x, .ref y, .int (I3 how), .int (I3 ((if u = a ∧ bx = true then i + 1 else i : Nat) : Int)), .int (I3 j), .int (ib (if u = a then !bx else bx)), .int (ib by'), .int (ib bo), .long (I6 g), .long (I6 v), .long (I6 a)] s := by
    rw [E_X1_joined_117]
    simp only [hmin]
    simp (disch := omega) only [I3_of, I6_of, I3_nat, I3_add, I3_sub, I3_mul, I3_neg, I6_add, I6_sub, I6_mul, I6_neg, I3_lt, I3_le, I3_eq, I6_lt, I6_le, I6_eq, I3_cl, I3_64, I6_32, cmp_pos', cmp_neg', cmp_eq', inb_I, cond_true, cond_false, aI_ok, aJ_ok, aA_ok, aV_ok', aI_thr, aJ_thr, aA_thr, aV_thr, ob_some, on_some, on_none, tg_wI, tg_wJ, tg_wR, ln_wI, ln_wJ, ln_wR, tg_cpI, ln_cpI, tg_cpR, ln_cpR, nx_wI, nx_wJ, nx_wR, sl_wI, sl_wJ, sl_wR, nx_cpI, sl_cpI, nx_cpR, sl_cpR, nx_nw, sl_nw, rJ_wI, rR_wI, rI_wJ, rR_wJ, rI_wR, rJ_wR, rJ_cpI, rR_cpI, rJ_cpR, rI_cpR, rI_wI, rJ_wJ, rq_wI, rq_wJ, rq_wR, rq_cpI, ↓reduceIte, Nat.reduceEqDiff, Nat.reduceAdd, Nat.reduceSub, Nat.reduceMul, Int.reduceAdd, Int.reduceSub, Int.reduceMul, Int.reduceNeg, Int.reduceLT, Int.reduceLE, Int.reduceEq, Int.reduceToNat, Int.sub_zero, Int.add_zero, Int.zero_add, true_and, and_true, false_and, and_false, or_true, true_or, or_false, false_or, not_true_eq_false, not_false_eq_true, eq_self, decide_true, decide_false, Bool.not_false, Bool.not_true, Bool.and_true, Bool.true_and, Bool.or_true, Bool.true_or, Bool.and_self, Bool.or_false, Bool.false_or, Bool.and_false, Bool.false_and, ib_0]
    by_cases c : u = a
    · rw [if_pos c]
      cases bx
      · simp (disch := omega) only [I3_of, I6_of, I3_nat, I3_add, I3_sub, I3_mul, I3_neg, I6_add, I6_sub, I6_mul, I6_neg, I3_lt, I3_le, I3_eq, I6_lt, I6_le, I6_eq, I3_cl, I3_64, I6_32, cmp_pos', cmp_neg', cmp_eq', inb_I, cond_true, cond_false, aI_ok, aJ_ok, aA_ok, aV_ok', aI_thr, aJ_thr, aA_thr, aV_thr, ob_some, on_some, on_none, tg_wI, tg_wJ, tg_wR, ln_wI, ln_wJ, ln_wR, tg_cpI, ln_cpI, tg_cpR, ln_cpR, nx_wI, nx_wJ, nx_wR, sl_wI, sl_wJ, sl_wR, nx_cpI, sl_cpI, nx_cpR, sl_cpR, nx_nw, sl_nw, rJ_wI, rR_wI, rI_wJ, rR_wJ, rI_wR, rJ_wR, rJ_cpI, rR_cpI, rJ_cpR, rI_cpR, rI_wI, rJ_wJ, rq_wI, rq_wJ, rq_wR, rq_cpI, ↓reduceIte, Nat.reduceEqDiff, Nat.reduceAdd, Nat.reduceSub, Nat.reduceMul, Int.reduceAdd, Int.reduceSub, Int.reduceMul, Int.reduceNeg, Int.reduceLT, Int.reduceLE, Int.reduceEq, Int.reduceToNat, Int.sub_zero, Int.add_zero, Int.zero_add, true_and, and_true, false_and, and_false, or_true, true_or, or_false, false_or, not_true_eq_false, not_false_eq_true, eq_self, decide_true, decide_false, Bool.not_false, Bool.not_true, Bool.and_true, Bool.true_and, Bool.or_true, Bool.true_or, Bool.and_self, Bool.or_false, Bool.false_or, Bool.and_false, Bool.false_and, c, E_X1_joined_144, E_X1_joined_154, ib_0, Bool.false_eq_true, Bool.not_false]
        rfl
      · simp (disch := omega) only [I3_of, I6_of, I3_nat, I3_add, I3_sub, I3_mul, I3_neg, I6_add, I6_sub, I6_mul, I6_neg, I3_lt, I3_le, I3_eq, I6_lt, I6_le, I6_eq, I3_cl, I3_64, I6_32, cmp_pos', cmp_neg', cmp_eq', inb_I, cond_true, cond_false, aI_ok, aJ_ok, aA_ok, aV_ok', aI_thr, aJ_thr, aA_thr, aV_thr, ob_some, on_some, on_none, tg_wI, tg_wJ, tg_wR, ln_wI, ln_wJ, ln_wR, tg_cpI, ln_cpI, tg_cpR, ln_cpR, nx_wI, nx_wJ, nx_wR, sl_wI, sl_wJ, sl_wR, nx_cpI, sl_cpI, nx_cpR, sl_cpR, nx_nw, sl_nw, rJ_wI, rR_wI, rI_wJ, rR_wJ, rI_wR, rJ_wR, rJ_cpI, rR_cpI, rJ_cpR, rI_cpR, rI_wI, rJ_wJ, rq_wI, rq_wJ, rq_wR, rq_cpI, ↓reduceIte, Nat.reduceEqDiff, Nat.reduceAdd, Nat.reduceSub, Nat.reduceMul, Int.reduceAdd, Int.reduceSub, Int.reduceMul, Int.reduceNeg, Int.reduceLT, Int.reduceLE, Int.reduceEq, Int.reduceToNat, Int.sub_zero, Int.add_zero, Int.zero_add, true_and, and_true, false_and, and_false, or_true, true_or, or_false, false_or, not_true_eq_false, not_false_eq_true, eq_self, decide_true, decide_false, Bool.not_false, Bool.not_true, Bool.and_true, Bool.true_and, Bool.or_true, Bool.true_or, Bool.and_self, Bool.or_false, Bool.false_or, Bool.and_false, Bool.false_and, c, E_X1_joined_144, E_X1_joined_154, ib_0, Bool.true_eq_false, Bool.not_true, show (i : Int) + 1 = ((i + 1 : Nat) : Int) by omega]
        rfl
    · rw [if_neg c]
      simp (disch := omega) only [I3_of, I6_of, I3_nat, I3_add, I3_sub, I3_mul, I3_neg, I6_add, I6_sub, I6_mul, I6_neg, I3_lt, I3_le, I3_eq, I6_lt, I6_le, I6_eq, I3_cl, I3_64, I6_32, cmp_pos', cmp_neg', cmp_eq', inb_I, cond_true, cond_false, aI_ok, aJ_ok, aA_ok, aV_ok', aI_thr, aJ_thr, aA_thr, aV_thr, ob_some, on_some, on_none, tg_wI, tg_wJ, tg_wR, ln_wI, ln_wJ, ln_wR, tg_cpI, ln_cpI, tg_cpR, ln_cpR, nx_wI, nx_wJ, nx_wR, sl_wI, sl_wJ, sl_wR, nx_cpI, sl_cpI, nx_cpR, sl_cpR, nx_nw, sl_nw, rJ_wI, rR_wI, rI_wJ, rR_wJ, rI_wR, rJ_wR, rJ_cpI, rR_cpI, rJ_cpR, rI_cpR, rI_wI, rJ_wJ, rq_wI, rq_wJ, rq_wR, rq_cpI, ↓reduceIte, Nat.reduceEqDiff, Nat.reduceAdd, Nat.reduceSub, Nat.reduceMul, Int.reduceAdd, Int.reduceSub, Int.reduceMul, Int.reduceNeg, Int.reduceLT, Int.reduceLE, Int.reduceEq, Int.reduceToNat, Int.sub_zero, Int.add_zero, Int.zero_add, true_and, and_true, false_and, and_false, or_true, true_or, or_false, false_or, not_true_eq_false, not_false_eq_true, eq_self, decide_true, decide_false, Bool.not_false, Bool.not_true, Bool.and_true, Bool.true_and, Bool.or_true, Bool.true_or, Bool.and_self, Bool.or_false, Bool.false_or, Bool.and_false, Bool.false_and, c]
  have e2 : ∀ (i' : Nat) (bx' : Bool), DD L d 111 156 [.ref p, .ref x, .ref y, .int (I3 how), .int (I3 i'), .int (I3 j), .int (ib bx'), .int (ib by'), .int (ib bo), .long (I6 g), .long (I6 v), .long (I6 a)] s = DD L d 111 184 [.ref p, .ref x, .ref y, .int (I3 how), .int (I3 i'), .int (I3 ((if v = a ∧ by' = true then j + 1 else j : Nat) : Int)), .int (ib bx'), .int (ib (if v = a then !by' else by')), .int (ib bo), .long (I6 g), .long (I6 a)] s := by
    intro i' bx'
    rw [E_X1_joined_156]
    simp (disch := omega) only [I3_of, I6_of, I3_nat, I3_add, I3_sub, I3_mul, I3_neg, I6_add, I6_sub, I6_mul, I6_neg, I3_lt, I3_le, I3_eq, I6_lt, I6_le, I6_eq, I3_cl, I3_64, I6_32, cmp_pos', cmp_neg', cmp_eq', inb_I, cond_true, cond_false, aI_ok, aJ_ok, aA_ok, aV_ok', aI_thr, aJ_thr, aA_thr, aV_thr, ob_some, on_some, on_none, tg_wI, tg_wJ, tg_wR, ln_wI, ln_wJ, ln_wR, tg_cpI, ln_cpI, tg_cpR, ln_cpR, nx_wI, nx_wJ, nx_wR, sl_wI, sl_wJ, sl_wR, nx_cpI, sl_cpI, nx_cpR, sl_cpR, nx_nw, sl_nw, rJ_wI, rR_wI, rI_wJ, rR_wJ, rI_wR, rJ_wR, rJ_cpI, rR_cpI, rJ_cpR, rI_cpR, rI_wI, rJ_wJ, rq_wI, rq_wJ, rq_wR, rq_cpI, ↓reduceIte, Nat.reduceEqDiff, Nat.reduceAdd, Nat.reduceSub, Nat.reduceMul, Int.reduceAdd, Int.reduceSub, Int.reduceMul, Int.reduceNeg, Int.reduceLT, Int.reduceLE, Int.reduceEq, Int.reduceToNat, Int.sub_zero, Int.add_zero, Int.zero_add, true_and, and_true, false_and, and_false, or_true, true_or, or_false, false_or, not_true_eq_false, not_false_eq_true, eq_self, decide_true, decide_false, Bool.not_false, Bool.not_true, Bool.and_true, Bool.true_and, Bool.or_true, Bool.true_or, Bool.and_self, Bool.or_false, Bool.false_or, Bool.and_false, Bool.false_and, ib_0]
    by_cases c : v = a
    · rw [if_pos c]
      cases by'
      · simp (disch := omega) only [I3_of, I6_of, I3_nat, I3_add, I3_sub, I3_mul, I3_neg, I6_add, I6_sub, I6_mul, I6_neg, I3_lt, I3_le, I3_eq, I6_lt, I6_le, I6_eq, I3_cl, I3_64, I6_32, cmp_pos', cmp_neg', cmp_eq', inb_I, cond_true, cond_false, aI_ok, aJ_ok, aA_ok, aV_ok', aI_thr, aJ_thr, aA_thr, aV_thr, ob_some, on_some, on_none, tg_wI, tg_wJ, tg_wR, ln_wI, ln_wJ, ln_wR, tg_cpI, ln_cpI, tg_cpR, ln_cpR, nx_wI, nx_wJ, nx_wR, sl_wI, sl_wJ, sl_wR, nx_cpI, sl_cpI, nx_cpR, sl_cpR, nx_nw, sl_nw, rJ_wI, rR_wI, rI_wJ, rR_wJ, rI_wR, rJ_wR, rJ_cpI, rR_cpI, rJ_cpR, rI_cpR, rI_wI, rJ_wJ, rq_wI, rq_wJ, rq_wR, rq_cpI, ↓reduceIte, Nat.reduceEqDiff, Nat.reduceAdd, Nat.reduceSub, Nat.reduceMul, Int.reduceAdd, Int.reduceSub, Int.reduceMul, Int.reduceNeg, Int.reduceLT, Int.reduceLE, Int.reduceEq, Int.reduceToNat, Int.sub_zero, Int.add_zero, Int.zero_add, true_and, and_true, false_and, and_false, or_true, true_or, or_false, false_or, not_true_eq_false, not_false_eq_true, eq_self, decide_true, decide_false, Bool.not_false, Bool.not_true, Bool.and_true, Bool.true_and, Bool.or_true, Bool.true_or, Bool.and_self, Bool.or_false, Bool.false_or, Bool.and_false, Bool.false_and, c, E_X1_joined_172, E_X1_joined_182, ib_0, Bool.false_eq_true, Bool.not_false]
        rfl
      · simp (disch := omega) only [I3_of, I6_of, I3_nat, I3_add, I3_sub, I3_mul, I3_neg, I6_add, I6_sub, I6_mul, I6_neg, I3_lt, I3_le, I3_eq, I6_lt, I6_le, I6_eq, I3_cl, I3_64, I6_32, cmp_pos', cmp_neg', cmp_eq', inb_I, cond_true, cond_false, aI_ok, aJ_ok, aA_ok, aV_ok', aI_thr, aJ_thr, aA_thr, aV_thr, ob_some, on_some, on_none, tg_wI, tg_wJ, tg_wR, ln_wI, ln_wJ, ln_wR, tg_cpI, ln_cpI, tg_cpR, ln_cpR, nx_wI, nx_wJ, nx_wR, sl_wI, sl_wJ, sl_wR, nx_cpI, sl_cpI, nx_cpR, sl_cpR, nx_nw, sl_nw, rJ_wI, rR_wI, rI_wJ, rR_wJ, rI_wR, rJ_wR, rJ_cpI, rR_cpI, rJ_cpR, rI_cpR, rI_wI, rJ_wJ, rq_wI, rq_wJ, rq_wR, rq_cpI, ↓reduceIte, Nat.reduceEqDiff, Nat.reduceAdd, Nat.reduceSub, Nat.reduceMul, Int.reduceAdd, Int.reduceSub, Int.reduceMul, Int.reduceNeg, Int.reduceLT, Int.reduceLE, Int.reduceEq, Int.reduceToNat, Int.sub_zero, Int.add_zero, Int.zero_add, true_and, and_true, false_and, and_false, or_true, true_or, or_false, false_or, not_true_eq_false, not_false_eq_true, eq_self, decide_true, decide_false, Bool.not_false, Bool.not_true, Bool.and_true, Bool.true_and, Bool.or_true, Bool.true_or, Bool.and_self, Bool.or_false, Bool.false_or, Bool.and_false, Bool.false_and, c, E_X1_joined_172, E_X1_joined_182, ib_0, Bool.true_eq_false, Bool.not_true, show (j : Int) + 1 = ((j + 1 : Nat) : Int) by omega]
        rfl
    · rw [if_neg c]
      simp (disch := omega) only [I3_of, I6_of, I3_nat, I3_add, I3_sub, I3_mul, I3_neg, I6_add, I6_sub, I6_mul, I6_neg, I3_lt, I3_le, I3_eq, I6_lt, I6_le, I6_eq, I3_cl, I3_64, I6_32, cmp_pos', cmp_neg', cmp_eq', inb_I, cond_true, cond_false, aI_ok, aJ_ok, aA_ok, aV_ok', aI_thr, aJ_thr, aA_thr, aV_thr, ob_some, on_some, on_none, tg_wI, tg_wJ, tg_wR, ln_wI, ln_wJ, ln_wR, tg_cpI, ln_cpI, tg_cpR, ln_cpR, nx_wI, nx_wJ, nx_wR, sl_wI, sl_wJ, sl_wR, nx_cpI, sl_cpI, nx_cpR, sl_cpR, nx_nw, sl_nw, rJ_wI, rR_wI, rI_wJ, rR_wJ, rI_wR, rJ_wR, rJ_cpI, rR_cpI, rJ_cpR, rI_cpR, rI_wI, rJ_wJ, rq_wI, rq_wJ, rq_wR, rq_cpI, ↓reduceIte, Nat.reduceEqDiff, Nat.reduceAdd, Nat.reduceSub, Nat.reduceMul, Int.reduceAdd, Int.reduceSub, Int.reduceMul, Int.reduceNeg, Int.reduceLT, Int.reduceLE, Int.reduceEq, Int.reduceToNat, Int.sub_zero, Int.add_zero, Int.zero_add, true_and, and_true, false_and, and_false, or_true, true_or, or_false, false_or, not_true_eq_false, not_false_eq_true, eq_self, decide_true, decide_false, Bool.not_false, Bool.not_true, Bool.and_true, Bool.true_and, Bool.or_true, Bool.true_or, Bool.and_self, Bool.or_false, Bool.false_or, Bool.and_false, Bool.false_and, c]
  rw [e1, e2]
/-- whether it is in now -/
theorem stC (d : Nat) {how : Int} {i j : Nat} {bx by' bo : Bool} {g a : Int} (hh : 0 ≤ how ∧ how ≤ 2) :
    DD L d 111 184 [.ref p, .ref x, .ref y, .int (I3 how), .int (I3 i), .int (I3 j), .int (ib bx), .int (ib by'), .int (ib bo), .long (I6 g), .long (I6 a)] s = DD L d 111 244 [.ref p, .ref x, .ref y, .int (I3 how), .int (I3 i), .int (I3 j), .int (ib bx), .int (ib by'), .int (ib bo), .long (I6 g), .long (I6 a), .int (ib (opB how bx by'))] s := by
  rw [E_X1_joined_184]
  have h3 : how = 0 ∨ how = 1 ∨ how = 2 := by omega
  rcases h3 with rfl | rfl | rfl <;> cases bx <;> cases by' <;> simp (disch := omega) only [I3_of, I6_of, I3_nat, I3_add, I3_sub, I3_mul, I3_neg, I6_add, I6_sub, I6_mul, I6_neg, I3_lt, I3_le, I3_eq, I6_lt, I6_le, I6_eq, I3_cl, I3_64, I6_32, cmp_pos', cmp_neg', cmp_eq', inb_I, cond_true, cond_false, aI_ok, aJ_ok, aA_ok, aV_ok', aI_thr, aJ_thr, aA_thr, aV_thr, ob_some, on_some, on_none, tg_wI, tg_wJ, tg_wR, ln_wI, ln_wJ, ln_wR, tg_cpI, ln_cpI, tg_cpR, ln_cpR, nx_wI, nx_wJ, nx_wR, sl_wI, sl_wJ, sl_wR, nx_cpI, sl_cpI, nx_cpR, sl_cpR, nx_nw, sl_nw, rJ_wI, rR_wI, rI_wJ, rR_wJ, rI_wR, rJ_wR, rJ_cpI, rR_cpI, rJ_cpR, rI_cpR, rI_wI, rJ_wJ, rq_wI, rq_wJ, rq_wR, rq_cpI, ↓reduceIte, Nat.reduceEqDiff, Nat.reduceAdd, Nat.reduceSub, Nat.reduceMul, Int.reduceAdd, Int.reduceSub, Int.reduceMul, Int.reduceNeg, Int.reduceLT, Int.reduceLE, Int.reduceEq, Int.reduceToNat, Int.sub_zero, Int.add_zero, Int.zero_add, true_and, and_true, false_and, and_false, or_true, true_or, or_false, false_or, not_true_eq_false, not_false_eq_true, eq_self, decide_true, decide_false, Bool.not_false, Bool.not_true, Bool.and_true, Bool.true_and, Bool.or_true, Bool.true_or, Bool.and_self, Bool.or_false, Bool.false_or, Bool.and_false, Bool.false_and, ib_0, E_X1_joined_198, E_X1_joined_225, E_X1_joined_243, Bool.false_eq_true, Bool.true_eq_false] <;> rfl
/-- a row's place: what lies behind it, what is at hand -/
def RP (c : Nat) (F G : Nat → Int) (i : Nat) (b : Bool) (t : Int) : Prop := i ≤ c ∧ (∀ k, k < i → G k ≤ t) ∧ (b = true → i < c ∧ F i ≤ t ∧ t < G i) ∧ (b = false → i < c → t < F i)
theorem rp_in {c : Nat} {F G : Nat → Int} {i : Nat} {b : Bool} {t : Int} (hs : ∀ k, k < c → F k < G k) (hm : ∀ k, k + 1 < c → G k < F (k + 1)) (h : RP c F G i b t) {z : Int} (z1 : t ≤ z) (z2 : z < nxt c F G i b) : SIn c F G z ↔ b = true := by
  obtain ⟨h1, h2, h3, h4⟩ := h
  have mono : ∀ k l, k < l → l < c → G k < F l := by
    intro k l hkl
    induction l with
    | zero => omega
    | succ l ih =>
      intro hl
      by_cases e : k = l
      · subst e; exact hm k hl
      · have q1 := ih (by omega) (by omega)
        have q2 := hs l (by omega)
        have q3 := hm l hl
        omega
  constructor
  · intro ⟨k, k1, k2, k3⟩
    cases b
    · exfalso
      by_cases e : k < i
      · have := h2 k e; omega
      · have hic : i < c := by omega
        have q := h4 rfl hic
        unfold nxt at z2
        rw [if_pos hic, if_neg (by decide)] at z2
        by_cases e2 : k = i
        · subst e2; omega
        · have q1 := mono i k (by omega) k1
          have q2 := hs i hic
          omega
    · rfl
  · intro e
    subst e
    obtain ⟨q1, q2, q3⟩ := h3 rfl
    unfold nxt at z2
    rw [if_pos q1, if_pos rfl] at z2
    exact ⟨i, q1, by omega, z2⟩
theorem rp_next {c : Nat} {F G : Nat → Int} {i : Nat} {b : Bool} {t a : Int} (hs : ∀ k, k < c → F k < G k ∧ -3000000 ≤ F k ∧ G k ≤ 3000000) (hm : ∀ k, k + 1 < c → G k < F (k + 1)) (h : RP c F G i b t) (ha : t < a) (ha2 : a ≤ nxt c F G i b) (ha3 : a ≤ 3000000) :
    RP c F G (if nxt c F G i b = a ∧ b = true then i + 1 else i) (if nxt c F G i b = a then !b else b) a := by
  obtain ⟨h1, h2, h3, h4⟩ := h
  by_cases e : nxt c F G i b = a
  · rw [if_pos e]
    unfold nxt at e
    by_cases hic : i < c
    · rw [if_pos hic] at e
      obtain ⟨f1, f2, f3⟩ := hs i hic
      cases b
      · rw [if_neg (by simp)]
        rw [if_neg (by decide)] at e
        refine ⟨h1, fun k hk => by have := h2 k hk; omega, fun _ => ⟨hic, by omega, by omega⟩, fun q => (by cases q)⟩
      · rw [if_pos (by unfold nxt; rw [if_pos hic]; exact ⟨e, rfl⟩)]
        rw [if_pos rfl] at e
        refine ⟨by omega, fun k hk => ?_, fun q => (by cases q), fun _ hc => ?_⟩
        · by_cases w : k = i
          · rw [w]; omega
          · have := h2 k (by omega); omega
        · have := hm i hc; omega
    · rw [if_neg hic] at e
      omega
  · rw [if_neg e, if_neg (fun q => e q.1)]
    have ha4 : a < nxt c F G i b := by omega
    unfold nxt at ha4
    refine ⟨h1, fun k hk => by have := h2 k hk; omega, fun q => ?_, fun q hc => ?_⟩
    · obtain ⟨q1, q2, q3⟩ := h3 q
      rw [if_pos q1, if_pos q] at ha4
      exact ⟨q1, by omega, ha4⟩
    · rw [if_pos hc, if_neg (by rw [q]; decide)] at ha4
      exact ha4
end JOIN
end SPANS
