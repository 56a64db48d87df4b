/-! ===== spans of a solid over a place ===== -/
section OVER
variable {L : Nat}
/-- changed: the rows at p, and the pile from f on -/
def OnlyF (p f : Nat) (s τ : St) : Prop := Fr [4] s τ ∧ nx τ = nx s ∧ sl τ = sl s ∧ (∀ a k, a ≠ p → (a < 23 + 3 * f ∨ 629 ≤ a) → rI τ a k = rI s a k) ∧ (∀ a k, a ≠ p + 1 → a ≠ p + 2 → (a < 23 + 3 * f ∨ 629 ≤ a) → rJ τ a k = rJ s a k) ∧ ∀ a k, rq τ a k = rq s a k
theorem onlyF_S {p f : Nat} {s τ : St} (h : OnlyS p s τ) : OnlyF p f s τ := ⟨h.1, h.2.1, h.2.2.1, fun a k h1 _ => h.2.2.2.1 a k h1, fun a k h1 h2 _ => h.2.2.2.2.1 a k h1 h2, h.2.2.2.2.2⟩
theorem onlyF_tr {p f : Nat} {s τ υ : St} (h1 : OnlyF p f s τ) (h2 : OnlyF p f τ υ) : OnlyF p f s υ := ⟨fr_tr h1.1 h2.1, h2.2.1.trans h1.2.1, h2.2.2.1.trans h1.2.2.1, fun a k h h' => (h2.2.2.2.1 a k h h').trans (h1.2.2.2.1 a k h h'), fun a k h h' h'' => (h2.2.2.2.2.1 a k h h' h'').trans (h1.2.2.2.2.1 a k h h' h''), fun a k => (h2.2.2.2.2.2 a k).trans (h1.2.2.2.2.2 a k)⟩
/-- a row of the pile behind f -/
theorem onlyF_in {p q f g : Nat} {s τ : St} (h : OnlyF q g s τ) (hq : 23 + 3 * f ≤ q ∧ q + 2 < 629) (hg : f ≤ g) : OnlyF p f s τ := ⟨h.1, h.2.1, h.2.2.1, fun a k _ h2 => h.2.2.2.1 a k (by omega) (by omega), fun a k _ _ h3 => h.2.2.2.2.1 a k (by omega) (by omega) (by omega), h.2.2.2.2.2⟩
theorem sp_keepF {p q f c : Nat} {F G : Nat → Int} {s τ : St} (hp : SpA p) (hq : SpA q) (hne : p ≠ q) (hpf : p < 23 + 3 * f) (h : OnlyF q f s τ) (hs : Sp s p c F G) : Sp τ p c F G := by
  have e : p ≠ q + 1 ∧ p ≠ q + 2 ∧ p + 1 ≠ q + 1 ∧ p + 1 ≠ q + 2 ∧ p + 2 ≠ q + 1 ∧ p + 2 ≠ q + 2 ∧ p + 2 < 23 + 3 * f := by
    unfold SpA at hp hq; omega
  obtain ⟨h1, h2, h3, h4⟩ := hs
  refine ⟨(h.2.2.2.1 p 2 hne (by omega)).trans h1, h2, fun k hk => ?_, h4⟩
  obtain ⟨a, b, c⟩ := h3 k hk
  exact ⟨(h.2.2.2.2.1 _ k e.2.2.1 e.2.2.2.1 (by omega)).trans a, (h.2.2.2.2.1 _ k e.2.2.2.2.1 e.2.2.2.2.2.1 (by omega)).trans b, c⟩
/-- the spans are those of a set, in bounds -/
def Ov (τ : St) (p : Nat) (B : Int) (w : Int) (A : Int → Prop) : Prop := ∃ c F G, Sp τ p c F G ∧ (c : Int) ≤ w ∧ (∀ k, k < c → -B ≤ F k ∧ G k ≤ B) ∧ ∀ z, SIn c F G z ↔ A z
theorem sp_none {s : St} {p : Nat} : Sp (wI s p 2 (I3 0)) p 0 (fun _ => 0) (fun _ => 0) := ⟨by simp (disch := omega) only [I3_of, I6_of, I3_nat, I3_add, I3_sub, I3_mul, I3_neg, I6_add, I6_sub, I6_mul, I6_neg, I3_lt, I3_le, I3_eq, I6_lt, I6_le, I6_eq, I3_cl, I3_64, I6_32, cmp_pos', cmp_neg', cmp_eq', inb_I, cond_true, cond_false, aI_ok, aJ_ok, aA_ok, aV_ok', aI_thr, aJ_thr, aA_thr, aV_thr, ob_some, on_some, on_none, tg_wI, tg_wJ, tg_wR, ln_wI, ln_wJ, ln_wR, tg_cpI, ln_cpI, tg_cpR, ln_cpR, nx_wI, nx_wJ, nx_wR, sl_wI, sl_wJ, sl_wR, nx_cpI, sl_cpI, nx_cpR, sl_cpR, nx_nw, sl_nw, rJ_wI, rR_wI, rI_wJ, rR_wJ, rI_wR, rJ_wR, rJ_cpI, rR_cpI, rJ_cpR, rI_cpR, rI_wI, rJ_wJ, rq_wI, rq_wJ, rq_wR, rq_cpI, ↓reduceIte, Nat.reduceEqDiff, Nat.reduceAdd, Nat.reduceSub, Nat.reduceMul, Int.reduceAdd, Int.reduceSub, Int.reduceMul, Int.reduceNeg, Int.reduceLT, Int.reduceLE, Int.reduceEq, Int.reduceToNat, Int.sub_zero, Int.add_zero, Int.zero_add, true_and, and_true, false_and, and_false, or_true, true_or, or_false, false_or, not_true_eq_false, not_false_eq_true, eq_self, decide_true, decide_false, Bool.not_false, Bool.not_true, Bool.and_true, Bool.true_and, Bool.or_true, Bool.true_or, Bool.and_self, Bool.or_false, Bool.false_or, Bool.and_false, Bool.false_and]; rfl, by omega, fun k hk => by omega, fun k hk => by omega⟩
theorem sin_none {F G : Nat → Int} {z : Int} : ¬ SIn 0 F G z := fun ⟨k, k1, _⟩ => by omega
/-- nothing, or one span -/
theorem one_s (d : Nat) {s : St} {p : Nat} {a b B : Int} {A : Int → Prop} (hp : SpA p) (ha : -B ≤ a) (hb : b ≤ B) (hB : B ≤ 3000000) (hA : ∀ z, A z ↔ a ≤ z ∧ z < b) (ha2 : a ≤ 3000000) (hb2 : -3000000 ≤ b) :
    ∃ τ, DD L d 109 0 [.ref p, .long (I6 a), .long (I6 b)] (wI s p 2 (I3 0)) = ok none τ ∧ OnlyS p s τ ∧ Ov τ p B 1 A := by
  by_cases h : a < b
  · obtain ⟨τ, r1, r2, r3⟩ := add_s (L := L) d (s := wI s p 2 (I3 0)) (c := 0) (a := a) (b := b) hp sp_none (by omega) h (by omega) (by omega) (fun k hk => by omega)
    refine ⟨τ, r1, onlyS_tr (onlyS_c hp) r2, 1, _, _, r3, by omega, fun k hk => ?_, fun z => ?_⟩
    · try dsimp only
      rw [if_pos (by omega), if_pos (by omega)]
      exact ⟨ha, hb⟩
    · rw [hA]
      constructor
      · intro ⟨k, k1, k2, k3⟩
        dsimp only at k2 k3
        rw [if_pos (by omega)] at k2 k3
        exact ⟨k2, k3⟩
      · intro ⟨z1, z2⟩
        refine ⟨0, by omega, ?_, ?_⟩
        · exact z1
        · exact z2
  · refine ⟨wI s p 2 (I3 0), ?_, onlyS_c hp, 0, _, _, sp_none, by omega, fun k hk => by omega, fun z => ?_⟩
    · rw [E_X1_add_0]
      simp (disch := omega) only [I3_of, I6_of, I3_nat, I3_add, I3_sub, I3_mul, I3_neg, I6_add, I6_sub, I6_mul, I6_neg, I3_lt, I3_le, I3_eq, I6_lt, I6_le, I6_eq, I3_cl, I3_64, I6_32, cmp_pos', cmp_neg', cmp_eq', inb_I, cond_true, cond_false, aI_ok, aJ_ok, aA_ok, aV_ok', aI_thr, aJ_thr, aA_thr, aV_thr, ob_some, on_some, on_none, tg_wI, tg_wJ, tg_wR, ln_wI, ln_wJ, ln_wR, tg_cpI, ln_cpI, tg_cpR, ln_cpR, nx_wI, nx_wJ, nx_wR, sl_wI, sl_wJ, sl_wR, nx_cpI, sl_cpI, nx_cpR, sl_cpR, nx_nw, sl_nw, rJ_wI, rR_wI, rI_wJ, rR_wJ, rI_wR, rJ_wR, rJ_cpI, rR_cpI, rJ_cpR, rI_cpR, rI_wI, rJ_wJ, rq_wI, rq_wJ, rq_wR, rq_cpI, ↓reduceIte, Nat.reduceEqDiff, Nat.reduceAdd, Nat.reduceSub, Nat.reduceMul, Int.reduceAdd, Int.reduceSub, Int.reduceMul, Int.reduceNeg, Int.reduceLT, Int.reduceLE, Int.reduceEq, Int.reduceToNat, Int.sub_zero, Int.add_zero, Int.zero_add, true_and, and_true, false_and, and_false, or_true, true_or, or_false, false_or, not_true_eq_false, not_false_eq_true, eq_self, decide_true, decide_false, Bool.not_false, Bool.not_true, Bool.and_true, Bool.true_and, Bool.or_true, Bool.true_or, Bool.and_self, Bool.or_false, Bool.false_or, Bool.and_false, Bool.false_and]
      rw [if_neg h]
    · rw [hA]
      exact ⟨fun q => absurd q sin_none, fun q => by omega⟩
theorem none_s {s : St} {p : Nat} {B : Int} {A : Int → Prop} (hp : SpA p) (hA : ∀ z, ¬ A z) : Ov (wI s p 2 (I3 0)) p B 1 A := ⟨0, _, _, sp_none, by omega, fun k hk => by omega, fun z => ⟨fun q => absurd q sin_none, fun q => absurd q (hA z)⟩⟩
section LEAF
variable {σ : St} {a b p : Nat} {f : Nat → Int} {x y : Int}
theorem ne_sp (hp : SpA p) (hb : 776 ≤ b) {k : Nat} {v : Int32} {i : Nat} : rI (wI σ p k v) b i = rI σ b i := rI_wIn (by unfold SpA at hp; omega)
theorem box_over (d : Nat) (i7 : Int32) (hp : SpA p) (h1 : 776 ≤ a) (h2 : σ.1 a = 11) (h3 : rq σ a 1 = some b) (hb : SArr σ b 6 f) (hr : ∀ i, i < 6 → -5000 ≤ f i ∧ f i ≤ 5000) (hx : -1000000 ≤ x ∧ x ≤ 1000000) (hy : -1000000 ≤ y ∧ y ≤ 1000000) :
    ∃ τ, DD L (d + 1) 116 0 [.ref a, .long (I6 x), .long (I6 y), .ref p, .ref 22, .int i7] σ = ok none τ ∧ OnlyS p σ τ ∧ Ov τ p 20000 1 (inK 0 (f 0) (f 1) (f 2) (f 3) (f 4) (f 5) x y) := by
  obtain ⟨b1, b2, b3, b4, b5⟩ := hb
  obtain ⟨sp1, -⟩ := sp_facts (L := L) hp σ
  have t1 : tg (FF L) σ a = 11 := (tg_dyn h1).trans h2
  have t2 : rR (FF L) σ a 1 = some b := (rR_dyn h1).trans h3
  have t3 : tg (FF L) σ b = 64 := (tg_dyn b1).trans b3
  have t4 : ln (FF L) σ b = 6 := (ln_dyn b1).trans b4
  have m0 : memN 1 [1] = true := rfl
  have m1 : memN 11 [11] = true := rfl
  have m2 : Nat.beq 64 64 = true := rfl
  have r0 := hr 0 (by omega)
  have r1 := hr 1 (by omega)
  have r2 := hr 2 (by omega)
  have r3 := hr 3 (by omega)
  have r4 := hr 4 (by omega)
  have r5 := hr 5 (by omega)
  have v1 : lkN 1 [(1, 109, 5)] = some (109, 5) := rfl
  have v2 : Nat.ble (0 + 5 + 11) 64 = true := rfl
  have bp : b ≠ p := by unfold SpA at hp; omega
  have e5 : ∀ i, i < 6 → rI (wI σ p 2 (I3 0)) b i = I3 (f i) := fun i hi => (ne_sp hp b1).trans (b5 i hi)
  obtain ⟨τ, q1, q2, q3⟩ := one_s (L := L) d (s := σ) (a := f 2) (b := f 5) (B := 20000) (A := fun z => f 2 ≤ z ∧ z < f 5) hp (by omega) (by omega) (by omega) (fun z => Iff.rfl) (by omega) (by omega)
  have hcount : rI (wI σ p 2 (I3 0)) p 2 = I3 0 := rI_wIs
  rw [E_X11_over_0]
  simp (maxSteps := 4000000) (disch := omega) only [I3_of, I6_of, I3_nat, I3_add, I3_sub, I3_mul, I3_neg, I6_add, I6_sub, I6_mul, I6_neg, I3_lt, I3_le, I3_eq, I6_lt, I6_le, I6_eq, I3_cl, I3_64, I6_32, cmp_pos', cmp_neg', cmp_eq', inb_I, cond_true, cond_false, aI_ok, aJ_ok, aA_ok, aV_ok', aI_thr, aJ_thr, aA_thr, aV_thr, ob_some, on_some, on_none, tg_wI, tg_wJ, tg_wR, ln_wI, ln_wJ, ln_wR, tg_cpI, ln_cpI, tg_cpR, ln_cpR, nx_wI, nx_wJ, nx_wR, sl_wI, sl_wJ, sl_wR, nx_cpI, sl_cpI, nx_cpR, sl_cpR, nx_nw, sl_nw, rJ_wI, rR_wI, rI_wJ, rR_wJ, rI_wR, rJ_wR, rJ_cpI, rR_cpI, rJ_cpR, rI_cpR, rJ_wJ, rq_wI, rq_wJ, rq_wR, rq_cpI, ↓reduceIte, Nat.reduceEqDiff, Nat.reduceAdd, Nat.reduceSub, Nat.reduceMul, Int.reduceAdd, Int.reduceSub, Int.reduceMul, Int.reduceNeg, Int.reduceLT, Int.reduceLE, Int.reduceEq, Int.reduceToNat, Int.sub_zero, Int.add_zero, Int.zero_add, true_and, and_true, false_and, and_false, or_true, true_or, or_false, false_or, not_true_eq_false, not_false_eq_true, eq_self, decide_true, decide_false, Bool.not_false, Bool.not_true, Bool.and_true, Bool.true_and, Bool.or_true, Bool.true_or, Bool.and_self, Bool.or_false, Bool.false_or, Bool.and_false, Bool.false_and, sp1, m0, t1, t2, t3, t4, m1, m2, e5 0 (by omega), e5 1 (by omega), e5 2 (by omega), e5 3 (by omega), e5 4 (by omega), e5 5 (by omega), vcall_def, v1, v2, q1]
  by_cases c1 : x < f 0
  · rw [if_pos c1]
    exact ⟨_, rfl, onlyS_c hp, none_s hp (fun z => by unfold inK; omega)⟩
  rw [if_neg c1]
  by_cases c2 : x < f 3
  · rw [if_pos c2]
    by_cases c3 : y < f 1
    · rw [if_pos c3]
      exact ⟨_, rfl, onlyS_c hp, none_s hp (fun z => by unfold inK; omega)⟩
    rw [if_neg c3]
    by_cases c4 : y < f 4
    · rw [if_pos c4]
      refine ⟨τ, rfl, q2, ?_⟩
      obtain ⟨c, F, G, s1, s2, s3, s4⟩ := q3
      exact ⟨c, F, G, s1, s2, s3, fun z => (s4 z).trans (by unfold inK; omega)⟩
    · rw [if_neg c4]
      exact ⟨_, rfl, onlyS_c hp, none_s hp (fun z => by unfold inK; omega)⟩
  · rw [if_neg c2]
    exact ⟨_, rfl, onlyS_c hp, none_s hp (fun z => by unfold inK; omega)⟩
theorem post_over (d : Nat) (i7 : Int32) (hp : SpA p) (h1 : 776 ≤ a) (h2 : σ.1 a = 12) (h3 : rq σ a 1 = some b) (hb : SArr σ b 5 f) (hr : ∀ i, i < 6 → -5000 ≤ f i ∧ f i ≤ 5000) (hx : -1000000 ≤ x ∧ x ≤ 1000000) (hy : -1000000 ≤ y ∧ y ≤ 1000000) :
    ∃ τ, DD L (d + 1) 119 0 [.ref a, .long (I6 x), .long (I6 y), .ref p, .ref 22, .int i7] σ = ok none τ ∧ OnlyS p σ τ ∧ Ov τ p 20000 1 (inK 1 (f 0) (f 1) (f 2) (f 3) (f 4) (f 5) x y) := by
  obtain ⟨b1, b2, b3, b4, b5⟩ := hb
  obtain ⟨sp1, -⟩ := sp_facts (L := L) hp σ
  have t1 : tg (FF L) σ a = 12 := (tg_dyn h1).trans h2
  have t2 : rR (FF L) σ a 1 = some b := (rR_dyn h1).trans h3
  have t3 : tg (FF L) σ b = 64 := (tg_dyn b1).trans b3
  have t4 : ln (FF L) σ b = 5 := (ln_dyn b1).trans b4
  have m0 : memN 1 [1] = true := rfl
  have m1 : memN 12 [12] = true := rfl
  have m2 : Nat.beq 64 64 = true := rfl
  have r0 := hr 0 (by omega)
  have r1 := hr 1 (by omega)
  have r2 := hr 2 (by omega)
  have r3 := hr 3 (by omega)
  have r4 := hr 4 (by omega)
  have v1 : lkN 1 [(1, 109, 5)] = some (109, 5) := rfl
  have v2 : Nat.ble (0 + 5 + 11) 64 = true := rfl
  have e5 : ∀ i, i < 5 → rI (wI σ p 2 (I3 0)) b i = I3 (f i) := fun i hi => (ne_sp hp b1).trans (b5 i hi)
  have w1 := sq2_rng (a := x - f 0) (b := y - f 1) (by omega) (by omega)
  have w2 := sq_rng r2
  obtain ⟨τ, q1, q2, q3⟩ := one_s (L := L) d (s := σ) (a := f 3) (b := f 4) (B := 20000) (A := fun z => f 3 ≤ z ∧ z < f 4) hp (by omega) (by omega) (by omega) (fun z => Iff.rfl) (by omega) (by omega)
  rw [E_X12_over_0]
  simp (maxSteps := 4000000) (disch := omega) only [I3_of, I6_of, I3_nat, I3_add, I3_sub, I3_mul, I3_neg, I6_add, I6_sub, I6_mul, I6_neg, I3_lt, I3_le, I3_eq, I6_lt, I6_le, I6_eq, I3_cl, I3_64, I6_32, cmp_pos', cmp_neg', cmp_eq', inb_I, cond_true, cond_false, aI_ok, aJ_ok, aA_ok, aV_ok', aI_thr, aJ_thr, aA_thr, aV_thr, ob_some, on_some, on_none, tg_wI, tg_wJ, tg_wR, ln_wI, ln_wJ, ln_wR, tg_cpI, ln_cpI, tg_cpR, ln_cpR, nx_wI, nx_wJ, nx_wR, sl_wI, sl_wJ, sl_wR, nx_cpI, sl_cpI, nx_cpR, sl_cpR, nx_nw, sl_nw, rJ_wI, rR_wI, rI_wJ, rR_wJ, rI_wR, rJ_wR, rJ_cpI, rR_cpI, rJ_cpR, rI_cpR, rJ_wJ, rq_wI, rq_wJ, rq_wR, rq_cpI, ↓reduceIte, Nat.reduceEqDiff, Nat.reduceAdd, Nat.reduceSub, Nat.reduceMul, Int.reduceAdd, Int.reduceSub, Int.reduceMul, Int.reduceNeg, Int.reduceLT, Int.reduceLE, Int.reduceEq, Int.reduceToNat, Int.sub_zero, Int.add_zero, Int.zero_add, true_and, and_true, false_and, and_false, or_true, true_or, or_false, false_or, not_true_eq_false, not_false_eq_true, eq_self, decide_true, decide_false, Bool.not_false, Bool.not_true, Bool.and_true, Bool.true_and, Bool.or_true, Bool.true_or, Bool.and_self, Bool.or_false, Bool.false_or, Bool.and_false, Bool.false_and, sp1, m0, t1, t2, t3, t4, m1, m2, e5 0 (by omega), e5 1 (by omega), e5 2 (by omega), e5 3 (by omega), e5 4 (by omega), vcall_def, v1, v2, q1, square_h]
  by_cases c1 : f 2 * f 2 < sq2 (x - f 0) (y - f 1)
  · rw [if_pos c1]
    exact ⟨_, rfl, onlyS_c hp, none_s hp (fun z => by unfold inK; omega)⟩
  rw [if_neg c1]
  refine ⟨τ, rfl, q2, ?_⟩
  obtain ⟨c, F, G, s1, s2, s3, s4⟩ := q3
  exact ⟨c, F, G, s1, s2, s3, fun z => (s4 z).trans (by unfold inK; omega)⟩
theorem root_sq {n r t : Int} (h : IsRoot n r) : t * t ≤ n ↔ -r ≤ t ∧ t ≤ r := by
  obtain ⟨h1, h2, h3⟩ := h
  constructor
  · intro ht
    refine ⟨?_, ?_⟩
    · rcases (by omega : t < -r ∨ -r ≤ t) with q | q
      · have : (r + 1) * (r + 1) ≤ (-t) * (-t) := Int.mul_le_mul (by omega) (by omega) (by omega) (by omega)
        rw [Int.neg_mul_neg] at this
        omega
      · exact q
    · rcases (by omega : r < t ∨ t ≤ r) with q | q
      · have : (r + 1) * (r + 1) ≤ t * t := Int.mul_le_mul q q (by omega) (by omega)
        omega
      · exact q
  · intro ht
    have := (sq_rng ht).2
    omega
theorem ball_over (d : Nat) (i7 : Int32) (hp : SpA p) (h1 : 776 ≤ a) (h2 : σ.1 a = 13) (h3 : rq σ a 1 = some b) (hb : SArr σ b 4 f) (hr : ∀ i, i < 6 → -5000 ≤ f i ∧ f i ≤ 5000) (hx : -1000000 ≤ x ∧ x ≤ 1000000) (hy : -1000000 ≤ y ∧ y ≤ 1000000) :
    ∃ τ, DD L (d + 1) 122 0 [.ref a, .long (I6 x), .long (I6 y), .ref p, .ref 22, .int i7] σ = ok none τ ∧ OnlyS p σ τ ∧ Ov τ p 20000 1 (inK 2 (f 0) (f 1) (f 2) (f 3) (f 4) (f 5) x y) := by
  obtain ⟨b1, b2, b3, b4, b5⟩ := hb
  obtain ⟨sp1, -⟩ := sp_facts (L := L) hp σ
  have t1 : tg (FF L) σ a = 13 := (tg_dyn h1).trans h2
  have t2 : rR (FF L) σ a 1 = some b := (rR_dyn h1).trans h3
  have t3 : tg (FF L) σ b = 64 := (tg_dyn b1).trans b3
  have t4 : ln (FF L) σ b = 4 := (ln_dyn b1).trans b4
  have m0 : memN 1 [1] = true := rfl
  have m1 : memN 13 [13] = true := rfl
  have m2 : Nat.beq 64 64 = true := rfl
  have r0 := hr 0 (by omega)
  have r1 := hr 1 (by omega)
  have r2 := hr 2 (by omega)
  have r3 := hr 3 (by omega)
  have v1 : lkN 1 [(1, 109, 5)] = some (109, 5) := rfl
  have v2 : Nat.ble (0 + 5 + 11) 64 = true := rfl
  have e5 : ∀ i, i < 4 → rI (wI σ p 2 (I3 0)) b i = I3 (f i) := fun i hi => (ne_sp hp b1).trans (b5 i hi)
  have w1 := sq2_rng (a := x - f 0) (b := y - f 1) (by omega) (by omega)
  have w2 := sq_rng r3
  rw [E_X13_over_0]
  simp (maxSteps := 4000000) (disch := omega) only [I3_of, I6_of, I3_nat, I3_add, I3_sub, I3_mul, I3_neg, I6_add, I6_sub, I6_mul, I6_neg, I3_lt, I3_le, I3_eq, I6_lt, I6_le, I6_eq, I3_cl, I3_64, I6_32, cmp_pos', cmp_neg', cmp_eq', inb_I, cond_true, cond_false, aI_ok, aJ_ok, aA_ok, aV_ok', aI_thr, aJ_thr, aA_thr, aV_thr, ob_some, on_some, on_none, tg_wI, tg_wJ, tg_wR, ln_wI, ln_wJ, ln_wR, tg_cpI, ln_cpI, tg_cpR, ln_cpR, nx_wI, nx_wJ, nx_wR, sl_wI, sl_wJ, sl_wR, nx_cpI, sl_cpI, nx_cpR, sl_cpR, nx_nw, sl_nw, rJ_wI, rR_wI, rI_wJ, rR_wJ, rI_wR, rJ_wR, rJ_cpI, rR_cpI, rJ_cpR, rI_cpR, rJ_wJ, rq_wI, rq_wJ, rq_wR, rq_cpI, ↓reduceIte, Nat.reduceEqDiff, Nat.reduceAdd, Nat.reduceSub, Nat.reduceMul, Int.reduceAdd, Int.reduceSub, Int.reduceMul, Int.reduceNeg, Int.reduceLT, Int.reduceLE, Int.reduceEq, Int.reduceToNat, Int.sub_zero, Int.add_zero, Int.zero_add, true_and, and_true, false_and, and_false, or_true, true_or, or_false, false_or, not_true_eq_false, not_false_eq_true, eq_self, decide_true, decide_false, Bool.not_false, Bool.not_true, Bool.and_true, Bool.true_and, Bool.or_true, Bool.true_or, Bool.and_self, Bool.or_false, Bool.false_or, Bool.and_false, Bool.false_and, sp1, m0, t1, t2, t3, t4, m1, m2, e5 0 (by omega), e5 1 (by omega), e5 2 (by omega), e5 3 (by omega), vcall_def, v1, v2, square_h]
  by_cases c1 : f 3 * f 3 - sq2 (x - f 0) (y - f 1) < 0
  · rw [if_pos c1]
    refine ⟨_, rfl, onlyS_c hp, none_s hp (fun z q => ?_)⟩
    have w3 := sq_rng (a := z - f 2) (b := if 0 ≤ z - f 2 then z - f 2 else -(z - f 2)) (by split <;> omega)
    unfold inK at q
    omega
  rw [if_neg c1]
  have hR := rt_root (n := f 3 * f 3 - sq2 (x - f 0) (y - f 1)) (by omega)
  have hr5 : rt (f 3 * f 3 - sq2 (x - f 0) (y - f 1)) ≤ 5000 := by
    rcases (by omega : 5000 < rt (f 3 * f 3 - sq2 (x - f 0) (y - f 1)) ∨ rt (f 3 * f 3 - sq2 (x - f 0) (y - f 1)) ≤ 5000) with q | q
    · have : 5001 * 5001 ≤ rt (f 3 * f 3 - sq2 (x - f 0) (y - f 1)) * rt (f 3 * f 3 - sq2 (x - f 0) (y - f 1)) := Int.mul_le_mul (by omega) (by omega) (by omega) (by omega)
      have := hR.2.1
      omega
    · exact q
  have hr0 := hR.1
  rw [rootC' d _ (by omega)]
  obtain ⟨τ, q1, q2, q3⟩ := one_s (L := L) d (s := σ) (a := f 2 - rt (f 3 * f 3 - sq2 (x - f 0) (y - f 1))) (b := f 2 + rt (f 3 * f 3 - sq2 (x - f 0) (y - f 1)) + 1) (B := 20000) (A := fun z => f 2 - rt (f 3 * f 3 - sq2 (x - f 0) (y - f 1)) ≤ z ∧ z < f 2 + rt (f 3 * f 3 - sq2 (x - f 0) (y - f 1)) + 1) hp (by omega) (by omega) (by omega) (fun z => Iff.rfl) (by omega) (by omega)
  simp (maxSteps := 4000000) (disch := omega) only [I3_of, I6_of, I3_nat, I3_add, I3_sub, I3_mul, I3_neg, I6_add, I6_sub, I6_mul, I6_neg, I3_lt, I3_le, I3_eq, I6_lt, I6_le, I6_eq, I3_cl, I3_64, I6_32, cmp_pos', cmp_neg', cmp_eq', inb_I, cond_true, cond_false, aI_ok, aJ_ok, aA_ok, aV_ok', aI_thr, aJ_thr, aA_thr, aV_thr, ob_some, on_some, on_none, tg_wI, tg_wJ, tg_wR, ln_wI, ln_wJ, ln_wR, tg_cpI, ln_cpI, tg_cpR, ln_cpR, nx_wI, nx_wJ, nx_wR, sl_wI, sl_wJ, sl_wR, nx_cpI, sl_cpI, nx_cpR, sl_cpR, nx_nw, sl_nw, rJ_wI, rR_wI, rI_wJ, rR_wJ, rI_wR, rJ_wR, rJ_cpI, rR_cpI, rJ_cpR, rI_cpR, rJ_wJ, rq_wI, rq_wJ, rq_wR, rq_cpI, ↓reduceIte, Nat.reduceEqDiff, Nat.reduceAdd, Nat.reduceSub, Nat.reduceMul, Int.reduceAdd, Int.reduceSub, Int.reduceMul, Int.reduceNeg, Int.reduceLT, Int.reduceLE, Int.reduceEq, Int.reduceToNat, Int.sub_zero, Int.add_zero, Int.zero_add, true_and, and_true, false_and, and_false, or_true, true_or, or_false, false_or, not_true_eq_false, not_false_eq_true, eq_self, decide_true, decide_false, Bool.not_false, Bool.not_true, Bool.and_true, Bool.true_and, Bool.or_true, Bool.true_or, Bool.and_self, Bool.or_false, Bool.false_or, Bool.and_false, Bool.false_and, sp1, m0, t1, t2, t3, t4, m1, m2, e5 2 (by omega), vcall_def, v1, v2, q1]
  refine ⟨τ, rfl, q2, ?_⟩
  obtain ⟨c, F, G, s1, s2, s3, s4⟩ := q3
  refine ⟨c, F, G, s1, s2, s3, fun z => (s4 z).trans ?_⟩
  have k := root_sq (t := z - f 2) hR
  have k2 : inK 2 (f 0) (f 1) (f 2) (f 3) (f 4) (f 5) x y z ↔ (z - f 2) * (z - f 2) ≤ f 3 * f 3 - sq2 (x - f 0) (y - f 1) := by unfold inK; omega
  rw [k2, k]
  omega
/-- the cone's test falls upwards -/
theorem cone_anti {e g q u v : Int} (hq : 0 ≤ q) (h1 : 0 ≤ u) (h2 : u ≤ v) (h : e * g ≤ q * (u * u)) : e * g ≤ q * (v * v) := by
  have : u * u ≤ v * v := Int.mul_le_mul h2 h2 h1 (by omega)
  have := Int.mul_le_mul_of_nonneg_left this hq
  omega
theorem cone_loop (d : Nat) {e : Int} (hp : SpA p) (h1 : 776 ≤ a) (h2 : σ.1 a = 14) (h3 : rq σ a 1 = some b) (hb : SArr σ b 5 f) (hr : ∀ i, i < 6 → -5000 ≤ f i ∧ f i ≤ 5000) (he : 0 ≤ e ∧ e ≤ 25000000) :
    ∀ (n : Nat) (i o : Int), o - i ≤ n → f 3 ≤ i → i < o → o ≤ f 4 → e * ((f 4 - f 3) * (f 4 - f 3)) ≤ f 2 * f 2 * ((f 4 - i) * (f 4 - i)) → (o = f 4 ∨ ¬ e * ((f 4 - f 3) * (f 4 - f 3)) ≤ f 2 * f 2 * ((f 4 - o) * (f 4 - o))) →
    ∃ τ, DD L (d + 1) 126 96 [.ref a, .ref p, .long (I6 e), .long (I6 i), .long (I6 o)] (wI σ p 2 (I3 0)) = ok none τ ∧ OnlyS p σ τ ∧ Ov τ p 20000 1 (fun z => f 3 ≤ z ∧ z < f 4 ∧ e * ((f 4 - f 3) * (f 4 - f 3)) ≤ f 2 * f 2 * ((f 4 - z) * (f 4 - z))) := by
  have hb0 := hb
  obtain ⟨b1, b2, b3, b4, b5⟩ := hb
  obtain ⟨sp1, -⟩ := sp_facts (L := L) hp σ
  have r2 := hr 2 (by omega)
  have r3 := hr 3 (by omega)
  have r4 := hr 4 (by omega)
  have hb' : SArr (wI σ p 2 (I3 0)) b 5 f := ⟨b1, b2, b3, b4, fun i hi => (ne_sp hp b1).trans (b5 i hi)⟩
  have t1 : tg (FF L) (wI σ p 2 (I3 0)) a = 14 := (tg_dyn h1).trans h2
  have t2 : rR (FF L) (wI σ p 2 (I3 0)) a 1 = some b := (rR_dyn h1).trans h3
  have t3 : tg (FF L) (wI σ p 2 (I3 0)) b = 64 := (tg_dyn b1).trans b3
  have t4 : ln (FF L) (wI σ p 2 (I3 0)) b = 5 := (ln_dyn b1).trans b4
  have sp1' : tg (FF L) (wI σ p 2 (I3 0)) p = 1 := sp1
  have m1 : memN 14 [14] = true := rfl
  have m2 : Nat.beq 64 64 = true := rfl
  have v1 : lkN 1 [(1, 109, 5)] = some (109, 5) := rfl
  have v2 : Nat.ble (0 + 5 + 11) 64 = true := rfl
  have v3 : lkN 14 [(14, 125, 9)] = some (125, 9) := rfl
  have v4 : Nat.ble (0 + 9 + 11) 64 = true := rfl
  have e53 : rI (wI σ p 2 (I3 0)) b 3 = I3 (f 3) := (ne_sp hp b1).trans (b5 3 (by omega))
  have q2 := (sq_rng r2).1
  intro n
  induction n with
  | zero => intro i o hn; omega
  | succ n ih =>
    intro i o hn i1 io o1 wi wo
    by_cases c : 1 < o - i
    · have hm : i + (o - i) / 2 = i + (o - i) / 2 := rfl
      have wth := within_h (L := L) d (σ := wI σ p 2 (I3 0)) (z := i + (o - i) / 2) h1 h2 h3 hb' hr he (by omega)
      have go : DD L (d + 1) 126 96 [.ref a, .ref p, .long (I6 e), .long (I6 i), .long (I6 o)] (wI σ p 2 (I3 0)) = (if bi (e * ((f 4 - f 3) * (f 4 - f 3)) ≤ f 2 * f 2 * ((f 4 - (i + (o - i) / 2)) * (f 4 - (i + (o - i) / 2)))) = I3 0 then DD L (d + 1) 126 96 [.ref a, .ref p, .long (I6 e), .long (I6 i), .long (I6 (i + (o - i) / 2))] (wI σ p 2 (I3 0)) else DD L (d + 1) 126 96 [.ref a, .ref p, .long (I6 e), .long (I6 (i + (o - i) / 2)), .long (I6 o)] (wI σ p 2 (I3 0))) := by
        rw [E_X14_over_96]
        simp only [vcall_def, t1, v3, ob_some, v4, cond_true]
        simp (disch := omega) only [I3_of, I6_of, I3_nat, I3_add, I3_sub, I3_mul, I3_neg, I6_add, I6_sub, I6_mul, I6_neg, I3_lt, I3_le, I3_eq, I6_lt, I6_le, I6_eq, I3_cl, I3_64, I6_32, cmp_pos', cmp_neg', cmp_eq', inb_I, cond_true, cond_false, aI_ok, aJ_ok, aA_ok, aV_ok', aI_thr, aJ_thr, aA_thr, aV_thr, ob_some, on_some, on_none, ↓reduceIte, Nat.reduceEqDiff, Nat.reduceAdd, Nat.reduceSub, Nat.reduceMul, Int.reduceAdd, Int.reduceSub, Int.reduceMul, Int.reduceNeg, Int.reduceLT, Int.reduceLE, Int.reduceEq, Int.reduceToNat, Int.sub_zero, Int.add_zero, Int.zero_add, true_and, and_true, false_and, and_false, or_true, true_or, or_false, false_or, not_true_eq_false, not_false_eq_true, eq_self, decide_true, decide_false, Bool.not_false, Bool.not_true, Bool.and_true, Bool.true_and, Bool.or_true, Bool.true_or, Bool.and_self, Bool.or_false, Bool.false_or, Bool.and_false, Bool.false_and, I6_divp]
        rw [if_pos c, wth]
        simp only [aI_ok]
      rw [go]
      by_cases w : e * ((f 4 - f 3) * (f 4 - f 3)) ≤ f 2 * f 2 * ((f 4 - (i + (o - i) / 2)) * (f 4 - (i + (o - i) / 2)))
      · rw [bi_pos w, if_neg (by decide)]
        exact ih _ _ (by omega) (by omega) (by omega) o1 w wo
      · rw [bi_neg w, if_pos rfl]
        exact ih _ _ (by omega) i1 (by omega) (by omega) wi (Or.inr w)
    · obtain ⟨τ, q1, q2', q3⟩ := one_s (L := L) d (s := σ) (a := f 3) (b := o) (B := 20000) (A := fun z => f 3 ≤ z ∧ z < o) hp (by omega) (by omega) (by omega) (fun z => Iff.rfl) (by omega) (by omega)
      refine ⟨τ, ?_, q2', ?_⟩
      · rw [E_X14_over_96]
        simp only [vcall_def, t1, t2, t3, t4, m1, m2, ob_some, sp1', v1, v2, cond_true, Bool.true_or, Bool.true_and]
        simp (disch := omega) only [I3_of, I6_of, I3_nat, I3_add, I3_sub, I3_mul, I3_neg, I6_add, I6_sub, I6_mul, I6_neg, I3_lt, I3_le, I3_eq, I6_lt, I6_le, I6_eq, I3_cl, I3_64, I6_32, cmp_pos', cmp_neg', cmp_eq', inb_I, cond_true, cond_false, aI_ok, aJ_ok, aA_ok, aV_ok', aI_thr, aJ_thr, aA_thr, aV_thr, ob_some, on_some, on_none, ↓reduceIte, Nat.reduceEqDiff, Nat.reduceAdd, Nat.reduceSub, Nat.reduceMul, Int.reduceAdd, Int.reduceSub, Int.reduceMul, Int.reduceNeg, Int.reduceLT, Int.reduceLE, Int.reduceEq, Int.reduceToNat, Int.sub_zero, Int.add_zero, Int.zero_add, true_and, and_true, false_and, and_false, or_true, true_or, or_false, false_or, not_true_eq_false, not_false_eq_true, eq_self, decide_true, decide_false, Bool.not_false, Bool.not_true, Bool.and_true, Bool.true_and, Bool.or_true, Bool.true_or, Bool.and_self, Bool.or_false, Bool.false_or, Bool.and_false, Bool.false_and, e53, q1]
        rw [if_neg c]
      · obtain ⟨k, F, G, s1, s2, s3, s4⟩ := q3
        refine ⟨k, F, G, s1, s2, s3, fun z => (s4 z).trans ?_⟩
        constructor
        · intro ⟨z1, z2⟩
          exact ⟨z1, by omega, cone_anti q2 (by omega) (by omega) wi⟩
        · intro ⟨z1, z2, z3⟩
          refine ⟨z1, ?_⟩
          rcases (by omega : z < o ∨ o ≤ z) with g | g
          · exact g
          · exfalso
            rcases wo with g2 | g2
            · omega
            · exact g2 (cone_anti q2 (by omega) (by omega) z3)
theorem cone_over (d : Nat) (i7 : Int32) (hp : SpA p) (h1 : 776 ≤ a) (h2 : σ.1 a = 14) (h3 : rq σ a 1 = some b) (hb : SArr σ b 5 f) (hr : ∀ i, i < 6 → -5000 ≤ f i ∧ f i ≤ 5000) (hx : -1000000 ≤ x ∧ x ≤ 1000000) (hy : -1000000 ≤ y ∧ y ≤ 1000000) :
    ∃ τ, DD L (d + 1) 126 0 [.ref a, .long (I6 x), .long (I6 y), .ref p, .ref 22, .int i7] σ = ok none τ ∧ OnlyS p σ τ ∧ Ov τ p 20000 1 (inK 3 (f 0) (f 1) (f 2) (f 3) (f 4) (f 5) x y) := by
  have hb0 := hb
  obtain ⟨b1, b2, b3, b4, b5⟩ := hb
  obtain ⟨sp1, -⟩ := sp_facts (L := L) hp σ
  have t1 : tg (FF L) σ a = 14 := (tg_dyn h1).trans h2
  have t2 : rR (FF L) σ a 1 = some b := (rR_dyn h1).trans h3
  have t3 : tg (FF L) σ b = 64 := (tg_dyn b1).trans b3
  have t4 : ln (FF L) σ b = 5 := (ln_dyn b1).trans b4
  have m0 : memN 1 [1] = true := rfl
  have m1 : memN 14 [14] = true := rfl
  have m2 : Nat.beq 64 64 = true := rfl
  have r0 := hr 0 (by omega)
  have r1 := hr 1 (by omega)
  have r2 := hr 2 (by omega)
  have r3 := hr 3 (by omega)
  have r4 := hr 4 (by omega)
  have v3 : lkN 14 [(14, 125, 9)] = some (125, 9) := rfl
  have v4 : Nat.ble (0 + 9 + 11) 64 = true := rfl
  have e5 : ∀ i, i < 5 → rI (wI σ p 2 (I3 0)) b i = I3 (f i) := fun i hi => (ne_sp hp b1).trans (b5 i hi)
  have hb' : SArr (wI σ p 2 (I3 0)) b 5 f := ⟨b1, b2, b3, b4, e5⟩
  have w1 := sq2_rng (a := x - f 0) (b := y - f 1) (by omega) (by omega)
  have w2 := sq_rng r2
  rw [E_X14_over_0]
  simp (maxSteps := 4000000) (disch := omega) only [I3_of, I6_of, I3_nat, I3_add, I3_sub, I3_mul, I3_neg, I6_add, I6_sub, I6_mul, I6_neg, I3_lt, I3_le, I3_eq, I6_lt, I6_le, I6_eq, I3_cl, I3_64, I6_32, cmp_pos', cmp_neg', cmp_eq', inb_I, cond_true, cond_false, aI_ok, aJ_ok, aA_ok, aV_ok', aI_thr, aJ_thr, aA_thr, aV_thr, ob_some, on_some, on_none, tg_wI, tg_wJ, tg_wR, ln_wI, ln_wJ, ln_wR, tg_cpI, ln_cpI, tg_cpR, ln_cpR, nx_wI, nx_wJ, nx_wR, sl_wI, sl_wJ, sl_wR, nx_cpI, sl_cpI, nx_cpR, sl_cpR, nx_nw, sl_nw, rJ_wI, rR_wI, rI_wJ, rR_wJ, rI_wR, rJ_wR, rJ_cpI, rR_cpI, rJ_cpR, rI_cpR, rJ_wJ, rq_wI, rq_wJ, rq_wR, rq_cpI, ↓reduceIte, Nat.reduceEqDiff, Nat.reduceAdd, Nat.reduceSub, Nat.reduceMul, Int.reduceAdd, Int.reduceSub, Int.reduceMul, Int.reduceNeg, Int.reduceLT, Int.reduceLE, Int.reduceEq, Int.reduceToNat, Int.sub_zero, Int.add_zero, Int.zero_add, true_and, and_true, false_and, and_false, or_true, true_or, or_false, false_or, not_true_eq_false, not_false_eq_true, eq_self, decide_true, decide_false, Bool.not_false, Bool.not_true, Bool.and_true, Bool.true_and, Bool.or_true, Bool.true_or, Bool.and_self, Bool.or_false, Bool.false_or, Bool.and_false, Bool.false_and, sp1, m0, t1, t2, t3, t4, m1, m2, e5 0 (by omega), e5 1 (by omega), e5 2 (by omega), e5 3 (by omega), e5 4 (by omega), vcall_def, v3, v4, square_h]
  by_cases c0 : f 3 < f 4
  · rw [if_pos c0]
    by_cases c1 : f 2 * f 2 < sq2 (x - f 0) (y - f 1)
    · rw [if_pos c1]
      exact ⟨_, rfl, onlyS_c hp, none_s hp (fun z => by unfold inK; omega)⟩
    rw [if_neg c1]
    have hw0 : sq2 (x - f 0) (y - f 1) * ((f 4 - f 3) * (f 4 - f 3)) ≤ f 2 * f 2 * ((f 4 - f 3) * (f 4 - f 3)) := Int.mul_le_mul_of_nonneg_right (by omega) (sq_rng (a := f 4 - f 3) (b := 10000) (by omega)).1
    rw [within_h d (σ := wI σ p 2 (I3 0)) (z := f 3) h1 h2 h3 hb' hr (by omega) (by omega), bi_pos hw0]
    simp (disch := omega) only [I3_of, I6_of, I3_nat, I3_add, I3_sub, I3_mul, I3_neg, I6_add, I6_sub, I6_mul, I6_neg, I3_lt, I3_le, I3_eq, I6_lt, I6_le, I6_eq, I3_cl, I3_64, I6_32, cmp_pos', cmp_neg', cmp_eq', inb_I, cond_true, cond_false, aI_ok, aJ_ok, aA_ok, aV_ok', aI_thr, aJ_thr, aA_thr, aV_thr, ob_some, on_some, on_none, tg_wI, tg_wJ, tg_wR, ln_wI, ln_wJ, ln_wR, tg_cpI, ln_cpI, tg_cpR, ln_cpR, nx_wI, nx_wJ, nx_wR, sl_wI, sl_wJ, sl_wR, nx_cpI, sl_cpI, nx_cpR, sl_cpR, nx_nw, sl_nw, rJ_wI, rR_wI, rI_wJ, rR_wJ, rI_wR, rJ_wR, rJ_cpI, rR_cpI, rJ_cpR, rI_cpR, rI_wI, rJ_wJ, rq_wI, rq_wJ, rq_wR, rq_cpI, ↓reduceIte, Nat.reduceEqDiff, Nat.reduceAdd, Nat.reduceSub, Nat.reduceMul, Int.reduceAdd, Int.reduceSub, Int.reduceMul, Int.reduceNeg, Int.reduceLT, Int.reduceLE, Int.reduceEq, Int.reduceToNat, Int.sub_zero, Int.add_zero, Int.zero_add, true_and, and_true, false_and, and_false, or_true, true_or, or_false, false_or, not_true_eq_false, not_false_eq_true, eq_self, decide_true, decide_false, Bool.not_false, Bool.not_true, Bool.and_true, Bool.true_and, Bool.or_true, Bool.true_or, Bool.and_self, Bool.or_false, Bool.false_or, Bool.and_false, Bool.false_and, i3_10]
    obtain ⟨τ, q1, q2, c, F, G, s1, s2, s3, s4⟩ := cone_loop (L := L) d (σ := σ) (p := p) (e := sq2 (x - f 0) (y - f 1)) hp h1 h2 h3 hb0 hr (by omega) _ (f 3) (f 4) (Int.self_le_toNat _) (by omega) c0 (by omega) hw0 (Or.inl rfl)
    refine ⟨τ, q1, q2, c, F, G, s1, s2, s3, fun z => (s4 z).trans ?_⟩
    unfold inK
    constructor
    · intro ⟨z1, z2, z3⟩
      exact Or.inr (Or.inr (Or.inr ⟨rfl, z1, z2, by omega, z3⟩))
    · intro q
      rcases q with q | q | q | q
      · omega
      · omega
      · omega
      · exact ⟨q.2.1, q.2.2.1, q.2.2.2.2⟩
  · rw [if_neg c0]
    exact ⟨_, rfl, onlyS_c hp, none_s hp (fun z => by unfold inK; omega)⟩
end LEAF
end OVER
