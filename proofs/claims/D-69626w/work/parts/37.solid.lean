/-! ===== solids: whether a point is in one ===== -/
section SOLID
variable {L : Nat}
/-- a truth as an int -/
noncomputable def bi (p : Prop) : Int32 := @ite _ p (Classical.propDecidable p) (I3 1) (I3 0)
theorem bi_pos {p : Prop} (h : p) : bi p = I3 1 := by unfold bi; rw [if_pos h]
theorem bi_neg {p : Prop} (h : ¬ p) : bi p = I3 0 := by unfold bi; rw [if_neg h]
theorem bi_congr {p q : Prop} (h : p ↔ q) : bi p = bi q := by rw [propext h]
theorem bi_01 (p : Prop) : (bi p == I3 0 || bi p == I3 1) = true := by
  by_cases h : p
  · rw [bi_pos h]; rfl
  · rw [bi_neg h]; rfl
/-- kinds, numbers, weights -/
abbrev Tb : Type := (Nat → Int) × (Nat → Nat → Int) × (Nat → Int)
def kd (T : Tb) (s : Nat) : Int := T.1 s
def nb (T : Tb) (s i : Nat) : Int := T.2.1 s i
def wt (T : Tb) (s : Nat) : Int := T.2.2 s
def sq2 (a b : Int) : Int := a * a + b * b
def inK (k n0 n1 n2 n3 n4 n5 x y z : Int) : Prop :=
  (k = 0 ∧ n0 ≤ x ∧ n1 ≤ y ∧ n2 ≤ z ∧ x < n3 ∧ y < n4 ∧ z < n5) ∨
  (k = 2 ∧ sq2 (x - n0) (y - n1) + (z - n2) * (z - n2) ≤ n3 * n3) ∨
  (k = 1 ∧ n3 ≤ z ∧ z < n4 ∧ sq2 (x - n0) (y - n1) ≤ n2 * n2) ∨
  (k = 3 ∧ n3 ≤ z ∧ z < n4 ∧ sq2 (x - n0) (y - n1) ≤ n2 * n2 ∧ sq2 (x - n0) (y - n1) * ((n4 - n3) * (n4 - n3)) ≤ n2 * n2 * ((n4 - z) * (n4 - z)))
def inP (T : Tb) : Nat → Nat → Int → Int → Int → Prop
  | 0, _, _, _, _ => False
  | f + 1, s, x, y, z => (kd T s = 4 ∧ ((nb T s 2 = 0 ∧ (inP T f (nb T s 0).toNat x y z ∨ inP T f (nb T s 1).toNat x y z)) ∨ (nb T s 2 = 1 ∧ inP T f (nb T s 0).toNat x y z ∧ inP T f (nb T s 1).toNat x y z) ∨ (nb T s 2 = 2 ∧ inP T f (nb T s 0).toNat x y z ∧ ¬ inP T f (nb T s 1).toNat x y z))) ∨
      (kd T s = 5 ∧ inP T f (nb T s 3).toNat (x - nb T s 0) (y - nb T s 1) (z - nb T s 2)) ∨ (kd T s = 6 ∧ inP T f (nb T s 0).toNat y (-x) z) ∨
      inK (kd T s) (nb T s 0) (nb T s 1) (nb T s 2) (nb T s 3) (nb T s 4) (nb T s 5) x y z
def inS (T : Tb) (s : Nat) (x y z : Int) : Prop := inP T s s x y z
def WfS (T : Tb) (s : Nat) : Prop :=
  (0 ≤ kd T s ∧ kd T s ≤ 3 ∧ (∀ i, i < 6 → -5000 ≤ nb T s i ∧ nb T s i ≤ 5000) ∧ (kd T s = 1 → 0 ≤ nb T s 2) ∧ (kd T s = 2 → 0 ≤ nb T s 3) ∧ (kd T s = 3 → 0 ≤ nb T s 2) ∧ wt T s = 1) ∨
  (kd T s = 4 ∧ 1 ≤ nb T s 0 ∧ nb T s 0 < s ∧ 1 ≤ nb T s 1 ∧ nb T s 1 < s ∧ 0 ≤ nb T s 2 ∧ nb T s 2 ≤ 2 ∧ wt T s = wt T (nb T s 0).toNat + wt T (nb T s 1).toNat + 1) ∨
  (kd T s = 5 ∧ 1 ≤ nb T s 3 ∧ nb T s 3 < s ∧ (∀ i, i < 3 → -5000 ≤ nb T s i ∧ nb T s i ≤ 5000) ∧ wt T s = wt T (nb T s 3).toNat + 1) ∨
  (kd T s = 6 ∧ 1 ≤ nb T s 0 ∧ nb T s 0 < s ∧ wt T s = wt T (nb T s 0).toNat + 1)
theorem inK_no {k n0 n1 n2 n3 n4 n5 x y z : Int} (h : 4 ≤ k) : ¬ inK k n0 n1 n2 n3 n4 n5 x y z := by
  unfold inK; omega
theorem inP_fuel {T : Tb} {m : Nat} (wf : ∀ s, 1 ≤ s → s ≤ m → WfS T s) : ∀ (f g s : Nat) (x y z : Int), 1 ≤ s → s ≤ m → s ≤ f → s ≤ g → (inP T f s x y z ↔ inP T g s x y z) := by
  intro f
  induction f with
  | zero => intro g s x y z h1 h2 h3; omega
  | succ f ih =>
    intro g s x y z h1 h2 h3 h4
    cases g with
    | zero => omega
    | succ g =>
      unfold inP
      rcases wf s h1 h2 with ⟨a1, a2, -⟩ | ⟨a1, b1, b2, b3, b4, -⟩ | ⟨a1, b1, b2, -⟩ | ⟨a1, b1, b2, -⟩
      · have e4 : ¬ kd T s = 4 := by omega
        have e5 : ¬ kd T s = 5 := by omega
        have e6 : ¬ kd T s = 6 := by omega
        simp only [e4, e5, e6, false_and, false_or]
      · have q1 := ih g (nb T s 0).toNat x y z (by omega) (by omega) (by omega) (by omega)
        have q2 := ih g (nb T s 1).toNat x y z (by omega) (by omega) (by omega) (by omega)
        have e5 : ¬ kd T s = 5 := by omega
        have e6 : ¬ kd T s = 6 := by omega
        simp only [e5, e6, false_and, false_or, q1, q2]
      · have q1 := ih g (nb T s 3).toNat (x - nb T s 0) (y - nb T s 1) (z - nb T s 2) (by omega) (by omega) (by omega) (by omega)
        have e5 : ¬ kd T s = 4 := by omega
        have e6 : ¬ kd T s = 6 := by omega
        simp only [e5, e6, false_and, false_or, q1]
      · have q1 := ih g (nb T s 0).toNat y (-x) z (by omega) (by omega) (by omega) (by omega)
        have e5 : ¬ kd T s = 4 := by omega
        have e6 : ¬ kd T s = 5 := by omega
        simp only [e5, e6, false_and, false_or, q1]
theorem inS_0 {T : Tb} {s : Nat} (h1 : 1 ≤ s) (h : 0 ≤ kd T s ∧ kd T s ≤ 3) {x y z : Int} : inS T s x y z ↔ inK (kd T s) (nb T s 0) (nb T s 1) (nb T s 2) (nb T s 3) (nb T s 4) (nb T s 5) x y z := by
  obtain ⟨t, rfl⟩ : ∃ t, s = t + 1 := ⟨s - 1, by omega⟩
  unfold inS inP
  have e4 : ¬ kd T (t + 1) = 4 := by omega
  have e5 : ¬ kd T (t + 1) = 5 := by omega
  have e6 : ¬ kd T (t + 1) = 6 := by omega
  simp only [e4, e5, e6, false_and, false_or]
theorem inS_4 {T : Tb} {m s : Nat} (wf : ∀ s, 1 ≤ s → s ≤ m → WfS T s) (h1 : 1 ≤ s) (h2 : s ≤ m) (h : kd T s = 4) {x y z : Int} : inS T s x y z ↔ ((nb T s 2 = 0 ∧ (inS T (nb T s 0).toNat x y z ∨ inS T (nb T s 1).toNat x y z)) ∨ (nb T s 2 = 1 ∧ inS T (nb T s 0).toNat x y z ∧ inS T (nb T s 1).toNat x y z) ∨ (nb T s 2 = 2 ∧ inS T (nb T s 0).toNat x y z ∧ ¬ inS T (nb T s 1).toNat x y z)) := by
  have w := wf s h1 h2
  unfold WfS at w
  obtain ⟨t, rfl⟩ : ∃ t, s = t + 1 := ⟨s - 1, by omega⟩
  have e5 : ¬ kd T (t + 1) = 5 := by omega
  have e6 : ¬ kd T (t + 1) = 6 := by omega
  have q1 := inP_fuel wf t (nb T (t + 1) 0).toNat (nb T (t + 1) 0).toNat x y z (by omega) (by omega) (by omega) (Nat.le_refl _)
  have q2 := inP_fuel wf t (nb T (t + 1) 1).toNat (nb T (t + 1) 1).toNat x y z (by omega) (by omega) (by omega) (Nat.le_refl _)
  have e7 : ¬ inK (kd T (t + 1)) (nb T (t + 1) 0) (nb T (t + 1) 1) (nb T (t + 1) 2) (nb T (t + 1) 3) (nb T (t + 1) 4) (nb T (t + 1) 5) x y z := inK_no (by omega)
  unfold inS
  rw [inP]
  simp only [e5, e6, e7, false_and, false_or, or_false, q1, q2]
  simp only [h, true_and]
theorem inS_5 {T : Tb} {m s : Nat} (wf : ∀ s, 1 ≤ s → s ≤ m → WfS T s) (h1 : 1 ≤ s) (h2 : s ≤ m) (h : kd T s = 5) {x y z : Int} : inS T s x y z ↔ inS T (nb T s 3).toNat (x - nb T s 0) (y - nb T s 1) (z - nb T s 2) := by
  have w := wf s h1 h2
  unfold WfS at w
  obtain ⟨t, rfl⟩ : ∃ t, s = t + 1 := ⟨s - 1, by omega⟩
  have e5 : ¬ kd T (t + 1) = 4 := by omega
  have e6 : ¬ kd T (t + 1) = 6 := by omega
  have q1 := inP_fuel wf t (nb T (t + 1) 3).toNat (nb T (t + 1) 3).toNat (x - nb T (t + 1) 0) (y - nb T (t + 1) 1) (z - nb T (t + 1) 2) (by omega) (by omega) (by omega) (Nat.le_refl _)
  have e7 : ¬ inK (kd T (t + 1)) (nb T (t + 1) 0) (nb T (t + 1) 1) (nb T (t + 1) 2) (nb T (t + 1) 3) (nb T (t + 1) 4) (nb T (t + 1) 5) x y z := inK_no (by omega)
  unfold inS
  rw [inP]
  simp only [e5, e6, e7, false_and, false_or, or_false, q1]
  simp only [h, true_and]
theorem inS_6 {T : Tb} {m s : Nat} (wf : ∀ s, 1 ≤ s → s ≤ m → WfS T s) (h1 : 1 ≤ s) (h2 : s ≤ m) (h : kd T s = 6) {x y z : Int} : inS T s x y z ↔ inS T (nb T s 0).toNat y (-x) z := by
  have w := wf s h1 h2
  unfold WfS at w
  obtain ⟨t, rfl⟩ : ∃ t, s = t + 1 := ⟨s - 1, by omega⟩
  have e5 : ¬ kd T (t + 1) = 4 := by omega
  have e6 : ¬ kd T (t + 1) = 5 := by omega
  have q1 := inP_fuel wf t (nb T (t + 1) 0).toNat (nb T (t + 1) 0).toNat y (-x) z (by omega) (by omega) (by omega) (Nat.le_refl _)
  have e7 : ¬ inK (kd T (t + 1)) (nb T (t + 1) 0) (nb T (t + 1) 1) (nb T (t + 1) 2) (nb T (t + 1) 3) (nb T (t + 1) 4) (nb T (t + 1) 5) x y z := inK_no (by omega)
  unfold inS
  rw [inP]
  simp only [e5, e6, e7, false_and, false_or, or_false, q1]
  simp only [h, true_and]
-- squares have bounds
theorem sq_rng {a : Int} {b : Int} (h : -b ≤ a ∧ a ≤ b) : 0 ≤ a * a ∧ a * a ≤ b * b := by
  constructor
  · rcases Int.le_total 0 a with h0 | h0
    · exact Int.mul_nonneg h0 h0
    · have := Int.mul_nonneg (by omega : 0 ≤ -a) (by omega : 0 ≤ -a)
      rw [Int.neg_mul_neg] at this; exact this
  · rcases Int.le_total 0 a with h0 | h0
    · exact Int.mul_le_mul h.2 h.2 h0 (by omega)
    · have := Int.mul_le_mul (by omega : -a ≤ b) (by omega : -a ≤ b) (by omega : 0 ≤ -a) (by omega)
      rw [Int.neg_mul_neg] at this; exact this
/-- an array of a solid: its place, its numbers -/
def SArr (σ : St) (b n : Nat) (f : Nat → Int) : Prop := 776 ≤ b ∧ b < nx σ ∧ σ.1 b = 64 ∧ σ.2.1 b = n ∧ ∀ i, i < n → rI σ b i = I3 (f i)
theorem box_has (d : Nat) {σ : St} {a b : Nat} {f : Nat → Int} {x y z : Int} (h1 : 776 ≤ a) (h2 : σ.1 a = 11) (h3 : rq σ a 1 = some b) (hb : SArr σ b 6 f) (hr : ∀ i, i < 6 → -5000 ≤ f i ∧ f i ≤ 5000)
    (hx : -1000000 ≤ x ∧ x ≤ 1000000) (hy : -1000000 ≤ y ∧ y ≤ 1000000) (hz : -1000000 ≤ z ∧ z ≤ 1000000) :
    DD L d 115 0 [.ref a, .long (I6 x), .long (I6 y), .long (I6 z)] σ = ok (some (.int (bi (inK 0 (f 0) (f 1) (f 2) (f 3) (f 4) (f 5) x y z)))) σ := by
  obtain ⟨b1, b2, b3, b4, b5⟩ := hb
  have t1 : tg (FF L) σ a = 11 := (tg_dyn h1).trans h2
  have t2 : rR (FF L) σ a 1 = some b := (rR_dyn h1).trans h3
  have t3 : tg (FF L) σ b = 64 := (tg_dyn b1).trans b3
  have t4 : ln (FF L) σ b = 6 := (ln_dyn b1).trans b4
  have m1 : memN 11 [11] = true := rfl
  have m2 : Nat.beq 64 64 = true := rfl
  have r0 := hr 0 (by omega)
  have r1 := hr 1 (by omega)
  have r2 := hr 2 (by omega)
  have r3 := hr 3 (by omega)
  have r4 := hr 4 (by omega)
  have r5 := hr 5 (by omega)
  rw [E_X11_has_0]
  simp (disch := omega) only [I3_of, I6_of, I3_nat, I3_add, I3_sub, I3_mul, I3_neg, I6_add, I6_sub, I6_mul, I6_neg, I3_lt, I3_le, I3_eq, I6_lt, I6_le, I6_eq, I3_cl, I3_64, I6_32, cmp_pos', cmp_neg', cmp_eq', inb_I, cond_true, cond_false, aI_ok, aJ_ok, aA_ok, aV_ok', aI_thr, aJ_thr, aA_thr, aV_thr, ob_some, on_some, on_none, tg_wI, tg_wJ, tg_wR, ln_wI, ln_wJ, ln_wR, tg_cpI, ln_cpI, tg_cpR, ln_cpR, nx_wI, nx_wJ, nx_wR, sl_wI, sl_wJ, sl_wR, nx_cpI, sl_cpI, nx_cpR, sl_cpR, nx_nw, sl_nw, rJ_wI, rR_wI, rI_wJ, rR_wJ, rI_wR, rJ_wR, rJ_cpI, rR_cpI, rJ_cpR, rI_cpR, rI_wI, rJ_wJ, rq_wI, rq_wJ, rq_wR, rq_cpI, ↓reduceIte, Nat.reduceEqDiff, Nat.reduceAdd, Nat.reduceSub, Nat.reduceMul, Int.reduceAdd, Int.reduceSub, Int.reduceMul, Int.reduceNeg, Int.reduceLT, Int.reduceLE, Int.reduceEq, Int.reduceToNat, Int.sub_zero, Int.add_zero, Int.zero_add, true_and, and_true, false_and, and_false, or_true, true_or, or_false, false_or, not_true_eq_false, not_false_eq_true, eq_self, decide_true, decide_false, Bool.not_false, Bool.not_true, Bool.and_true, Bool.true_and, Bool.or_true, Bool.true_or, Bool.and_self, Bool.or_false, Bool.false_or, Bool.and_false, Bool.false_and, t1, t2, t3, t4, m1, m2, b5 0 (by omega), b5 1 (by omega), b5 2 (by omega), b5 3 (by omega), b5 4 (by omega), b5 5 (by omega)]
  unfold inK
  repeat' split
  all_goals first | rw [bi_neg (by omega)] | rw [bi_pos (by omega)]
theorem square_h (d : Nat) (s : St) (x y : Int) : DD L d 35 0 [.long (I6 x), .long (I6 y)] s = ok (some (.long (I6 (sq2 x y)))) s := by
  rw [E_X0_square_0, I6_mul, I6_mul, I6_add]; rfl
theorem sq2_rng {a b : Int} (ha : -2000000 ≤ a ∧ a ≤ 2000000) (hb : -2000000 ≤ b ∧ b ≤ 2000000) : 0 ≤ sq2 a b ∧ sq2 a b ≤ 8000000000000 := by
  have h1 := sq_rng ha
  have h2 := sq_rng hb
  unfold sq2
  omega
theorem post_has (d : Nat) {σ : St} {a b : Nat} {f : Nat → Int} {x y z : Int} (h1 : 776 ≤ a) (h2 : σ.1 a = 12) (h3 : rq σ a 1 = some b) (hb : SArr σ b 5 f) (hr : ∀ i, i < 6 → -5000 ≤ f i ∧ f i ≤ 5000)
    (hx : -1000000 ≤ x ∧ x ≤ 1000000) (hy : -1000000 ≤ y ∧ y ≤ 1000000) (hz : -1000000 ≤ z ∧ z ≤ 1000000) :
    DD L (d + 1) 118 0 [.ref a, .long (I6 x), .long (I6 y), .long (I6 z)] σ = ok (some (.int (bi (inK 1 (f 0) (f 1) (f 2) (f 3) (f 4) (f 5) x y z)))) σ := by
  obtain ⟨b1, b2, b3, b4, b5⟩ := hb
  have t1 : tg (FF L) σ a = 12 := (tg_dyn h1).trans h2
  have t2 : rR (FF L) σ a 1 = some b := (rR_dyn h1).trans h3
  have t3 : tg (FF L) σ b = 64 := (tg_dyn b1).trans b3
  have t4 : ln (FF L) σ b = 5 := (ln_dyn b1).trans b4
  have m1 : memN 12 [12] = true := rfl
  have m2 : Nat.beq 64 64 = true := rfl
  have r0 := hr 0 (by omega)
  have r1 := hr 1 (by omega)
  have r2 := hr 2 (by omega)
  have r3 := hr 3 (by omega)
  have r4 := hr 4 (by omega)
  have q1 := sq2_rng (a := x - f 0) (b := y - f 1) (by omega) (by omega)
  have q2 := sq_rng r2
  rw [E_X12_has_0]
  simp (disch := omega) only [I3_of, I6_of, I3_nat, I3_add, I3_sub, I3_mul, I3_neg, I6_add, I6_sub, I6_mul, I6_neg, I3_lt, I3_le, I3_eq, I6_lt, I6_le, I6_eq, I3_cl, I3_64, I6_32, cmp_pos', cmp_neg', cmp_eq', inb_I, cond_true, cond_false, aI_ok, aJ_ok, aA_ok, aV_ok', aI_thr, aJ_thr, aA_thr, aV_thr, ob_some, on_some, on_none, tg_wI, tg_wJ, tg_wR, ln_wI, ln_wJ, ln_wR, tg_cpI, ln_cpI, tg_cpR, ln_cpR, nx_wI, nx_wJ, nx_wR, sl_wI, sl_wJ, sl_wR, nx_cpI, sl_cpI, nx_cpR, sl_cpR, nx_nw, sl_nw, rJ_wI, rR_wI, rI_wJ, rR_wJ, rI_wR, rJ_wR, rJ_cpI, rR_cpI, rJ_cpR, rI_cpR, rI_wI, rJ_wJ, rq_wI, rq_wJ, rq_wR, rq_cpI, ↓reduceIte, Nat.reduceEqDiff, Nat.reduceAdd, Nat.reduceSub, Nat.reduceMul, Int.reduceAdd, Int.reduceSub, Int.reduceMul, Int.reduceNeg, Int.reduceLT, Int.reduceLE, Int.reduceEq, Int.reduceToNat, Int.sub_zero, Int.add_zero, Int.zero_add, true_and, and_true, false_and, and_false, or_true, true_or, or_false, false_or, not_true_eq_false, not_false_eq_true, eq_self, decide_true, decide_false, Bool.not_false, Bool.not_true, Bool.and_true, Bool.true_and, Bool.or_true, Bool.true_or, Bool.and_self, Bool.or_false, Bool.false_or, Bool.and_false, Bool.false_and, t1, t2, t3, t4, m1, m2, b5 0 (by omega), b5 1 (by omega), b5 2 (by omega), b5 3 (by omega), b5 4 (by omega), square_h]
  unfold inK
  repeat' split
  all_goals first | rw [bi_neg (by omega)] | rw [bi_pos (by omega)]
theorem ball_has (d : Nat) {σ : St} {a b : Nat} {f : Nat → Int} {x y z : Int} (h1 : 776 ≤ a) (h2 : σ.1 a = 13) (h3 : rq σ a 1 = some b) (hb : SArr σ b 4 f) (hr : ∀ i, i < 6 → -5000 ≤ f i ∧ f i ≤ 5000)
    (hx : -1000000 ≤ x ∧ x ≤ 1000000) (hy : -1000000 ≤ y ∧ y ≤ 1000000) (hz : -1000000 ≤ z ∧ z ≤ 1000000) :
    DD L (d + 1) 121 0 [.ref a, .long (I6 x), .long (I6 y), .long (I6 z)] σ = ok (some (.int (bi (inK 2 (f 0) (f 1) (f 2) (f 3) (f 4) (f 5) x y z)))) σ := by
  obtain ⟨b1, b2, b3, b4, b5⟩ := hb
  have t1 : tg (FF L) σ a = 13 := (tg_dyn h1).trans h2
  have t2 : rR (FF L) σ a 1 = some b := (rR_dyn h1).trans h3
  have t3 : tg (FF L) σ b = 64 := (tg_dyn b1).trans b3
  have t4 : ln (FF L) σ b = 4 := (ln_dyn b1).trans b4
  have m1 : memN 13 [13] = true := rfl
  have m2 : Nat.beq 64 64 = true := rfl
  have r0 := hr 0 (by omega)
  have r1 := hr 1 (by omega)
  have r2 := hr 2 (by omega)
  have r3 := hr 3 (by omega)
  have q1 := sq2_rng (a := x - f 0) (b := y - f 1) (by omega) (by omega)
  have q2 := sq_rng r3
  have q3 := sq_rng (a := z - f 2) (b := 2000000) (by omega)
  rw [E_X13_has_0]
  simp (disch := omega) only [I3_of, I6_of, I3_nat, I3_add, I3_sub, I3_mul, I3_neg, I6_add, I6_sub, I6_mul, I6_neg, I3_lt, I3_le, I3_eq, I6_lt, I6_le, I6_eq, I3_cl, I3_64, I6_32, cmp_pos', cmp_neg', cmp_eq', inb_I, cond_true, cond_false, aI_ok, aJ_ok, aA_ok, aV_ok', aI_thr, aJ_thr, aA_thr, aV_thr, ob_some, on_some, on_none, tg_wI, tg_wJ, tg_wR, ln_wI, ln_wJ, ln_wR, tg_cpI, ln_cpI, tg_cpR, ln_cpR, nx_wI, nx_wJ, nx_wR, sl_wI, sl_wJ, sl_wR, nx_cpI, sl_cpI, nx_cpR, sl_cpR, nx_nw, sl_nw, rJ_wI, rR_wI, rI_wJ, rR_wJ, rI_wR, rJ_wR, rJ_cpI, rR_cpI, rJ_cpR, rI_cpR, rI_wI, rJ_wJ, rq_wI, rq_wJ, rq_wR, rq_cpI, ↓reduceIte, Nat.reduceEqDiff, Nat.reduceAdd, Nat.reduceSub, Nat.reduceMul, Int.reduceAdd, Int.reduceSub, Int.reduceMul, Int.reduceNeg, Int.reduceLT, Int.reduceLE, Int.reduceEq, Int.reduceToNat, Int.sub_zero, Int.add_zero, Int.zero_add, true_and, and_true, false_and, and_false, or_true, true_or, or_false, false_or, not_true_eq_false, not_false_eq_true, eq_self, decide_true, decide_false, Bool.not_false, Bool.not_true, Bool.and_true, Bool.true_and, Bool.or_true, Bool.true_or, Bool.and_self, Bool.or_false, Bool.false_or, Bool.and_false, Bool.false_and, t1, t2, t3, t4, m1, m2, b5 0 (by omega), b5 1 (by omega), b5 2 (by omega), b5 3 (by omega), square_h]
  unfold inK
  repeat' split
  all_goals first | rw [bi_neg (by omega)] | rw [bi_pos (by omega)]
/-- the cone's test at a height between its ends -/
theorem within_h (d : Nat) {σ : St} {a b : Nat} {f : Nat → Int} {e z : Int} (h1 : 776 ≤ a) (h2 : σ.1 a = 14) (h3 : rq σ a 1 = some b) (hb : SArr σ b 5 f) (hr : ∀ i, i < 6 → -5000 ≤ f i ∧ f i ≤ 5000)
    (he : 0 ≤ e ∧ e ≤ 25000000) (hz : f 3 ≤ z ∧ z < f 4) :
    DD L d 125 0 [.ref a, .long (I6 e), .long (I6 z)] σ = ok (some (.int (bi (e * ((f 4 - f 3) * (f 4 - f 3)) ≤ f 2 * f 2 * ((f 4 - z) * (f 4 - z)))))) σ := by
  obtain ⟨b1, b2, b3, b4, b5⟩ := hb
  have t1 : tg (FF L) σ a = 14 := (tg_dyn h1).trans h2
  have t2 : rR (FF L) σ a 1 = some b := (rR_dyn h1).trans h3
  have t3 : tg (FF L) σ b = 64 := (tg_dyn b1).trans b3
  have t4 : ln (FF L) σ b = 5 := (ln_dyn b1).trans b4
  have m1 : memN 14 [14] = true := rfl
  have m2 : Nat.beq 64 64 = true := rfl
  have r2 := hr 2 (by omega)
  have r3 := hr 3 (by omega)
  have r4 := hr 4 (by omega)
  have q2 := sq_rng r2
  have q3 := sq_rng (a := f 4 - f 3) (b := 10000) (by omega)
  have q4 := sq_rng (a := f 4 - z) (b := 10000) (by omega)
  have p1 : 0 ≤ e * ((f 4 - f 3) * (f 4 - f 3)) ∧ e * ((f 4 - f 3) * (f 4 - f 3)) ≤ 25000000 * (10000 * 10000) := ⟨Int.mul_nonneg he.1 q3.1, Int.mul_le_mul he.2 q3.2 q3.1 (by omega)⟩
  have p2 : 0 ≤ f 2 * f 2 * ((f 4 - z) * (f 4 - z)) ∧ f 2 * f 2 * ((f 4 - z) * (f 4 - z)) ≤ (5000 * 5000) * (10000 * 10000) := ⟨Int.mul_nonneg q2.1 q4.1, Int.mul_le_mul q2.2 q4.2 q4.1 (by omega)⟩
  simp only [Int.mul_assoc] at p1 p2
  rw [E_X14_isWithin_0]
  simp (disch := omega) only [I3_of, I6_of, I3_nat, I3_add, I3_sub, I3_mul, I3_neg, I6_add, I6_sub, I6_mul, I6_neg, I3_lt, I3_le, I3_eq, I6_lt, I6_le, I6_eq, I3_cl, I3_64, I6_32, cmp_pos', cmp_neg', cmp_eq', inb_I, cond_true, cond_false, aI_ok, aJ_ok, aA_ok, aV_ok', aI_thr, aJ_thr, aA_thr, aV_thr, ob_some, on_some, on_none, tg_wI, tg_wJ, tg_wR, ln_wI, ln_wJ, ln_wR, tg_cpI, ln_cpI, tg_cpR, ln_cpR, nx_wI, nx_wJ, nx_wR, sl_wI, sl_wJ, sl_wR, nx_cpI, sl_cpI, nx_cpR, sl_cpR, nx_nw, sl_nw, rJ_wI, rR_wI, rI_wJ, rR_wJ, rI_wR, rJ_wR, rJ_cpI, rR_cpI, rJ_cpR, rI_cpR, rI_wI, rJ_wJ, rq_wI, rq_wJ, rq_wR, rq_cpI, ↓reduceIte, Nat.reduceEqDiff, Nat.reduceAdd, Nat.reduceSub, Nat.reduceMul, Int.reduceAdd, Int.reduceSub, Int.reduceMul, Int.reduceNeg, Int.reduceLT, Int.reduceLE, Int.reduceEq, Int.reduceToNat, Int.sub_zero, Int.add_zero, Int.zero_add, true_and, and_true, false_and, and_false, or_true, true_or, or_false, false_or, not_true_eq_false, not_false_eq_true, eq_self, decide_true, decide_false, Bool.not_false, Bool.not_true, Bool.and_true, Bool.true_and, Bool.or_true, Bool.true_or, Bool.and_self, Bool.or_false, Bool.false_or, Bool.and_false, Bool.false_and, t1, t2, t3, t4, m1, m2, b5 2 (by omega), b5 3 (by omega), b5 4 (by omega), Int.mul_assoc]
  split
  all_goals first | rw [bi_neg (by omega)] | rw [bi_pos (by omega)]
theorem cone_has (d : Nat) {σ : St} {a b : Nat} {f : Nat → Int} {x y z : Int} (h1 : 776 ≤ a) (h2 : σ.1 a = 14) (h3 : rq σ a 1 = some b) (hb : SArr σ b 5 f) (hr : ∀ i, i < 6 → -5000 ≤ f i ∧ f i ≤ 5000)
    (hx : -1000000 ≤ x ∧ x ≤ 1000000) (hy : -1000000 ≤ y ∧ y ≤ 1000000) (hz : -1000000 ≤ z ∧ z ≤ 1000000) :
    DD L (d + 1) 124 0 [.ref a, .long (I6 x), .long (I6 y), .long (I6 z)] σ = ok (some (.int (bi (inK 3 (f 0) (f 1) (f 2) (f 3) (f 4) (f 5) x y z)))) σ := by
  have hb0 := hb
  obtain ⟨b1, b2, b3, b4, b5⟩ := hb
  have t1 : tg (FF L) σ a = 14 := (tg_dyn h1).trans h2
  have t2 : rR (FF L) σ a 1 = some b := (rR_dyn h1).trans h3
  have t3 : tg (FF L) σ b = 64 := (tg_dyn b1).trans b3
  have t4 : ln (FF L) σ b = 5 := (ln_dyn b1).trans b4
  have m1 : memN 14 [14] = true := rfl
  have m2 : Nat.beq 64 64 = true := rfl
  have r0 := hr 0 (by omega)
  have r1 := hr 1 (by omega)
  have r2 := hr 2 (by omega)
  have r3 := hr 3 (by omega)
  have r4 := hr 4 (by omega)
  have q1 := sq2_rng (a := x - f 0) (b := y - f 1) (by omega) (by omega)
  have q2 := sq_rng r2
  have v1 : lkN 14 [(14, 125, 9)] = some (125, 9) := rfl
  have v2 : Nat.ble (0 + 9 + 11) 64 = true := rfl
  rw [E_X14_has_0]
  simp (disch := omega) only [I3_of, I6_of, I3_nat, I3_add, I3_sub, I3_mul, I3_neg, I6_add, I6_sub, I6_mul, I6_neg, I3_lt, I3_le, I3_eq, I6_lt, I6_le, I6_eq, I3_cl, I3_64, I6_32, cmp_pos', cmp_neg', cmp_eq', inb_I, cond_true, cond_false, aI_ok, aJ_ok, aA_ok, aV_ok', aI_thr, aJ_thr, aA_thr, aV_thr, ob_some, on_some, on_none, tg_wI, tg_wJ, tg_wR, ln_wI, ln_wJ, ln_wR, tg_cpI, ln_cpI, tg_cpR, ln_cpR, nx_wI, nx_wJ, nx_wR, sl_wI, sl_wJ, sl_wR, nx_cpI, sl_cpI, nx_cpR, sl_cpR, nx_nw, sl_nw, rJ_wI, rR_wI, rI_wJ, rR_wJ, rI_wR, rJ_wR, rJ_cpI, rR_cpI, rJ_cpR, rI_cpR, rI_wI, rJ_wJ, rq_wI, rq_wJ, rq_wR, rq_cpI, ↓reduceIte, Nat.reduceEqDiff, Nat.reduceAdd, Nat.reduceSub, Nat.reduceMul, Int.reduceAdd, Int.reduceSub, Int.reduceMul, Int.reduceNeg, Int.reduceLT, Int.reduceLE, Int.reduceEq, Int.reduceToNat, Int.sub_zero, Int.add_zero, Int.zero_add, true_and, and_true, false_and, and_false, or_true, true_or, or_false, false_or, not_true_eq_false, not_false_eq_true, eq_self, decide_true, decide_false, Bool.not_false, Bool.not_true, Bool.and_true, Bool.true_and, Bool.or_true, Bool.true_or, Bool.and_self, Bool.or_false, Bool.false_or, Bool.and_false, Bool.false_and, t1, t2, t3, t4, m1, m2, b5 0 (by omega), b5 1 (by omega), b5 2 (by omega), b5 3 (by omega), b5 4 (by omega), square_h, vcall_def, v1]
  by_cases c1 : z < f 3
  · rw [if_pos c1, bi_neg]; unfold inK; omega
  rw [if_neg c1]
  by_cases c2 : z < f 4
  · rw [if_pos c2]
    by_cases c3 : f 2 * f 2 < sq2 (x - f 0) (y - f 1)
    · rw [if_pos c3, bi_neg]; unfold inK; omega
    rw [if_neg c3, within_h d h1 h2 h3 hb0 hr (by omega) (by omega)]
    by_cases c4 : sq2 (x - f 0) (y - f 1) * ((f 4 - f 3) * (f 4 - f 3)) ≤ f 2 * f 2 * ((f 4 - z) * (f 4 - z))
    · rw [bi_pos c4, bi_pos (by unfold inK; omega)]; rfl
    · rw [bi_neg c4, bi_neg (by unfold inK; omega)]; rfl
  · rw [if_neg c2, bi_neg]; unfold inK; omega
-- the model's test of the four kinds
theorem kind_m (d : Nat) {σ : St} {s : Nat} {k : Int} {f : Nat → Int} {x y z : Int} (hs : 1 ≤ s ∧ s ≤ 60) (hk : rI σ 715 s = I3 k) (hn : ∀ i, i < 6 → rI σ 716 (6 * s + i) = I3 (f i)) (hk3 : 0 ≤ k ∧ k ≤ 3) (hr : ∀ i, i < 6 → -5000 ≤ f i ∧ f i ≤ 5000)
    (hx : -1000000 ≤ x ∧ x ≤ 1000000) (hy : -1000000 ≤ y ∧ y ≤ 1000000) (hz : -1000000 ≤ z ∧ z ≤ 1000000) :
    DD L (d + 1) 209 0 [.ref 714, .int (I3 s), .long (I6 x), .long (I6 y), .long (I6 z)] σ = ok (some (.int (bi (inK k (f 0) (f 1) (f 2) (f 3) (f 4) (f 5) x y z)))) σ := by
  have num : ∀ i : Nat, i < 6 → DD L d 208 0 [.ref 714, .int (I3 s), .int (I3 i)] σ = ok (some (.int (I3 (f i)))) σ := by
    intro i hi
    rw [E_X8_number_0]
    simp (disch := omega) only [I3_of, I6_of, I3_nat, I3_add, I3_sub, I3_mul, I3_neg, I6_add, I6_sub, I6_mul, I6_neg, I3_lt, I3_le, I3_eq, I6_lt, I6_le, I6_eq, I3_cl, I3_64, I6_32, cmp_pos', cmp_neg', cmp_eq', inb_I, cond_true, cond_false, aI_ok, aJ_ok, aA_ok, aV_ok', aI_thr, aJ_thr, aA_thr, aV_thr, ob_some, on_some, on_none, tg_wI, tg_wJ, tg_wR, ln_wI, ln_wJ, ln_wR, tg_cpI, ln_cpI, tg_cpR, ln_cpR, nx_wI, nx_wJ, nx_wR, sl_wI, sl_wJ, sl_wR, nx_cpI, sl_cpI, nx_cpR, sl_cpR, nx_nw, sl_nw, rJ_wI, rR_wI, rI_wJ, rR_wJ, rI_wR, rJ_wR, rJ_cpI, rR_cpI, rJ_cpR, rI_cpR, rI_wI, rJ_wJ, rq_wI, rq_wJ, rq_wR, rq_cpI, ↓reduceIte, Nat.reduceEqDiff, Nat.reduceAdd, Nat.reduceSub, Nat.reduceMul, Int.reduceAdd, Int.reduceSub, Int.reduceMul, Int.reduceNeg, Int.reduceLT, Int.reduceLE, Int.reduceEq, Int.reduceToNat, Int.sub_zero, Int.add_zero, Int.zero_add, true_and, and_true, false_and, and_false, or_true, true_or, or_false, false_or, not_true_eq_false, not_false_eq_true, eq_self, decide_true, decide_false, Bool.not_false, Bool.not_true, Bool.and_true, Bool.true_and, Bool.or_true, Bool.true_or, Bool.and_self, Bool.or_false, Bool.false_or, Bool.and_false, Bool.false_and]
    rw [show (6 * (s : Int) + (i : Int)).toNat = 6 * s + i by omega, hn i hi]
  have n0 : DD L d 208 0 [.ref 714, .int (I3 s), .int (I3 0)] σ = ok (some (.int (I3 (f 0)))) σ := num 0 (by omega)
  have n1 : DD L d 208 0 [.ref 714, .int (I3 s), .int (I3 1)] σ = ok (some (.int (I3 (f 1)))) σ := num 1 (by omega)
  have n2 : DD L d 208 0 [.ref 714, .int (I3 s), .int (I3 2)] σ = ok (some (.int (I3 (f 2)))) σ := num 2 (by omega)
  have n3 : DD L d 208 0 [.ref 714, .int (I3 s), .int (I3 3)] σ = ok (some (.int (I3 (f 3)))) σ := num 3 (by omega)
  have n4 : DD L d 208 0 [.ref 714, .int (I3 s), .int (I3 4)] σ = ok (some (.int (I3 (f 4)))) σ := num 4 (by omega)
  have n5 : DD L d 208 0 [.ref 714, .int (I3 s), .int (I3 5)] σ = ok (some (.int (I3 (f 5)))) σ := num 5 (by omega)
  have r0 := hr 0 (by omega)
  have r1 := hr 1 (by omega)
  have r2 := hr 2 (by omega)
  have r3 := hr 3 (by omega)
  have r4 := hr 4 (by omega)
  have r5 := hr 5 (by omega)
  have q0 := sq_rng (a := x - f 0) (b := 2000000) (by omega)
  have q1 := sq_rng (a := y - f 1) (b := 2000000) (by omega)
  have q2 := sq_rng (a := z - f 2) (b := 2000000) (by omega)
  have q3 := sq_rng r3
  have q4 := sq_rng r2
  have q5 := sq_rng (a := f 4 - f 3) (b := 10000) (by omega)
  have e0 : ((s : Int)).toNat = s := by omega
  rw [E_X8_isInKind_0]
  simp (maxSteps := 4000000) (disch := omega) only [I3_of, I6_of, I3_nat, I3_add, I3_sub, I3_mul, I3_neg, I6_add, I6_sub, I6_mul, I6_neg, I3_lt, I3_le, I3_eq, I6_lt, I6_le, I6_eq, I3_cl, I3_64, I6_32, cmp_pos', cmp_neg', cmp_eq', inb_I, cond_true, cond_false, aI_ok, aJ_ok, aA_ok, aV_ok', aI_thr, aJ_thr, aA_thr, aV_thr, ob_some, on_some, on_none, tg_wI, tg_wJ, tg_wR, ln_wI, ln_wJ, ln_wR, tg_cpI, ln_cpI, tg_cpR, ln_cpR, nx_wI, nx_wJ, nx_wR, sl_wI, sl_wJ, sl_wR, nx_cpI, sl_cpI, nx_cpR, sl_cpR, nx_nw, sl_nw, rJ_wI, rR_wI, rI_wJ, rR_wJ, rI_wR, rJ_wR, rJ_cpI, rR_cpI, rJ_cpR, rI_cpR, rI_wI, rJ_wJ, rq_wI, rq_wJ, rq_wR, rq_cpI, ↓reduceIte, Nat.reduceEqDiff, Nat.reduceAdd, Nat.reduceSub, Nat.reduceMul, Int.reduceAdd, Int.reduceSub, Int.reduceMul, Int.reduceNeg, Int.reduceLT, Int.reduceLE, Int.reduceEq, Int.reduceToNat, Int.sub_zero, Int.add_zero, Int.zero_add, true_and, and_true, false_and, and_false, or_true, true_or, or_false, false_or, not_true_eq_false, not_false_eq_true, eq_self, decide_true, decide_false, Bool.not_false, Bool.not_true, Bool.and_true, Bool.true_and, Bool.or_true, Bool.true_or, Bool.and_self, Bool.or_false, Bool.false_or, Bool.and_false, Bool.false_and, n0, n1, n2, n3, n4, n5, E_X8_square_0, e0, hk]
  by_cases c0 : k = 0
  · rw [if_pos c0]
    unfold inK
    repeat' split
    all_goals first | rw [bi_neg (by omega)] | rw [bi_pos (by omega)]
  rw [if_neg c0]
  by_cases c2 : k = 2
  · rw [if_pos c2]
    unfold inK sq2
    split
    all_goals first | rw [bi_neg (by omega)] | rw [bi_pos (by omega)]
  rw [if_neg c2]
  by_cases c3 : z < f 3
  · rw [if_pos c3, bi_neg]; unfold inK; omega
  rw [if_neg c3]
  by_cases c4 : z < f 4
  · rw [if_pos c4]
    by_cases c5 : f 2 * f 2 < (x - f 0) * (x - f 0) + (y - f 1) * (y - f 1)
    · rw [if_pos c5, bi_neg]; unfold inK sq2; omega
    rw [if_neg c5]
    by_cases c6 : k = 1
    · rw [if_pos c6, bi_pos]; unfold inK sq2; omega
    rw [if_neg c6]
    have q6 := sq_rng (a := f 4 - z) (b := 10000) (by omega)
    have p1 : 0 ≤ ((x - f 0) * (x - f 0) + (y - f 1) * (y - f 1)) * ((f 4 - f 3) * (f 4 - f 3)) ∧ ((x - f 0) * (x - f 0) + (y - f 1) * (y - f 1)) * ((f 4 - f 3) * (f 4 - f 3)) ≤ (5000 * 5000) * (10000 * 10000) := ⟨Int.mul_nonneg (by omega) q5.1, Int.mul_le_mul (by omega) q5.2 q5.1 (by omega)⟩
    have p2 : 0 ≤ f 2 * f 2 * ((f 4 - z) * (f 4 - z)) ∧ f 2 * f 2 * ((f 4 - z) * (f 4 - z)) ≤ (5000 * 5000) * (10000 * 10000) := ⟨Int.mul_nonneg q4.1 q6.1, Int.mul_le_mul q4.2 q6.2 q6.1 (by omega)⟩
    simp only [I6_lt (a := f 2 * f 2 * ((f 4 - z) * (f 4 - z))) (b := ((x - f 0) * (x - f 0) + (y - f 1) * (y - f 1)) * ((f 4 - f 3) * (f 4 - f 3))) (by omega)]
    unfold inK sq2
    split
    all_goals first | rw [bi_neg (by omega)] | rw [bi_pos (by omega)]
  · rw [if_neg c4, bi_neg]; unfold inK; omega
end SOLID
