/-! ===== part B: the base: numbers, reads over writes, answers of calls, ends, frames ===== -/
section BASE
variable {L : Nat} {F : Fx} {s : St}
theorem E_J11_checkIndex_n (d : Nat) (i n : Int32) (s : St) : DD L d 3 0 [.int i, .int n, .null] s = (if i < 0 then DD L d 3 9 [.int i, .int n, .null] s else (if i < n then (ok (some (.int i)) s) else DD L d 3 9 [.int i, .int n, .null] s)) := (D_eq (FF L) MT _ _ _ _ _).trans rfl
-- numbers
def I3 (z : Int) : Int32 := Int32.ofInt z
def I6 (z : Int) : Int64 := Int64.ofInt z
theorem I3_to (x : Int32) : I3 x.toInt = x := Int32.ofInt_toInt x
theorem I6_to (x : Int64) : I6 x.toInt = x := Int64.ofInt_toInt x
theorem I3_ex (x : Int32) : ∃ z : Int, x = I3 z ∧ -2147483648 ≤ z ∧ z ≤ 2147483647 := ⟨x.toInt, (I3_to x).symm, by have := x.le_toInt; omega, by have := x.toInt_lt; omega⟩
theorem I6_ex (x : Int64) : ∃ z : Int, x = I6 z ∧ -9223372036854775808 ≤ z ∧ z ≤ 9223372036854775807 := ⟨x.toInt, (I6_to x).symm, by have := x.le_toInt; omega, by have := x.toInt_lt; omega⟩
theorem bm32 {z : Int} (h1 : -2147483648 ≤ z) (h2 : z ≤ 2147483647) : z.bmod (2 ^ 32) = z := Int.bmod_eq_of_le (by omega) (by omega)
theorem bm64 {z : Int} (h1 : -9223372036854775808 ≤ z) (h2 : z ≤ 9223372036854775807) : z.bmod (2 ^ 64) = z := Int.bmod_eq_of_le (by omega) (by omega)
theorem I3_toInt {z : Int} (h : -2147483648 ≤ z ∧ z ≤ 2147483647) : (I3 z).toInt = z := by
  unfold I3; rw [Int32.toInt_ofInt]; exact bm32 h.1 h.2
theorem I6_toInt {z : Int} (h : -9223372036854775808 ≤ z ∧ z ≤ 9223372036854775807) : (I6 z).toInt = z := by
  unfold I6; rw [Int64.toInt_ofInt]; exact bm64 h.1 h.2
theorem I3_of (n : Nat) : (OfNat.ofNat n : Int32) = I3 (OfNat.ofNat n) := (Int32.ofInt_eq_ofNat).symm
theorem I6_of (n : Nat) : (OfNat.ofNat n : Int64) = I6 (OfNat.ofNat n) := (Int64.ofInt_eq_ofNat).symm
theorem I3_nat (n : Nat) : Int32.ofNat n = I3 n := (Int32.ofInt_eq_ofNat).symm
theorem I3_add (a b : Int) : I3 a + I3 b = I3 (a + b) := (Int32.ofInt_add a b).symm
theorem I3_sub (a b : Int) : I3 a - I3 b = I3 (a - b) := (Int32.ofInt_sub a b).symm
theorem I3_mul (a b : Int) : I3 a * I3 b = I3 (a * b) := (Int32.ofInt_mul a b).symm
theorem I3_neg (a : Int) : - I3 a = I3 (-a) := (Int32.ofInt_neg a).symm
theorem I6_add (a b : Int) : I6 a + I6 b = I6 (a + b) := (Int64.ofInt_add a b).symm
theorem I6_sub (a b : Int) : I6 a - I6 b = I6 (a - b) := (Int64.ofInt_sub a b).symm
theorem I6_mul (a b : Int) : I6 a * I6 b = I6 (a * b) := (Int64.ofInt_mul a b).symm
theorem I6_neg (a : Int) : - I6 a = I6 (-a) := (Int64.ofInt_neg a).symm
def B3 (z : Int) : Prop := -2147483648 ≤ z ∧ z ≤ 2147483647
theorem I3_lt {a b : Int} (h : -2147483648 ≤ a ∧ a ≤ 2147483647 ∧ -2147483648 ≤ b ∧ b ≤ 2147483647) : (I3 a < I3 b) = (a < b) := by
  rw [Int32.lt_iff_toInt_lt, I3_toInt ⟨h.1, h.2.1⟩, I3_toInt h.2.2]
theorem I3_le {a b : Int} (h : -2147483648 ≤ a ∧ a ≤ 2147483647 ∧ -2147483648 ≤ b ∧ b ≤ 2147483647) : (I3 a ≤ I3 b) = (a ≤ b) := by
  rw [Int32.le_iff_toInt_le, I3_toInt ⟨h.1, h.2.1⟩, I3_toInt h.2.2]
theorem I3_eq {a b : Int} (h : -2147483648 ≤ a ∧ a ≤ 2147483647 ∧ -2147483648 ≤ b ∧ b ≤ 2147483647) : (I3 a = I3 b) = (a = b) := by
  rw [← Int32.toInt_inj, I3_toInt ⟨h.1, h.2.1⟩, I3_toInt h.2.2]
theorem I6_lt {a b : Int} (h : -9223372036854775808 ≤ a ∧ a ≤ 9223372036854775807 ∧ -9223372036854775808 ≤ b ∧ b ≤ 9223372036854775807) : (I6 a < I6 b) = (a < b) := by
  rw [Int64.lt_iff_toInt_lt, I6_toInt ⟨h.1, h.2.1⟩, I6_toInt h.2.2]
theorem I6_le {a b : Int} (h : -9223372036854775808 ≤ a ∧ a ≤ 9223372036854775807 ∧ -9223372036854775808 ≤ b ∧ b ≤ 9223372036854775807) : (I6 a ≤ I6 b) = (a ≤ b) := by
  rw [Int64.le_iff_toInt_le, I6_toInt ⟨h.1, h.2.1⟩, I6_toInt h.2.2]
theorem I6_eq {a b : Int} (h : -9223372036854775808 ≤ a ∧ a ≤ 9223372036854775807 ∧ -9223372036854775808 ≤ b ∧ b ≤ 9223372036854775807) : (I6 a = I6 b) = (a = b) := by
  rw [← Int64.toInt_inj, I6_toInt ⟨h.1, h.2.1⟩, I6_toInt h.2.2]
theorem I3_cl {a : Int} (h : -2147483648 ≤ a ∧ a ≤ 2147483647) : (I3 a).toNatClampNeg = a.toNat := by
  have : (I3 a).toNatClampNeg = (I3 a).toInt.toNat := rfl
  rw [this, I3_toInt h]
theorem I3_64 {a : Int} (h : -2147483648 ≤ a ∧ a ≤ 2147483647) : (I3 a).toInt64 = I6 a := by
  rw [← Int64.toInt_inj, Int32.toInt_toInt64, I3_toInt h, I6_toInt (by omega)]
theorem I6_32 {a : Int} (h : -2147483648 ≤ a ∧ a ≤ 2147483647) : (I6 a).toInt32 = I3 a := by
  rw [← Int32.toInt_inj, Int64.toInt_toInt32, I3_toInt h, I6_toInt (by omega)]; exact bm32 h.1 h.2
theorem I3_div {a b : Int} (h : -2147483647 ≤ a ∧ a ≤ 2147483647 ∧ 0 < b ∧ b ≤ 2147483647) : I3 a / I3 b = I3 (a.tdiv b) := by
  have ha := I3_toInt (z := a) (by omega)
  have hb := I3_toInt (z := b) (by omega)
  rw [← Int32.toInt_inj, Int32.toInt_div_of_ne_right _ _ (by intro q; rw [q] at hb; have : (-1 : Int32).toInt = -1 := by decide
                                                             omega), ha, hb, I3_toInt]
  rcases Int.le_total 0 a with h0 | h0
  · rw [Int.tdiv_eq_ediv_of_nonneg h0]
    exact ⟨by have := Int.ediv_nonneg h0 (by omega : 0 ≤ b); omega, by have := Int.ediv_le_self b h0; omega⟩
  · have e : a.tdiv b = -((-a) / b) := by rw [← Int.tdiv_eq_ediv_of_nonneg (by omega), Int.neg_tdiv, Int.neg_neg]
    rw [e]
    exact ⟨by have := Int.ediv_le_self b (a := -a) (by omega); omega, by have := Int.ediv_nonneg (a := -a) (by omega) (by omega : 0 ≤ b); omega⟩
theorem I6_div {a b : Int} (h : -9223372036854775807 ≤ a ∧ a ≤ 9223372036854775807 ∧ 0 < b ∧ b ≤ 9223372036854775807) : I6 a / I6 b = I6 (a.tdiv b) := by
  have ha := I6_toInt (z := a) (by omega)
  have hb := I6_toInt (z := b) (by omega)
  rw [← Int64.toInt_inj, Int64.toInt_div_of_ne_right _ _ (by intro q; rw [q] at hb; have : (-1 : Int64).toInt = -1 := by decide
                                                             omega), ha, hb, I6_toInt]
  rcases Int.le_total 0 a with h0 | h0
  · rw [Int.tdiv_eq_ediv_of_nonneg h0]
    exact ⟨by have := Int.ediv_nonneg h0 (by omega : 0 ≤ b); omega, by have := Int.ediv_le_self b h0; omega⟩
  · have e : a.tdiv b = -((-a) / b) := by rw [← Int.tdiv_eq_ediv_of_nonneg (by omega), Int.neg_tdiv, Int.neg_neg]
    rw [e]
    exact ⟨by have := Int.ediv_le_self b (a := -a) (by omega); omega, by have := Int.ediv_nonneg (a := -a) (by omega) (by omega : 0 ≤ b); omega⟩
theorem I3_divp {a b : Int} (h : 0 ≤ a ∧ a ≤ 2147483647 ∧ 0 < b ∧ b ≤ 2147483647) : I3 a / I3 b = I3 (a / b) := by
  rw [I3_div (by omega), Int.tdiv_eq_ediv_of_nonneg h.1]
theorem I6_divp {a b : Int} (h : 0 ≤ a ∧ a ≤ 9223372036854775807 ∧ 0 < b ∧ b ≤ 9223372036854775807) : I6 a / I6 b = I6 (a / b) := by
  rw [I6_div (by omega), Int.tdiv_eq_ediv_of_nonneg h.1]
-- comparisons of longs
theorem cmp_pos {x y : Int64} : (0 < lg_cmp x y) = (y < x) := by
  unfold lg_cmp
  split
  · rename_i h; exact propext ⟨fun _ => h, fun _ => by decide⟩
  · rename_i h
    split
    · exact propext ⟨fun q => absurd q (by decide), fun q => absurd q h⟩
    · exact propext ⟨fun q => absurd q (by decide), fun q => absurd q h⟩
theorem cmp_neg {x y : Int64} : (lg_cmp x y < 0) = (x < y) := by
  unfold lg_cmp
  split
  · rename_i h; exact propext ⟨fun q => absurd q (by decide), fun q => by exfalso; grind⟩
  · rename_i h
    split
    · rename_i h2; subst h2; exact propext ⟨fun q => absurd q (by decide), fun q => absurd q h⟩
    · rename_i h2; exact propext ⟨fun _ => by grind, fun _ => by decide⟩
theorem cmp_eq {x y : Int64} : (lg_cmp x y = 0) = (x = y) := by
  unfold lg_cmp
  split
  · rename_i h; exact propext ⟨fun q => absurd q (by decide), fun q => by exfalso; grind⟩
  · split
    · rename_i h2; exact propext ⟨fun _ => h2, fun _ => rfl⟩
    · rename_i h2; exact propext ⟨fun q => absurd q (by decide), fun q => absurd q h2⟩
theorem cmp_pos' {x y : Int64} : (I3 0 < lg_cmp x y) = (y < x) := cmp_pos
theorem cmp_neg' {x y : Int64} : (lg_cmp x y < I3 0) = (x < y) := cmp_neg
theorem cmp_eq' {x y : Int64} : (lg_cmp x y = I3 0) = (x = y) := cmp_eq
theorem inb_iff {i : Int32} {n : Nat} : inb i n = true ↔ 0 ≤ i ∧ i.toNatClampNeg < n := by
  unfold inb
  rw [Bool.and_eq_true, decide_eq_true_eq, Nat.blt_eq]
theorem inb_I {z : Int} {n : Nat} (h : 0 ≤ z ∧ z < n ∧ z ≤ 2147483647) : inb (I3 z) n = true := by
  rw [inb_iff, show (0 : Int32) = I3 0 from rfl, I3_le (by omega), I3_cl (by omega)]
  omega
-- writes leave tags, lengths, counters
theorem tg_wI {a k v b} : tg F (wI s a k v) b = tg F s b := rfl
theorem tg_wJ {a k v b} : tg F (wJ s a k v) b = tg F s b := rfl
theorem tg_wR {a k v b} : tg F (wR s a k v) b = tg F s b := rfl
theorem ln_wI {a k v b} : ln F (wI s a k v) b = ln F s b := rfl
theorem ln_wJ {a k v b} : ln F (wJ s a k v) b = ln F s b := rfl
theorem ln_wR {a k v b} : ln F (wR s a k v) b = ln F s b := rfl
theorem tg_cpI {a k b j n c} : tg F (cpI s a k b j n) c = tg F s c := rfl
theorem ln_cpI {a k b j n c} : ln F (cpI s a k b j n) c = ln F s c := rfl
theorem tg_cpR {a k b j n c} : tg F (cpR s a k b j n) c = tg F s c := rfl
theorem ln_cpR {a k b j n c} : ln F (cpR s a k b j n) c = ln F s c := rfl
theorem nx_wI {a k v} : nx (wI s a k v) = nx s := rfl
theorem nx_wJ {a k v} : nx (wJ s a k v) = nx s := rfl
theorem nx_wR {a k v} : nx (wR s a k v) = nx s := rfl
theorem sl_wI {a k v} : sl (wI s a k v) = sl s := rfl
theorem sl_wJ {a k v} : sl (wJ s a k v) = sl s := rfl
theorem sl_wR {a k v} : sl (wR s a k v) = sl s := rfl
theorem nx_cpI {a k b j n} : nx (cpI s a k b j n) = nx s := rfl
theorem sl_cpI {a k b j n} : sl (cpI s a k b j n) = sl s := rfl
theorem nx_cpR {a k b j n} : nx (cpR s a k b j n) = nx s := rfl
theorem sl_cpR {a k b j n} : sl (cpR s a k b j n) = sl s := rfl
theorem nx_nw {t n k} : nx (nw s t n k) = nx s + 1 := rfl
theorem sl_nw {t n k} : sl (nw s t n k) = sl s + k := rfl
theorem rJ_wI {a k v b j} : rJ (wI s a k v) b j = rJ s b j := rfl
theorem rR_wI {a k v b j} : rR F (wI s a k v) b j = rR F s b j := rfl
theorem rI_wJ {a k v b j} : rI (wJ s a k v) b j = rI s b j := rfl
theorem rR_wJ {a k v b j} : rR F (wJ s a k v) b j = rR F s b j := rfl
theorem rI_wR {a k v b j} : rI (wR s a k v) b j = rI s b j := rfl
theorem rJ_wR {a k v b j} : rJ (wR s a k v) b j = rJ s b j := rfl
theorem rJ_cpI {a k b j n c i} : rJ (cpI s a k b j n) c i = rJ s c i := rfl
theorem rR_cpI {a k b j n c i} : rR F (cpI s a k b j n) c i = rR F s c i := rfl
theorem rJ_cpR {a k b j n c i} : rJ (cpR s a k b j n) c i = rJ s c i := rfl
theorem rI_cpR {a k b j n c i} : rI (cpR s a k b j n) c i = rI s c i := rfl
theorem up2_eq {α : Type} {f : Nat → Nat → α} {a k : Nat} {v : α} {b j : Nat} : up2 f a k v b j = if b = a ∧ j = k then v else f b j := by
  unfold up2
  by_cases h : b = a
  · subst h
    by_cases h2 : j = k
    · subst h2; simp
    · have : Nat.beq j k = false := by rw [Bool.eq_false_iff, ne_eq, Nat.beq_eq]; exact h2
      simp [this, h2]
  · have : Nat.beq b a = false := by rw [Bool.eq_false_iff, ne_eq, Nat.beq_eq]; exact h
    simp [this, h]
theorem up1_eq {α : Type} {f : Nat → α} {a : Nat} {v : α} {b : Nat} : up1 f a v b = if b = a then v else f b := by
  unfold up1
  by_cases h : b = a
  · subst h; simp
  · have : Nat.beq b a = false := by rw [Bool.eq_false_iff, ne_eq, Nat.beq_eq]; exact h
    simp [this, h]
theorem rI_wI {a k v b j} : rI (wI s a k v) b j = if b = a ∧ j = k then v else rI s b j := up2_eq
theorem rJ_wJ {a k v b j} : rJ (wJ s a k v) b j = if b = a ∧ j = k then v else rJ s b j := up2_eq
theorem rI_wI' {a k v j} : rI (wI s a k v) a j = if j = k then v else rI s a j := by rw [rI_wI]; simp
theorem rJ_wJ' {a k v j} : rJ (wJ s a k v) a j = if j = k then v else rJ s a j := by rw [rJ_wJ]; simp
theorem rI_wIs {a k v} : rI (wI s a k v) a k = v := by rw [rI_wI]; simp
theorem rJ_wJs {a k v} : rJ (wJ s a k v) a k = v := by rw [rJ_wJ]; simp
theorem rI_wIn {a k v b j} (h : b ≠ a) : rI (wI s a k v) b j = rI s b j := by rw [rI_wI, if_neg (fun q => h q.1)]
theorem rJ_wJn {a k v b j} (h : b ≠ a) : rJ (wJ s a k v) b j = rJ s b j := by rw [rJ_wJ, if_neg (fun q => h q.1)]
/-- what stands in the store of references -/
def rq (σ : St) (a k : Nat) : Option Nat := σ.2.2.2.2.1 a k
theorem rR_rq {a k} : rR F s a k = oR (fR F a k) (rq s a k) := rfl
theorem rR_free {a k} (h : fR F a k = none) : rR F s a k = rq s a k := by rw [rR_rq, h]; rfl
theorem rq_wI {a k v b j} : rq (wI s a k v) b j = rq s b j := rfl
theorem rq_wJ {a k v b j} : rq (wJ s a k v) b j = rq s b j := rfl
theorem rq_wR {a k v b j} : rq (wR s a k v) b j = if b = a ∧ j = k then v else rq s b j := up2_eq
theorem rq_cpI {a k b j n c i} : rq (cpI s a k b j n) c i = rq s c i := rfl
theorem rR_wR {a k v b j} (h : b ≠ a ∨ j ≠ k) : rR F (wR s a k v) b j = rR F s b j := by
  rw [rR_rq, rR_rq, rq_wR, if_neg]
  intro q
  rcases h with h | h
  · exact h q.1
  · exact h q.2
theorem rR_wRs {a k v} (h : fR F a k = none) : rR F (wR s a k v) a k = v := by
  rw [rR_free h, rq_wR]; simp
theorem fR_dyn {a k} (h : 776 ≤ a) : fR (FF L) a k = none := by
  unfold fR
  have : Nat.blt a (FF L).1 = false := by rw [Bool.eq_false_iff, ne_eq, Nat.blt_eq]; show ¬ a < 776; omega
  rw [this]; rfl
theorem tg_dyn {a} (h : 776 ≤ a) : tg (FF L) s a = s.1 a := by
  unfold tg
  have : Nat.blt a (FF L).1 = false := by rw [Bool.eq_false_iff, ne_eq, Nat.blt_eq]; show ¬ a < 776; omega
  rw [this]; rfl
theorem ln_dyn {a} (h : 776 ≤ a) : ln (FF L) s a = s.2.1 a := by
  unfold ln
  have : Nat.blt a (FF L).1 = false := by rw [Bool.eq_false_iff, ne_eq, Nat.blt_eq]; show ¬ a < 776; omega
  rw [this]; rfl
theorem rR_dyn {a k} (h : 776 ≤ a) : rR (FF L) s a k = rq s a k := rR_free (fR_dyn h)
-- a new cell
theorem rI_nw {t n k b j} : rI (nw s t n k) b j = if b = nx s then 0 else rI s b j := by
  show up1 s.2.2.1 (nx s) (fun _ => 0) b j = _
  rw [up1_eq]; split <;> rfl
theorem rJ_nw {t n k b j} : rJ (nw s t n k) b j = if b = nx s then 0 else rJ s b j := by
  show up1 s.2.2.2.1 (nx s) (fun _ => 0) b j = _
  rw [up1_eq]; split <;> rfl
theorem rq_nw {t n k b j} : rq (nw s t n k) b j = if b = nx s then none else rq s b j := by
  show up1 s.2.2.2.2.1 (nx s) (fun _ => none) b j = _
  rw [up1_eq]; split <;> rfl
theorem t_nw {t n k b} : (nw s t n k).1 b = if b = nx s then t else s.1 b := up1_eq
theorem l_nw {t n k b} : (nw s t n k).2.1 b = if b = nx s then n else s.2.1 b := up1_eq
theorem tg_nw {t n k} (h : 776 ≤ nx s) : tg (FF L) (nw s t n k) (nx s) = t := by rw [tg_dyn h, t_nw, if_pos rfl]
theorem ln_nw {t n k} (h : 776 ≤ nx s) : ln (FF L) (nw s t n k) (nx s) = n := by rw [ln_dyn h, l_nw, if_pos rfl]
theorem tg_nwn {t n k b} (h : b ≠ nx s) : tg F (nw s t n k) b = tg F s b := by unfold tg; rw [t_nw, if_neg h]
theorem ln_nwn {t n k b} (h : b ≠ nx s) : ln F (nw s t n k) b = ln F s b := by unfold ln; rw [l_nw, if_neg h]
theorem rR_nwn {t n k b j} (h : b ≠ nx s) : rR F (nw s t n k) b j = rR F s b j := by rw [rR_rq, rR_rq, rq_nw, if_neg h]
theorem rI_cpI {a k b j n c i} : rI (cpI s a k b j n) c i = if c = b ∧ j ≤ i ∧ i < j + n then rI s a (k + (i - j)) else rI s c i := by
  show up1 s.2.2.1 b (cp1 (s.2.2.1 a) (s.2.2.1 b) k j n) c i = _
  rw [up1_eq]
  by_cases h : c = b
  · subst h
    rw [if_pos rfl]
    unfold cp1
    by_cases h1 : j ≤ i ∧ i < j + n
    · have e1 : Nat.ble j i = true := Nat.ble_eq.mpr h1.1
      have e2 : Nat.blt i (j + n) = true := Nat.blt_eq.mpr h1.2
      rw [e1, e2, if_pos ⟨rfl, h1⟩]; rfl
    · rw [if_neg (fun q => h1 q.2)]
      have : (Nat.ble j i && Nat.blt i (j + n)) = false := by
        rw [Bool.eq_false_iff, ne_eq, Bool.and_eq_true, Nat.ble_eq, Nat.blt_eq]; exact h1
      rw [this]; rfl
  · rw [if_neg h, if_neg (fun q => h q.1)]; rfl
theorem rq_cpR {a k b j n c i} : rq (cpR s a k b j n) c i = if c = b ∧ j ≤ i ∧ i < j + n then rq s a (k + (i - j)) else rq s c i := by
  show up1 s.2.2.2.2.1 b (cp1 (s.2.2.2.2.1 a) (s.2.2.2.2.1 b) k j n) c i = _
  rw [up1_eq]
  by_cases h : c = b
  · subst h
    rw [if_pos rfl]
    unfold cp1
    by_cases h1 : j ≤ i ∧ i < j + n
    · have e1 : Nat.ble j i = true := Nat.ble_eq.mpr h1.1
      have e2 : Nat.blt i (j + n) = true := Nat.blt_eq.mpr h1.2
      rw [e1, e2, if_pos ⟨rfl, h1⟩]; rfl
    · rw [if_neg (fun q => h1 q.2)]
      have : (Nat.ble j i && Nat.blt i (j + n)) = false := by
        rw [Bool.eq_false_iff, ne_eq, Bool.and_eq_true, Nat.ble_eq, Nat.blt_eq]; exact h1
      rw [this]; rfl
  · rw [if_neg h, if_neg (fun q => h q.1)]; rfl
-- answers of calls
theorem aI_ok {x : Int32} {σ : St} {k : Int32 → St → Res} {h : Nat → St → Res} : aI (ok (some (.int x)) σ) k h = k x σ := rfl
theorem aJ_ok {x : Int64} {σ : St} {k : Int64 → St → Res} {h : Nat → St → Res} : aJ (ok (some (.long x)) σ) k h = k x σ := rfl
theorem aA_ok {x : Nat} {σ : St} {k : Nat → St → Res} {h : Nat → St → Res} : aA (ok (some (.ref x)) σ) k h = k x σ := rfl
theorem aV_ok' {σ : St} {k : St → Res} {h : Nat → St → Res} : aV (ok none σ) k h = k σ := rfl
theorem aI_thr {a : Nat} {σ : St} {k : Int32 → St → Res} {h : Nat → St → Res} : aI (thr a σ) k h = h a σ := rfl
theorem aJ_thr {a : Nat} {σ : St} {k : Int64 → St → Res} {h : Nat → St → Res} : aJ (thr a σ) k h = h a σ := rfl
theorem aA_thr {a : Nat} {σ : St} {k : Nat → St → Res} {h : Nat → St → Res} : aA (thr a σ) k h = h a σ := rfl
theorem aV_thr {a : Nat} {σ : St} {k : St → Res} {h : Nat → St → Res} : aV (thr a σ) k h = h a σ := rfl
theorem ob_some {α : Type} {x : α} {k : α → Res} : ob (some x) k = k x := rfl
theorem on_some {x : Nat} {k : Nat → Res} {n : Res} : on (some x) k n = k x := rfl
theorem on_none {k : Nat → Res} {n : Res} : on none k n = n := rfl
theorem vcall_def (t : Nat) (ts : List (Nat × Nat × Nat)) (c : Nat) (k : Nat → Res) : vcall t ts c k = ob (lkN t ts) fun w => bif Nat.ble (c + w.2 + 11) 64 then k w.1 else none := rfl
-- it ends, and so
def Ends (r : Res) (Q : Out → St → Prop) : Prop := ∃ o τ, r = some (o, τ) ∧ Q o τ
def rv (P : St → Prop) : Out → St → Prop := fun o τ => o = .inl none ∧ P τ
def ri (P : Int32 → St → Prop) : Out → St → Prop := fun o τ => ∃ x, o = .inl (some (.int x)) ∧ P x τ
def rj (P : Int64 → St → Prop) : Out → St → Prop := fun o τ => ∃ x, o = .inl (some (.long x)) ∧ P x τ
def ra (P : Nat → St → Prop) : Out → St → Prop := fun o τ => ∃ x, o = .inl (some (.ref x)) ∧ P x τ
def orT (P : Out → St → Prop) (T : Nat → St → Prop) : Out → St → Prop := fun o τ => P o τ ∨ ∃ a, o = .inr a ∧ T a τ
theorem en_ok {v : Option Value} {Q : Out → St → Prop} (h : Q (.inl v) s) : Ends (ok v s) Q := ⟨_, _, rfl, h⟩
theorem en_thr {a : Nat} {Q : Out → St → Prop} (h : Q (.inr a) s) : Ends (thr a s) Q := ⟨_, _, rfl, h⟩
theorem en_v {P : St → Prop} (h : P s) : Ends (ok none s) (rv P) := ⟨_, _, rfl, rfl, h⟩
theorem en_i {P : Int32 → St → Prop} {x : Int32} (h : P x s) : Ends (ok (some (.int x)) s) (ri P) := ⟨_, _, rfl, x, rfl, h⟩
theorem en_j {P : Int64 → St → Prop} {x : Int64} (h : P x s) : Ends (ok (some (.long x)) s) (rj P) := ⟨_, _, rfl, x, rfl, h⟩
theorem en_a {P : Nat → St → Prop} {x : Nat} (h : P x s) : Ends (ok (some (.ref x)) s) (ra P) := ⟨_, _, rfl, x, rfl, h⟩
theorem en_t {P : Out → St → Prop} {T : Nat → St → Prop} {a : Nat} (h : T a s) : Ends (thr a s) (orT P T) := ⟨_, _, rfl, Or.inr ⟨a, rfl, h⟩⟩
theorem en_n {P : Out → St → Prop} {T : Nat → St → Prop} {r : Res} (h : Ends r P) : Ends r (orT P T) := by
  obtain ⟨o, τ, e, p⟩ := h
  exact ⟨o, τ, e, Or.inl p⟩
theorem en_mono {r : Res} {P Q : Out → St → Prop} (h : Ends r P) (hpq : ∀ o τ, P o τ → Q o τ) : Ends r Q := by
  obtain ⟨o, τ, e, p⟩ := h
  exact ⟨o, τ, e, hpq _ _ p⟩
theorem en_ite {c : Prop} {hc : Decidable c} {a b : Res} {Q : Out → St → Prop} (h1 : c → Ends a Q) (h2 : ¬ c → Ends b Q) : Ends (if c then a else b) Q := by
  by_cases h : c
  · rw [if_pos h]; exact h1 h
  · rw [if_neg h]; exact h2 h
theorem en_bif {c : Bool} {a b : Res} {Q : Out → St → Prop} (h : c = true) (h1 : Ends a Q) : Ends (bif c then a else b) Q := by
  rw [h]; exact h1
theorem en_aV {r : Res} {k : St → Res} {h : Nat → St → Res} {P : St → Prop} {Q : Out → St → Prop} (hr : Ends r (rv P)) (hk : ∀ τ, P τ → Ends (k τ) Q) : Ends (aV r k h) Q := by
  obtain ⟨o, τ, e, eo, p⟩ := hr
  subst e; subst eo
  exact hk τ p
theorem en_aI {r : Res} {k : Int32 → St → Res} {h : Nat → St → Res} {P : Int32 → St → Prop} {Q : Out → St → Prop} (hr : Ends r (ri P)) (hk : ∀ x τ, P x τ → Ends (k x τ) Q) : Ends (aI r k h) Q := by
  obtain ⟨o, τ, e, x, eo, p⟩ := hr
  subst e; subst eo
  exact hk x τ p
theorem en_aJ {r : Res} {k : Int64 → St → Res} {h : Nat → St → Res} {P : Int64 → St → Prop} {Q : Out → St → Prop} (hr : Ends r (rj P)) (hk : ∀ x τ, P x τ → Ends (k x τ) Q) : Ends (aJ r k h) Q := by
  obtain ⟨o, τ, e, x, eo, p⟩ := hr
  subst e; subst eo
  exact hk x τ p
theorem en_aA {r : Res} {k : Nat → St → Res} {h : Nat → St → Res} {P : Nat → St → Prop} {Q : Out → St → Prop} (hr : Ends r (ra P)) (hk : ∀ x τ, P x τ → Ends (k x τ) Q) : Ends (aA r k h) Q := by
  obtain ⟨o, τ, e, x, eo, p⟩ := hr
  subst e; subst eo
  exact hk x τ p
theorem en_aVt {r : Res} {k : St → Res} {h : Nat → St → Res} {P : St → Prop} {T : Nat → St → Prop} {Q : Out → St → Prop} (hr : Ends r (orT (rv P) T)) (hk : ∀ τ, P τ → Ends (k τ) Q) (hh : ∀ a τ, T a τ → Ends (h a τ) Q) : Ends (aV r k h) Q := by
  obtain ⟨o, τ, e, (⟨eo, p⟩ | ⟨a, eo, p⟩)⟩ := hr
  · subst e; subst eo; exact hk τ p
  · subst e; subst eo; exact hh a τ p
theorem en_aIt {r : Res} {k : Int32 → St → Res} {h : Nat → St → Res} {P : Int32 → St → Prop} {T : Nat → St → Prop} {Q : Out → St → Prop} (hr : Ends r (orT (ri P) T)) (hk : ∀ x τ, P x τ → Ends (k x τ) Q) (hh : ∀ a τ, T a τ → Ends (h a τ) Q) : Ends (aI r k h) Q := by
  obtain ⟨o, τ, e, (⟨x, eo, p⟩ | ⟨a, eo, p⟩)⟩ := hr
  · subst e; subst eo; exact hk x τ p
  · subst e; subst eo; exact hh a τ p
theorem en_aJt {r : Res} {k : Int64 → St → Res} {h : Nat → St → Res} {P : Int64 → St → Prop} {T : Nat → St → Prop} {Q : Out → St → Prop} (hr : Ends r (orT (rj P) T)) (hk : ∀ x τ, P x τ → Ends (k x τ) Q) (hh : ∀ a τ, T a τ → Ends (h a τ) Q) : Ends (aJ r k h) Q := by
  obtain ⟨o, τ, e, (⟨x, eo, p⟩ | ⟨a, eo, p⟩)⟩ := hr
  · subst e; subst eo; exact hk x τ p
  · subst e; subst eo; exact hh a τ p
theorem en_aAt {r : Res} {k : Nat → St → Res} {h : Nat → St → Res} {P : Nat → St → Prop} {T : Nat → St → Prop} {Q : Out → St → Prop} (hr : Ends r (orT (ra P) T)) (hk : ∀ x τ, P x τ → Ends (k x τ) Q) (hh : ∀ a τ, T a τ → Ends (h a τ) Q) : Ends (aA r k h) Q := by
  obtain ⟨o, τ, e, (⟨x, eo, p⟩ | ⟨a, eo, p⟩)⟩ := hr
  · subst e; subst eo; exact hk x τ p
  · subst e; subst eo; exact hh a τ p
theorem en_ob {α : Type} {o : Option α} {b : α} {k : α → Res} {Q : Out → St → Prop} (h : o = some b) (hk : Ends (k b) Q) : Ends (ob o k) Q := by
  rw [h]; exact hk
-- modules: who owns a field
def md (σ : St) (a k : Nat) : Nat := bif Nat.blt a 776 then
    (bif Nat.beq a 16 then (bif Nat.blt k 3 then 2 else bif Nat.blt k 5 then 4 else bif Nat.blt k 7 then 6 else bif Nat.blt k 10 then 8 else bif Nat.blt k 11 then 10 else bif Nat.blt k 15 then 12 else bif Nat.blt k 20 then 14 else bif Nat.blt k 69 then 16 else 18)
     else bif Nat.beq a 714 then (bif Nat.blt k 6 then 3 else bif Nat.blt k 7 then 5 else bif Nat.blt k 20 then 7 else bif Nat.blt k 30 then 9 else bif Nat.blt k 34 then 11 else bif Nat.blt k 37 then 15 else bif Nat.blt k 40 then 21 else bif Nat.blt k 43 then 13 else bif Nat.blt k 46 then 21 else bif Nat.blt k 47 then 13 else bif Nat.blt k 50 then 21 else bif Nat.blt k 97 then 17 else 19)
     else bif Nat.blt a 714 then
       (bif Nat.blt a 16 then 0 else bif Nat.blt a 19 then 2 else bif Nat.blt a 629 then 4 else bif Nat.blt a 641 then 6 else bif Nat.blt a 645 then 8 else bif Nat.blt a 646 then 10 else bif Nat.blt a 647 then 12 else bif Nat.blt a 700 then 14 else bif Nat.blt a 713 then 16 else 18)
     else (bif Nat.blt a 719 then 3 else bif Nat.blt a 720 then 5 else bif Nat.blt a 726 then 7 else bif Nat.blt a 729 then 9 else bif Nat.blt a 733 then 11 else bif Nat.blt a 755 then 15 else bif Nat.blt a 756 then 13 else bif Nat.blt a 759 then 21 else bif Nat.blt a 775 then 17 else 19))
  else bif Nat.beq (σ.1 a) 18 then 10 else bif Nat.beq (σ.1 a) 64 && Nat.ble 64 (σ.2.1 a) then 14 else 2
/-- only what the modules in S own is changed; cells are only added -/
def Fr (S : List Nat) (σ τ : St) : Prop := nx σ ≤ nx τ ∧ sl σ ≤ sl τ ∧ (∀ a, a < nx σ → τ.1 a = σ.1 a ∧ τ.2.1 a = σ.2.1 a) ∧ ∀ a k, a < nx σ → memN (md σ a k) S = false → rI τ a k = rI σ a k ∧ rJ τ a k = rJ σ a k ∧ rq τ a k = rq σ a k
theorem fr_refl {S : List Nat} {σ : St} : Fr S σ σ := ⟨Nat.le_refl _, Nat.le_refl _, fun _ _ => ⟨rfl, rfl⟩, fun _ _ _ _ => ⟨rfl, rfl, rfl⟩⟩
theorem md_eq {σ τ : St} {a k : Nat} (h1 : τ.1 a = σ.1 a) (h2 : τ.2.1 a = σ.2.1 a) : md τ a k = md σ a k := by unfold md; rw [h1, h2]
theorem fr_tr {S : List Nat} {σ τ υ : St} (h1 : Fr S σ τ) (h2 : Fr S τ υ) : Fr S σ υ := by
  refine ⟨Nat.le_trans h1.1 h2.1, Nat.le_trans h1.2.1 h2.2.1, fun a ha => ?_, fun a k ha hm => ?_⟩
  · have e1 := h1.2.2.1 a ha
    have e2 := h2.2.2.1 a (Nat.lt_of_lt_of_le ha h1.1)
    exact ⟨e2.1.trans e1.1, e2.2.trans e1.2⟩
  · have e := h1.2.2.1 a ha
    have e1 := h1.2.2.2 a k ha hm
    have e2 := h2.2.2.2 a k (Nat.lt_of_lt_of_le ha h1.1) (by rw [md_eq e.1 e.2]; exact hm)
    exact ⟨e2.1.trans e1.1, e2.2.1.trans e1.2.1, e2.2.2.trans e1.2.2⟩
theorem memN_sub {S T : List Nat} (h : S.all (fun i => memN i T) = true) {i : Nat} (hi : memN i S = true) : memN i T = true := by
  induction S with
  | nil => cases hi
  | cons q t ih =>
    rw [List.all_cons, Bool.and_eq_true] at h
    unfold memN at hi
    rw [Bool.or_eq_true] at hi
    rcases hi with hi | hi
    · rw [← Nat.eq_of_beq_eq_true hi]; exact h.1
    · exact ih h.2 hi
theorem fr_sub {S T : List Nat} {σ τ : St} (h : Fr S σ τ) (hst : S.all (fun i => memN i T) = true) : Fr T σ τ := by
  refine ⟨h.1, h.2.1, h.2.2.1, fun a k ha hm => h.2.2.2 a k ha ?_⟩
  rw [Bool.eq_false_iff] at hm ⊢
  exact fun q => hm (memN_sub hst q)
theorem fr_wI {S : List Nat} {σ : St} {a k : Nat} {v : Int32} (h : memN (md σ a k) S = true) : Fr S σ (wI σ a k v) := by
  refine ⟨Nat.le_refl _, Nat.le_refl _, fun _ _ => ⟨rfl, rfl⟩, fun b j _ hm => ⟨?_, rfl, rfl⟩⟩
  rw [rI_wI, if_neg]
  intro q
  rw [q.1, q.2, h] at hm
  cases hm
theorem fr_wJ {S : List Nat} {σ : St} {a k : Nat} {v : Int64} (h : memN (md σ a k) S = true) : Fr S σ (wJ σ a k v) := by
  refine ⟨Nat.le_refl _, Nat.le_refl _, fun _ _ => ⟨rfl, rfl⟩, fun b j _ hm => ⟨rfl, ?_, rfl⟩⟩
  rw [rJ_wJ, if_neg]
  intro q
  rw [q.1, q.2, h] at hm
  cases hm
theorem fr_wR {S : List Nat} {σ : St} {a k : Nat} {v : Option Nat} (h : memN (md σ a k) S = true) : Fr S σ (wR σ a k v) := by
  refine ⟨Nat.le_refl _, Nat.le_refl _, fun _ _ => ⟨rfl, rfl⟩, fun b j _ hm => ⟨rfl, rfl, ?_⟩⟩
  rw [rq_wR, if_neg]
  intro q
  rw [q.1, q.2, h] at hm
  cases hm
theorem fr_nw {S : List Nat} {σ : St} {t n k : Nat} : Fr S σ (nw σ t n k) := by
  refine ⟨Nat.le_succ _, Nat.le_add_right _ _, fun a ha => ⟨?_, ?_⟩, fun a j ha _ => ⟨?_, ?_, ?_⟩⟩
  · rw [t_nw, if_neg (Nat.ne_of_lt ha)]
  · rw [l_nw, if_neg (Nat.ne_of_lt ha)]
  · rw [rI_nw, if_neg (Nat.ne_of_lt ha)]
  · rw [rJ_nw, if_neg (Nat.ne_of_lt ha)]
  · rw [rq_nw, if_neg (Nat.ne_of_lt ha)]
theorem fr_cpI {S : List Nat} {σ : St} {a k b j n : Nat} (h : ∀ i, memN (md σ b i) S = true) : Fr S σ (cpI σ a k b j n) := by
  refine ⟨Nat.le_refl _, Nat.le_refl _, fun _ _ => ⟨rfl, rfl⟩, fun c i _ hm => ⟨?_, rfl, rfl⟩⟩
  rw [rI_cpI, if_neg]
  intro q
  rw [q.1, h] at hm
  cases hm
theorem fr_cpR {S : List Nat} {σ : St} {a k b j n : Nat} (h : ∀ i, memN (md σ b i) S = true) : Fr S σ (cpR σ a k b j n) := by
  refine ⟨Nat.le_refl _, Nat.le_refl _, fun _ _ => ⟨rfl, rfl⟩, fun c i _ hm => ⟨rfl, rfl, ?_⟩⟩
  rw [rq_cpR, if_neg]
  intro q
  rw [q.1, h] at hm
  cases hm
theorem fr_wI' {S : List Nat} {σ τ : St} {a k : Nat} {v : Int32} (h0 : Fr S σ τ) (h : memN (md τ a k) S = true) : Fr S σ (wI τ a k v) := fr_tr h0 (fr_wI h)
theorem fr_wJ' {S : List Nat} {σ τ : St} {a k : Nat} {v : Int64} (h0 : Fr S σ τ) (h : memN (md τ a k) S = true) : Fr S σ (wJ τ a k v) := fr_tr h0 (fr_wJ h)
theorem fr_wR' {S : List Nat} {σ τ : St} {a k : Nat} {v : Option Nat} (h0 : Fr S σ τ) (h : memN (md τ a k) S = true) : Fr S σ (wR τ a k v) := fr_tr h0 (fr_wR h)
-- a write to what was not there before
theorem fr_new {S : List Nat} {σ τ υ : St} (h : Fr S σ τ) (h1 : nx τ ≤ nx υ) (h2 : sl τ ≤ sl υ) (h3 : ∀ a, a < nx σ → υ.1 a = τ.1 a ∧ υ.2.1 a = τ.2.1 a) (h4 : ∀ a k, a < nx σ → memN (md σ a k) S = false → rI υ a k = rI τ a k ∧ rJ υ a k = rJ τ a k ∧ rq υ a k = rq τ a k) : Fr S σ υ := by
  refine ⟨Nat.le_trans h.1 h1, Nat.le_trans h.2.1 h2, fun a ha => ⟨(h3 a ha).1.trans (h.2.2.1 a ha).1, (h3 a ha).2.trans (h.2.2.1 a ha).2⟩, fun a k ha hm => ?_⟩
  have e1 := h.2.2.2 a k ha hm
  have e2 := h4 a k ha hm
  exact ⟨e2.1.trans e1.1, e2.2.1.trans e1.2.1, e2.2.2.trans e1.2.2⟩
theorem fr_nI {S : List Nat} {σ τ : St} (h : Fr S σ τ) {a k : Nat} {v : Int32} (ha : nx σ ≤ a) : Fr S σ (wI τ a k v) :=
  fr_new h (Nat.le_refl _) (Nat.le_refl _) (fun _ _ => ⟨rfl, rfl⟩) fun b j hb _ => ⟨rI_wIn (by omega), rfl, rfl⟩
theorem fr_nR {S : List Nat} {σ τ : St} (h : Fr S σ τ) {a k : Nat} {v : Option Nat} (ha : nx σ ≤ a) : Fr S σ (wR τ a k v) :=
  fr_new h (Nat.le_refl _) (Nat.le_refl _) (fun _ _ => ⟨rfl, rfl⟩) fun b j hb _ => ⟨rfl, rfl, by rw [rq_wR, if_neg]; intro q; omega⟩
theorem fr_ncI {S : List Nat} {σ τ : St} (h : Fr S σ τ) {a k b j n : Nat} (ha : nx σ ≤ b) : Fr S σ (cpI τ a k b j n) :=
  fr_new h (Nat.le_refl _) (Nat.le_refl _) (fun _ _ => ⟨rfl, rfl⟩) fun c i hb _ => ⟨by rw [rI_cpI, if_neg]; intro q; omega, rfl, rfl⟩
theorem fr_ncR {S : List Nat} {σ τ : St} (h : Fr S σ τ) {a k b j n : Nat} (ha : nx σ ≤ b) : Fr S σ (cpR τ a k b j n) :=
  fr_new h (Nat.le_refl _) (Nat.le_refl _) (fun _ _ => ⟨rfl, rfl⟩) fun c i hb _ => ⟨rfl, rfl, by rw [rq_cpR, if_neg]; intro q; omega⟩
-- what a frame says
theorem fr_I {S : List Nat} {σ τ : St} (h : Fr S σ τ) {a k : Nat} (ha : a < nx σ) (hm : memN (md σ a k) S = false) : rI τ a k = rI σ a k := (h.2.2.2 a k ha hm).1
theorem fr_J {S : List Nat} {σ τ : St} (h : Fr S σ τ) {a k : Nat} (ha : a < nx σ) (hm : memN (md σ a k) S = false) : rJ τ a k = rJ σ a k := (h.2.2.2 a k ha hm).2.1
theorem fr_q {S : List Nat} {σ τ : St} (h : Fr S σ τ) {a k : Nat} (ha : a < nx σ) (hm : memN (md σ a k) S = false) : rq τ a k = rq σ a k := (h.2.2.2 a k ha hm).2.2
theorem fr_R {S : List Nat} {σ τ : St} (h : Fr S σ τ) {a k : Nat} (ha : a < nx σ) (hm : memN (md σ a k) S = false) : rR F τ a k = rR F σ a k := by rw [rR_rq, rR_rq, fr_q h ha hm]
theorem fr_tg {S : List Nat} {σ τ : St} (h : Fr S σ τ) {a : Nat} (ha : a < nx σ) : tg F τ a = tg F σ a := by unfold tg; rw [(h.2.2.1 a ha).1]
theorem fr_ln {S : List Nat} {σ τ : St} (h : Fr S σ τ) {a : Nat} (ha : a < nx σ) : ln F τ a = ln F σ a := by unfold ln; rw [(h.2.2.1 a ha).2]
end BASE
