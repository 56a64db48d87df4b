/-! ===== roots and quotients rounded down ===== -/
section NUM
variable {L : Nat}
theorem i64_lt {a b : Int64} : a < b ↔ a.toInt < b.toInt := Int64.lt_iff_toInt_lt
theorem i64_rng (a : Int64) : -9223372036854775808 ≤ a.toInt ∧ a.toInt ≤ 9223372036854775807 := ⟨by have := a.le_toInt; omega, by have := a.toInt_lt; omega⟩
theorem i64_add {a b : Int64} (h1 : -9223372036854775808 ≤ a.toInt + b.toInt) (h2 : a.toInt + b.toInt ≤ 9223372036854775807) : (a + b).toInt = a.toInt + b.toInt := by rw [Int64.toInt_add, bm64 h1 h2]
theorem i64_sub {a b : Int64} (h1 : -9223372036854775808 ≤ a.toInt - b.toInt) (h2 : a.toInt - b.toInt ≤ 9223372036854775807) : (a - b).toInt = a.toInt - b.toInt := by rw [Int64.toInt_sub, bm64 h1 h2]
theorem i64_mul {a b : Int64} (h1 : -9223372036854775808 ≤ a.toInt * b.toInt) (h2 : a.toInt * b.toInt ≤ 9223372036854775807) : (a * b).toInt = a.toInt * b.toInt := by rw [Int64.toInt_mul, bm64 h1 h2]
theorem i64_div {a b : Int64} (hb : 0 < b.toInt) : (a / b).toInt = a.toInt.tdiv b.toInt := Int64.toInt_div_of_ne_right a b (by intro h; subst h; revert hb; decide)
theorem i64_divp {a b : Int64} (ha : 0 ≤ a.toInt) (hb : 0 < b.toInt) : (a / b).toInt = a.toInt / b.toInt := by rw [i64_div hb, Int.tdiv_eq_ediv_of_nonneg ha]
def IsRoot (n r : Int) : Prop := 0 ≤ r ∧ r * r ≤ n ∧ n < (r + 1) * (r + 1)
theorem IsRoot.uniq {n a b : Int} (h1 : IsRoot n a) (h2 : IsRoot n b) : a = b := by
  obtain ⟨a1, a2, a3⟩ := h1
  obtain ⟨b1, b2, b3⟩ := h2
  rcases Int.lt_trichotomy a b with h | h | h
  · have : (a + 1) * (a + 1) ≤ b * b := Int.mul_le_mul h h (by omega) b1
    omega
  · exact h
  · have : (b + 1) * (b + 1) ≤ a * a := Int.mul_le_mul h h (by omega) a1
    omega
theorem le_div_self {m n : Int} (hm : 0 < m) : m ≤ n / m ↔ m * m ≤ n := Int.le_ediv_iff_mul_le hm
theorem two_t : (2 : Int64).toInt = 2 := by decide
theorem one_t : (1 : Int64).toInt = 1 := by decide
theorem zero_t : (0 : Int64).toInt = 0 := by decide
theorem rootC_34 (d : Nat) (s : St) : ∀ (k : Nat) (n hi lo : Int64), (hi.toInt - lo.toInt).toNat ≤ k → 1 ≤ lo.toInt → lo.toInt < hi.toInt → hi.toInt ≤ 8589934592 → 0 ≤ n.toInt → lo.toInt * lo.toInt ≤ n.toInt → n.toInt < hi.toInt * hi.toInt →
    ∃ r : Int64, DD L d 38 34 [.long n, .long hi, .long lo] s = ok (some (.long r)) s ∧ IsRoot n.toInt r.toInt := by
  intro k
  induction k with
  | zero => intro n hi lo h1 h2 h3; omega
  | succ k ih =>
    intro n hi lo hk h1 h2 h3 h0 h4 h5
    rw [E_X0_root_34]
    have es : (hi - lo).toInt = hi.toInt - lo.toInt := i64_sub (by omega) (by omega)
    have ea : (lo + hi).toInt = lo.toInt + hi.toInt := i64_add (by omega) (by omega)
    have em : ((lo + hi) / 2).toInt = (lo.toInt + hi.toInt) / 2 := by
      rw [i64_divp (by rw [ea]; omega) (by decide), ea, two_t]
    have mp : 0 < ((lo + hi) / 2).toInt := by rw [em]; omega
    have hne : ¬ (lo + hi) / 2 = 0 := by
      intro h
      rw [h, zero_t] at mp
      omega
    have eq : (n / ((lo + hi) / 2)).toInt = n.toInt / ((lo + hi) / 2).toInt := i64_divp h0 mp
    simp only [cmp_pos, i64_lt, es, one_t]
    by_cases hb : 1 < hi.toInt - lo.toInt
    · rw [if_pos hb, if_neg hne, eq]
      by_cases hc : n.toInt / ((lo + hi) / 2).toInt < ((lo + hi) / 2).toInt
      · rw [if_pos hc]
        have hc' : n.toInt < ((lo + hi) / 2).toInt * ((lo + hi) / 2).toInt := by
          have := mt (le_div_self (n := n.toInt) mp).mpr (by omega)
          omega
        exact ih n _ lo (by rw [em]; omega) h1 (by rw [em]; omega) (by rw [em]; omega) h0 h4 hc'
      · rw [if_neg hc]
        have hc' : ((lo + hi) / 2).toInt * ((lo + hi) / 2).toInt ≤ n.toInt := (le_div_self mp).mp (by omega)
        exact ih n hi _ (by rw [em]; omega) (by rw [em]; omega) (by rw [em]; omega) h3 h0 hc' h5
    · rw [if_neg hb]
      have : hi.toInt = lo.toInt + 1 := by omega
      rw [this] at h5
      exact ⟨lo, rfl, by omega, h4, h5⟩
theorem sq_lt {a n : Int} (h0 : 0 ≤ a) (h : a * a ≤ n) (hn : n ≤ 9223372036854775807) : a ≤ 3037000499 := by
  rcases (by omega : 3037000499 < a ∨ a ≤ 3037000499) with h1 | h1
  · have : 3037000500 * 3037000500 ≤ a * a := Int.mul_le_mul h1 h1 (by omega) (by omega)
    omega
  · exact h1
theorem rootC_10 (d : Nat) (s : St) : ∀ (k : Nat) (n hi : Int64), (8589934592 - hi.toInt).toNat < k → 1 ≤ hi.toInt → hi.toInt ≤ 8589934592 → 0 < n.toInt → (1 < hi.toInt → (hi.toInt / 2) * (hi.toInt / 2) ≤ n.toInt) →
    ∃ r : Int64, DD L d 38 10 [.long n, .long hi] s = ok (some (.long r)) s ∧ IsRoot n.toInt r.toInt := by
  intro k
  induction k with
  | zero => intro n hi hk; omega
  | succ k ih =>
    intro n hi hk h1 h2 h0 h3
    rw [E_X0_root_10]
    have hne : ¬ hi = 0 := by intro h; rw [h, zero_t] at h1; omega
    have eq : (n / hi).toInt = n.toInt / hi.toInt := i64_divp (by omega) (by omega)
    have eh : (hi / 2).toInt = hi.toInt / 2 := by rw [i64_divp (by omega) (by decide), two_t]
    have e2 : (2 * hi).toInt = 2 * hi.toInt := by rw [i64_mul (by rw [two_t]; omega) (by rw [two_t]; omega), two_t]
    have hr := i64_rng n
    rw [if_neg hne]
    simp only [cmp_pos, i64_lt, eq]
    by_cases hc : n.toInt / hi.toInt < hi.toInt
    · rw [if_pos hc]
      have hc' : n.toInt < hi.toInt * hi.toInt := by
        have := mt (le_div_self (m := hi.toInt) (n := n.toInt) (by omega)).mpr (by omega)
        omega
      have hi2 : 1 < hi.toInt := by
        rcases (by omega : 1 < hi.toInt ∨ hi.toInt ≤ 1) with h | h
        · exact h
        · have : hi.toInt = 1 := by omega
          rw [this] at hc'
          omega
      exact rootC_34 d s _ n hi _ (Nat.le_refl _) (by rw [eh]; omega) (by rw [eh]; omega) (by omega) (by omega) (by rw [eh]; exact h3 hi2) hc'
    · rw [if_neg hc]
      have hc' : hi.toInt * hi.toInt ≤ n.toInt := (le_div_self (by omega)).mp (by omega)
      have hle := sq_lt (by omega) hc' hr.2
      exact ih n _ (by rw [e2]; omega) (by rw [e2]; omega) (by rw [e2]; omega) h0 (fun _ => by rw [e2, show 2 * hi.toInt / 2 = hi.toInt by omega]; exact hc')
/-- the class's root -/
theorem rootC (d : Nat) (s : St) (n : Int64) (h : 0 ≤ n.toInt) : ∃ r : Int64, DD L d 38 0 [.long n] s = ok (some (.long r)) s ∧ IsRoot n.toInt r.toInt := by
  rw [E_X0_root_0]
  simp only [cmp_pos, i64_lt, zero_t]
  by_cases hb : 0 < n.toInt
  · rw [if_pos hb]
    exact rootC_10 d s _ n 1 (Nat.lt_succ_self _) (by rw [one_t]; omega) (by rw [one_t]; omega) hb (fun h => by rw [one_t] at h; omega)
  · rw [if_neg hb]
    have : n.toInt = 0 := by omega
    exact ⟨0, rfl, by rw [zero_t]; omega, by rw [this, zero_t]; omega, by rw [this, zero_t]; omega⟩
theorem rootM_7 (d : Nat) (s : St) : ∀ (k : Nat) (n lo hi : Int64), (hi.toInt - lo.toInt).toNat ≤ k → 0 ≤ lo.toInt → lo.toInt ≤ hi.toInt → hi.toInt ≤ 2000000000 → lo.toInt * lo.toInt ≤ n.toInt → n.toInt < (hi.toInt + 1) * (hi.toInt + 1) →
    ∃ r : Int64, DD L d 287 7 [.long n, .long lo, .long hi] s = ok (some (.long r)) s ∧ IsRoot n.toInt r.toInt := by
  intro k
  induction k with
  | zero =>
    intro n lo hi hk h1 h2 h3 h4 h5
    rw [E_X8_root_7]
    have : hi.toInt = lo.toInt := by omega
    simp only [cmp_neg, i64_lt]
    rw [if_neg (by omega)]
    rw [this] at h5
    exact ⟨lo, rfl, h1, h4, h5⟩
  | succ k ih =>
    intro n lo hi hk h1 h2 h3 h4 h5
    rw [E_X8_root_7]
    have ea : (lo + hi).toInt = lo.toInt + hi.toInt := i64_add (by omega) (by omega)
    have eb : (lo + hi + 1).toInt = lo.toInt + hi.toInt + 1 := by rw [i64_add (by rw [ea, one_t]; omega) (by rw [ea, one_t]; omega), ea, one_t]
    have em : ((lo + hi + 1) / 2).toInt = (lo.toInt + hi.toInt + 1) / 2 := by
      rw [i64_divp (by rw [eb]; omega) (by decide), eb, two_t]
    have hm1 : 0 ≤ ((lo + hi + 1) / 2).toInt := by rw [em]; omega
    have hm2 : ((lo + hi + 1) / 2).toInt ≤ 2000000000 := by rw [em]; omega
    have hmm : ((lo + hi + 1) / 2).toInt * ((lo + hi + 1) / 2).toInt ≤ 2000000000 * 2000000000 := Int.mul_le_mul hm2 hm2 hm1 (by omega)
    have hm0 : 0 ≤ ((lo + hi + 1) / 2).toInt * ((lo + hi + 1) / 2).toInt := Int.mul_nonneg hm1 hm1
    have e2 : (((lo + hi + 1) / 2) * ((lo + hi + 1) / 2)).toInt = ((lo + hi + 1) / 2).toInt * ((lo + hi + 1) / 2).toInt := i64_mul (by omega) (by omega)
    have e1 : ((lo + hi + 1) / 2 - 1).toInt = ((lo + hi + 1) / 2).toInt - 1 := by rw [i64_sub (by rw [one_t]; omega) (by rw [one_t]; omega), one_t]
    simp only [cmp_neg, cmp_pos, i64_lt, e2]
    by_cases hb : lo.toInt < hi.toInt
    · rw [if_pos hb]
      by_cases hc : n.toInt < ((lo + hi + 1) / 2).toInt * ((lo + hi + 1) / 2).toInt
      · rw [if_pos hc]
        exact ih n lo _ (by rw [e1, em]; omega) h1 (by rw [e1, em]; omega) (by rw [e1]; omega) h4 (by rw [e1, show ((lo + hi + 1) / 2).toInt - 1 + 1 = ((lo + hi + 1) / 2).toInt by omega]; exact hc)
      · rw [if_neg hc]
        exact ih n _ hi (by rw [em]; omega) hm1 (by rw [em]; omega) h3 (by omega) h5
    · rw [if_neg hb]
      have : hi.toInt = lo.toInt := by omega
      rw [this] at h5
      exact ⟨lo, rfl, h1, h4, h5⟩
/-- the model's root -/
theorem rootM (d : Nat) (s : St) (n : Int64) (h : 0 ≤ n.toInt) (h2 : n.toInt ≤ 4000000000000000000) : ∃ r : Int64, DD L d 287 0 [.long n] s = ok (some (.long r)) s ∧ IsRoot n.toInt r.toInt := by
  rw [E_X8_root_0]
  have e : (2000000000 : Int64).toInt = 2000000000 := by decide
  exact rootM_7 d s _ n 0 2000000000 (Nat.le_refl _) (by rw [zero_t]; omega) (by rw [zero_t, e]; omega) (by rw [e]; omega) (by rw [zero_t]; omega) (by rw [e]; omega)
/-- a quotient rounded down: what both compute -/
def fl (a b : Int64) : Int64 := if a - a / b * b = 0 then a / b else if (a < 0) = (b < 0) then a / b else a / b - 1
theorem floorC (d : Nat) (s : St) (a b : Int64) (hb : ¬ b = 0) : DD L d 68 0 [.long a, .long b] s = ok (some (.long (fl a b))) s := by
  rw [E_X0_floor_0, if_neg hb, if_neg hb]
  simp only [cmp_eq, cmp_neg]
  unfold fl
  by_cases h1 : a - a / b * b = 0
  · rw [if_pos h1, if_pos h1]
  · rw [if_neg h1, if_neg h1]
    by_cases h2 : a < 0 <;> by_cases h3 : b < 0 <;> simp [h2, h3, E_X0_floor_24, E_X0_floor_35, cmp_neg]
theorem floorM (d : Nat) (s : St) (a b : Int64) (hb : ¬ b = 0) : DD L d 285 0 [.long a, .long b] s = ok (some (.long (fl a b))) s := by
  rw [E_X8_down_0, if_neg hb, if_neg hb]
  simp only [cmp_eq, cmp_neg]
  unfold fl
  by_cases h1 : a - a / b * b = 0
  · rw [if_pos h1, if_pos h1]
  · rw [if_neg h1, if_neg h1]
    by_cases h2 : a < 0 <;> by_cases h3 : b < 0 <;> simp [h2, h3, E_X8_down_24, E_X8_down_35, cmp_neg]
/-- the root, as a number -/
noncomputable def rt (n : Int) : Int := Classical.epsilon fun r => IsRoot n r
theorem rt_of {n r : Int} (h : IsRoot n r) : rt n = r := IsRoot.uniq (Classical.epsilon_spec (p := fun r => IsRoot n r) ⟨r, h⟩) h
theorem rootC' (d : Nat) (s : St) {n : Int} (h : 0 ≤ n ∧ n ≤ 9223372036854775807) : DD L d 38 0 [.long (I6 n)] s = ok (some (.long (I6 (rt n)))) s := by
  have e := I6_toInt (z := n) (by omega)
  obtain ⟨r, h1, h2⟩ := rootC (L := L) d s (I6 n) (by rw [e]; exact h.1)
  rw [e] at h2
  rw [h1, rt_of h2, I6_to]
theorem rt_root {n : Int} (h : 0 ≤ n ∧ n ≤ 9223372036854775807) : IsRoot n (rt n) := by
  have e := I6_toInt (z := n) (by omega)
  obtain ⟨r, h1, h2⟩ := rootC (L := 0) 0 fin1 (I6 n) (by rw [e]; exact h.1)
  rw [e] at h2
  rw [rt_of h2]
  exact h2
theorem rootM' (d : Nat) (s : St) {n : Int} (h : 0 ≤ n ∧ n ≤ 4000000000000000000) : DD L d 287 0 [.long (I6 n)] s = ok (some (.long (I6 (rt n)))) s := by
  have e := I6_toInt (z := n) (by omega)
  obtain ⟨r, h1, h2⟩ := rootM (L := L) d s (I6 n) (by rw [e]; exact h.1) (by rw [e]; exact h.2)
  rw [e] at h2
  rw [h1, rt_of h2, I6_to]
theorem fl_I6 {a b : Int} (h : -9223372036854775807 ≤ a ∧ a ≤ 9223372036854775807 ∧ 0 < b ∧ b ≤ 9223372036854775807) : fl (I6 a) (I6 b) = I6 (a / b) := by
  have l1 : (I6 a < I6 0) = (a < 0) := I6_lt (by omega)
  have l2 : (I6 b < I6 0) = (b < 0) := I6_lt (by omega)
  have ed : a.tdiv b * b + a.tmod b = a := Int.tdiv_mul_add_tmod a b
  have em : a - a.tdiv b * b = a.tmod b := by omega
  have ee : a / b * b + a % b = a := Int.ediv_mul_add_emod a b
  have e0 := Int.emod_nonneg a (by omega : b ≠ 0)
  have e1 := Int.emod_lt_of_pos a h.2.2.1
  have l3 : (I6 (a.tmod b) = I6 0) = (a.tmod b = 0) := by
    have q : -b < a.tmod b ∧ a.tmod b < b := by
      have := Int.tmod_lt_of_pos a h.2.2.1
      have := Int.lt_tmod_of_pos a h.2.2.1
      omega
    exact I6_eq (by omega)
  unfold fl
  simp only [show (0 : Int64) = I6 0 from rfl, show (1 : Int64) = I6 1 from rfl, I6_div h, I6_mul, I6_sub, em, l1, l2, l3]
  rcases Int.le_total 0 a with h0 | h0
  · have q1 : a.tmod b = a % b := Int.tmod_eq_emod_of_nonneg h0
    have q2 : a.tdiv b = a / b := Int.tdiv_eq_ediv_of_nonneg h0
    simp only [q1, q2]
    by_cases hz : a % b = 0
    · rw [if_pos hz]
    · rw [if_neg hz, if_pos (by rw [eq_iff_iff]; constructor <;> intro q <;> omega)]
  · have q1 : a.tmod b = -((-a) % b) := by rw [← Int.tmod_eq_emod_of_nonneg (by omega), Int.neg_tmod, Int.neg_neg]
    have q2 : a.tdiv b = -((-a) / b) := by rw [← Int.tdiv_eq_ediv_of_nonneg (by omega), Int.neg_tdiv, Int.neg_neg]
    have f0 := Int.emod_nonneg (-a) (by omega : b ≠ 0)
    have f1 := Int.emod_lt_of_pos (-a) h.2.2.1
    have ff : (-a) / b * b + (-a) % b = -a := Int.ediv_mul_add_emod (-a) b
    simp only [q1, q2]
    by_cases hz : (-a) % b = 0
    · rw [if_pos (by omega)]
      have : a / b = -((-a) / b) := by
        have h1 : a = (-((-a) / b)) * b := by rw [Int.neg_mul]; omega
        calc a / b = ((-((-a) / b)) * b) / b := by rw [← h1]
          _ = -((-a) / b) := Int.mul_ediv_cancel _ (by omega)
      rw [this]
    · rw [if_neg (by omega), if_neg (by
        rw [eq_iff_iff]
        intro q
        have : a < 0 := by
          rcases (by omega : a < 0 ∨ a = 0) with g | g
          · exact g
          · subst g; exact absurd (by simp) hz
        have := q.mp this
        omega)]
      have : a / b = -((-a) / b) - 1 := by
        have h1 : a = (b - (-a) % b) + (-((-a) / b) - 1) * b := by rw [Int.sub_mul, Int.neg_mul]; omega
        calc a / b = ((b - (-a) % b) + (-((-a) / b) - 1) * b) / b := by rw [← h1]
          _ = (b - (-a) % b) / b + (-((-a) / b) - 1) := Int.add_mul_ediv_right _ _ (by omega)
          _ = -((-a) / b) - 1 := by rw [Int.ediv_eq_zero_of_lt (by omega) (by omega)]; omega
      rw [this]
theorem floorC' (d : Nat) (s : St) {a b : Int} (h : -9223372036854775807 ≤ a ∧ a ≤ 9223372036854775807 ∧ 0 < b ∧ b ≤ 9223372036854775807) : DD L d 68 0 [.long (I6 a), .long (I6 b)] s = ok (some (.long (I6 (a / b)))) s := by
  rw [floorC d s _ _ (by rw [show (0 : Int64) = I6 0 from rfl, I6_eq (by omega)]; omega), fl_I6 h]
theorem floorM' (d : Nat) (s : St) {a b : Int} (h : -9223372036854775807 ≤ a ∧ a ≤ 9223372036854775807 ∧ 0 < b ∧ b ≤ 9223372036854775807) : DD L d 285 0 [.long (I6 a), .long (I6 b)] s = ok (some (.long (I6 (a / b)))) s := by
  rw [floorM d s _ _ (by rw [show (0 : Int64) = I6 0 from rfl, I6_eq (by omega)]; omega), fl_I6 h]
end NUM
