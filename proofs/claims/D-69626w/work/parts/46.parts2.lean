/-! ===== the class's sets of runs: as many as the model's ===== -/
section PARTS2
variable {L : Nat}
/-- a cell is in a run -/
def InR (ro fr to : Nat → Nat) (k x : Nat) : Prop := x / 64 = ro k ∧ fr k ≤ x % 64 ∧ x % 64 ≤ to k
theorem inr_uniq {s : St} {n m r : Nat} {A : Nat → Int32} {kv : Int32} {ro fr to : Nat → Nat} (hR : Runs s n m A kv r ro fr to) {k l x : Nat} (hk : k < r) (hl : l < r) (h1 : InR ro fr to k x) (h2 : InR ro fr to l x) : k = l := by
  obtain ⟨-, -, g3⟩ := hR
  unfold InR at h1 h2
  rcases Nat.lt_trichotomy k l with h | h | h
  · have := g3 k l h hl; omega
  · exact h
  · have := g3 l k h hk; omega
theorem adj_same {s : St} {n m r rc : Nat} {A : Nat → Int32} {kv : Int32} {ro fr to ρ : Nat → Nat} (hR : Runs s n m A kv r ro fr to) (hrc : (rc = 0 ∧ kv = I3 1) ∨ (rc = 1 ∧ kv = I3 0)) (hP : ∀ a b, a < b → b < r → Tou rc ro fr to a b → ρ a = ρ b)
    {k l x y : Nat} (hk : k < r) (hl : l < r) (h1 : InR ro fr to k x) (h2 : InR ro fr to l y) (hxy : Adj n m A kv x y) : ρ k = ρ l := by
  obtain ⟨g1, g2, g3⟩ := hR
  obtain ⟨-, -, -, -, hne, c1, c2, c3, c4, c5⟩ := hxy
  have c5' : rc = 0 → x % 64 = y % 64 ∨ x / 64 = y / 64 := by
    intro e
    rcases hrc with ⟨-, q⟩ | ⟨q, -⟩
    · exact c5 q
    · omega
  unfold InR at h1 h2
  by_cases e : x / 64 = y / 64
  · rcases Nat.lt_trichotomy k l with h | h | h
    · have := g3 k l h hl; omega
    · rw [h]
    · have := g3 l k h hk; omega
  · have rc1 : rc = 0 ∨ rc = 1 := by rcases hrc with h | h <;> omega
    by_cases e1 : x / 64 + 1 = y / 64
    · refine hP k l ?_ hl ⟨by omega, by omega, by omega⟩
      rcases Nat.lt_trichotomy k l with h | h | h
      · exact h
      · rw [h] at h1; omega
      · have := g3 l k h hk; omega
    · refine (hP l k ?_ hk ⟨by omega, by omega, by omega⟩).symm
      rcases Nat.lt_trichotomy l k with h | h | h
      · exact h
      · rw [h] at h2; omega
      · have := g3 k l h hl; omega
theorem parts_cnt {s0 s : St} {n m r rc : Nat} {kv bc : Int32} {ro fr to ρ : Nat → Nat} {s1 : St} (n1 : n ≤ 64) (hR : Runs s n m (rI s0 630) kv r ro fr to) (hrc : (rc = 0 ∧ kv = I3 1) ∨ (rc = 1 ∧ kv = I3 0)) (hbc : (bc = I3 0 ∧ kv = I3 1) ∨ (bc = I3 1 ∧ kv = I3 0))
    (hco : ∀ x y, x < n → y < m → rI s0 630 (64 * y + x) = kv → ∃ k, k < r ∧ ro k = y ∧ fr k ≤ x ∧ x ≤ to k) (hU : UInv s s1 n m (rI s0 630) kv r ro fr to ρ (fun a b => a < b ∧ b < r ∧ Tou rc ro fr to a b)) :
    cnt (Cp bc n m r ro fr to ρ) r = cnt (Fst n m (rI s0 630) kv) (64 * m) := by
  obtain ⟨u1, u2, u3, u4, ⟨B, δ, u5, u6⟩, u7, u8, u9⟩ := hU
  have hP : ∀ a b, a < b → b < r → Tou rc ro fr to a b → ρ a = ρ b := fun a b h1 h2 h3 => u9 a b ⟨h1, h2, h3⟩
  obtain ⟨g1, g2, g3⟩ := id hR
  have cell : ∀ x, Gin n m x → rI s0 630 x = kv → ∃ k, k < r ∧ InR ro fr to k x := by
    intro x hx hA
    obtain ⟨k, k1, k2, k3, k4⟩ := hco (x % 64) (x / 64) hx.1 hx.2 (by rw [show 64 * (x / 64) + x % 64 = x by omega]; exact hA)
    exact ⟨k, k1, k2.symm, k3, k4⟩
  have runc : ∀ k x, k < r → InR ro fr to k x → Conn (Adj n m (rI s0 630) kv) (64 * ro k + fr k) x := by
    intro k x hk hx
    obtain ⟨-, -, -, k4, k5, k6, k7⟩ := g2 k hk
    have := run_conn (A := rI s0 630) (kv := kv) n1 k4 k6 k7 (x % 64) hx.2.1 hx.2.2
    rw [show 64 * ro k + x % 64 = x by have := hx.1; omega] at this
    exact this
  have fc : ∀ k, k < r → Gin n m (64 * ro k + fr k) ∧ rI s0 630 (64 * ro k + fr k) = kv ∧ InR ro fr to k (64 * ro k + fr k) := by
    intro k hk
    obtain ⟨-, -, -, k4, k5, k6, k7⟩ := g2 k hk
    exact ⟨⟨by omega, by omega⟩, k7 _ (Nat.le_refl _) k5, by omega, by omega, by omega⟩
  have same : ∀ k x l, k < r → l < r → Conn (Adj n m (rI s0 630) kv) (64 * ro k + fr k) x → InR ro fr to l x → ρ l = ρ k := by
    intro k x l hk hl hx hlx
    refine conn_closed (S := fun x => ∀ l, l < r → InR ro fr to l x → ρ l = ρ k) hx (fun l hl h => ?_) (fun x y sx xy l hl h => ?_) l hl hlx
    · rw [inr_uniq hR hl hk h (fc k hk).2.2]
    · obtain ⟨l', l1, l2⟩ := cell x xy.1 xy.2.2.1
      rw [← sx l' l1 l2]
      exact (adj_same hR hrc hP l1 hl l2 h xy).symm
  refine cnt_reps (R := fun k c => Conn (Adj n m (rI s0 630) kv) (64 * ro k + fr k) c) (fun k hk pk => ?_) (fun c hc qc => ?_) (fun a a' b ha ha' pa pa' r1 r2 => ?_) (fun a b b' hb hb' qb qb' r1 r2 => ?_)
  · obtain ⟨f1, f2, f3⟩ := fc k hk
    obtain ⟨c, c1, c2, c3⟩ := first_of (P := fun x => Conn (Adj n m (rI s0 630) kv) (64 * ro k + fr k) x) _ conn_refl
    obtain ⟨gc, ac⟩ := conn_in f1 f2 c2
    refine ⟨c, by unfold Gin at gc; omega, ⟨gc, ac, fun y hy q => c3 y hy (conn_tr c2 (conn_sym adj_sym q)), ?_⟩, c2⟩
    rcases hbc with ⟨-, e⟩ | ⟨e, -⟩
    · exact Or.inl e
    · right
      intro x hx
      obtain ⟨p1, p2⟩ := pk
      have p3 : ¬ ∃ l, l < r ∧ ρ l = k ∧ opn n m ro fr to l := by
        rcases p2 with q | q
        · rw [e] at q; exact absurd q (by decide)
        · exact q
      have kx := conn_tr c2 hx
      obtain ⟨gx, ax⟩ := conn_in f1 f2 kx
      obtain ⟨l, l1, l2⟩ := cell x gx ax
      have e1 := same k x l hk l1 kx l2
      have no : ¬ opn n m ro fr to l := fun q => p3 ⟨l, l1, e1.trans p1, q⟩
      obtain ⟨-, -, -, k4, k5, k6, k7⟩ := g2 l l1
      unfold opn at no
      unfold InR at l2
      unfold inner
      omega
  · obtain ⟨q1, q2, q3, q4⟩ := qc
    obtain ⟨k, k1, k2⟩ := cell c q1 q2
    have rk := (u5 k k1).2.1
    have rr := forest_root u5 k1
    have c1 : Conn (Adj n m (rI s0 630) kv) (64 * ro (ρ k) + fr (ρ k)) c := conn_tr (conn_sym adj_sym (u8 k k1)) (runc k c k1 k2)
    refine ⟨ρ k, rk, ⟨rr, ?_⟩, c1⟩
    rcases hbc with ⟨e, -⟩ | ⟨-, e⟩
    · exact Or.inl e
    · right
      intro ⟨l, l1, l2, l3⟩
      have q5 : ∀ x, Conn (Adj n m (rI s0 630) kv) c x → inner n m x := by
        rcases q4 with w | w
        · rw [e] at w; exact absurd w (by decide)
        · exact w
      obtain ⟨-, -, -, k4, k5, k6, k7⟩ := g2 l l1
      have cl : Conn (Adj n m (rI s0 630) kv) c (64 * ro l + fr l) := by
        have := u8 l l1
        rw [l2] at this
        exact conn_tr (conn_sym adj_sym c1) (conn_sym adj_sym this)
      have i1 := q5 _ cl
      have i2 := q5 _ (conn_tr cl (runc l (64 * ro l + to l) l1 ⟨by omega, by omega, by omega⟩))
      unfold inner at i1 i2
      unfold opn at l3
      omega
  · have := same a (64 * ro a' + fr a') a' ha ha' (conn_tr r1 (conn_sym adj_sym r2)) (fc a' ha').2.2
    rw [pa.1, pa'.1] at this
    exact this.symm
  · have c : Conn (Adj n m (rI s0 630) kv) b b' := conn_tr (conn_sym adj_sym r1) r2
    rcases Nat.lt_trichotomy b b' with h | h | h
    · exact absurd c (qb'.2.2.1 b h)
    · exact h
    · exact absurd (conn_sym adj_sym c) (qb.2.2.1 b' h)
theorem parts_h (d : Nat) {s0 s : St} {n m r : Nat} {kv bc : Int32} {ro fr to : Nat → Nat} (n1 : n ≤ 64) (m1 : m ≤ 64) (hbc : (bc = I3 0 ∧ kv = I3 1) ∨ (bc = I3 1 ∧ kv = I3 0)) (hF : FInv s0 s n m kv m 0 r ro fr to) :
    ∃ τ, DD L (d + 2) 143 0 [.ref 629, .int bc] s = ok (some (.int (I3 (cnt (Fst n m (rI s0 630) kv) (64 * m))))) τ ∧ Fr [6] s τ ∧ nx τ = nx s ∧ sl τ = sl s ∧ ∀ a k, a ≠ 636 → a ≠ 637 → rI τ a k = rI s a k := by
  obtain ⟨f1, f2, f3, f4, f5, hR, g4, g5, g6, g7⟩ := hF
  have r1 : r ≤ 4096 := by omega
  obtain ⟨rc, hrc, hb0⟩ : ∃ rc : Nat, ((rc = 0 ∧ kv = I3 1) ∨ (rc = 1 ∧ kv = I3 0)) ∧ DD L (d + 2) 143 0 [.ref 629, .int bc] s = DD L (d + 2) 143 15 [.ref 629, .int bc, .int (I3 (rc : Int)), .int (I3 ((0 : Nat) : Int)), .int (I3 ((0 : Nat) : Int))] s := by
    rcases hbc with ⟨rfl, e⟩ | ⟨rfl, e⟩
    · refine ⟨0, Or.inl ⟨rfl, e⟩, ?_⟩
      rw [E_X2_parts_0]
      simp (disch := omega) only [I3_of, I6_of, I3_nat, I3_add, I3_sub, I3_mul, I3_neg, I6_add, I6_sub, I6_mul, I6_neg, I3_lt, I3_le, I3_eq, I6_lt, I6_le, I6_eq, I3_cl, I3_64, I6_32, cmp_pos', cmp_neg', cmp_eq', inb_I, cond_true, cond_false, aI_ok, aJ_ok, aA_ok, aV_ok', aI_thr, aJ_thr, aA_thr, aV_thr, ob_some, on_some, on_none, tg_wI, tg_wJ, tg_wR, ln_wI, ln_wJ, ln_wR, tg_cpI, ln_cpI, tg_cpR, ln_cpR, nx_wI, nx_wJ, nx_wR, sl_wI, sl_wJ, sl_wR, nx_cpI, sl_cpI, nx_cpR, sl_cpR, nx_nw, sl_nw, rJ_wI, rR_wI, rI_wJ, rR_wJ, rI_wR, rJ_wR, rJ_cpI, rR_cpI, rJ_cpR, rI_cpR, rI_wI, rJ_wJ, rq_wI, rq_wJ, rq_wR, rq_cpI, ↓reduceIte, Nat.reduceEqDiff, Nat.reduceAdd, Nat.reduceSub, Nat.reduceMul, Int.reduceAdd, Int.reduceSub, Int.reduceMul, Int.reduceNeg, Int.reduceLT, Int.reduceLE, Int.reduceEq, Int.reduceToNat, Int.sub_zero, Int.add_zero, Int.zero_add, true_and, and_true, false_and, and_false, or_true, true_or, or_false, false_or, not_true_eq_false, not_false_eq_true, eq_self, decide_true, decide_false, Bool.not_false, Bool.not_true, Bool.and_true, Bool.true_and, Bool.or_true, Bool.true_or, Bool.and_self, Bool.or_false, Bool.false_or, Bool.and_false, Bool.false_and]
      rw [E_X2_parts_9]; rfl
    · refine ⟨1, Or.inr ⟨rfl, e⟩, ?_⟩
      rw [E_X2_parts_0]
      simp (disch := omega) only [I3_of, I6_of, I3_nat, I3_add, I3_sub, I3_mul, I3_neg, I6_add, I6_sub, I6_mul, I6_neg, I3_lt, I3_le, I3_eq, I6_lt, I6_le, I6_eq, I3_cl, I3_64, I6_32, cmp_pos', cmp_neg', cmp_eq', inb_I, cond_true, cond_false, aI_ok, aJ_ok, aA_ok, aV_ok', aI_thr, aJ_thr, aA_thr, aV_thr, ob_some, on_some, on_none, tg_wI, tg_wJ, tg_wR, ln_wI, ln_wJ, ln_wR, tg_cpI, ln_cpI, tg_cpR, ln_cpR, nx_wI, nx_wJ, nx_wR, sl_wI, sl_wJ, sl_wR, nx_cpI, sl_cpI, nx_cpR, sl_cpR, nx_nw, sl_nw, rJ_wI, rR_wI, rI_wJ, rR_wJ, rI_wR, rJ_wR, rJ_cpI, rR_cpI, rJ_cpR, rI_cpR, rI_wI, rJ_wJ, rq_wI, rq_wJ, rq_wR, rq_cpI, ↓reduceIte, Nat.reduceEqDiff, Nat.reduceAdd, Nat.reduceSub, Nat.reduceMul, Int.reduceAdd, Int.reduceSub, Int.reduceMul, Int.reduceNeg, Int.reduceLT, Int.reduceLE, Int.reduceEq, Int.reduceToNat, Int.sub_zero, Int.add_zero, Int.zero_add, true_and, and_true, false_and, and_false, or_true, true_or, or_false, false_or, not_true_eq_false, not_false_eq_true, eq_self, decide_true, decide_false, Bool.not_false, Bool.not_true, Bool.and_true, Bool.true_and, Bool.or_true, Bool.true_or, Bool.and_self, Bool.or_false, Bool.false_or, Bool.and_false, Bool.false_and, i3_10]
      rw [E_X2_parts_9]; rfl
  have U0 : UInv s s n m (rI s0 630) kv r ro fr to (fun k => k) (fun a b => a < b ∧ b < r ∧ b < 0 ∧ Tou rc ro fr to a b) := by
    refine ⟨fr_refl, rfl, rfl, fun _ _ _ _ => rfl, ⟨fun k => k, fun _ => 0, fun k hk => ⟨hk, hk, rfl, rfl, fun _ => rfl, fun q => absurd rfl q⟩, fun i hi => (g4 i hi).1⟩, fun k hk _ => ?_, fun k hk => conn_refl, fun a b h => by omega⟩
    rw [(g4 k hk).2]
    exact bi_congr ⟨fun h => ⟨k, hk, rfl, h⟩, fun ⟨l, _, e, h⟩ => by dsimp only at e; rw [← e]; exact h⟩
  obtain ⟨s1, ρ, a1, a2⟩ := k_loop (L := L) d (bc := bc) n1 m1 r1 hR hrc _ 0 0 s _ (Nat.le_refl _) (by omega) (by omega) (fun i hi => by omega) U0
  obtain ⟨τ, b1, b2⟩ := c_loop (L := L) (d + 1) r1 hR.1 (by rcases hbc with ⟨h, -⟩ | ⟨h, -⟩; exact Or.inl h; exact Or.inr h) _ 0 s1 (Nat.le_refl _) (by omega) a2
  refine ⟨τ, ?_, b2.1, b2.2.1, b2.2.2.1, b2.2.2.2.1⟩
  rw [hb0, a1]
  rw [parts_cnt n1 hR hrc hbc (fun x y hx hy h => g7 x y hx hy (Or.inl hy) h) b2] at b1
  exact b1
end PARTS2
