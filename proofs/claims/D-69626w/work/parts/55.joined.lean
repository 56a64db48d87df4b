/-! ===== spans: the join ===== -/
section JOINED
variable {L : Nat}
theorem opP_iff {how : Int} {A B : Prop} {a b : Bool} (hh : 0 ≤ how ∧ how ≤ 2) (ha : A ↔ a = true) (hb : B ↔ b = true) : opP how A B ↔ opB how a b = true := by
  unfold opP opB
  rw [ha, hb]
  have h3 : how = 0 ∨ how = 1 ∨ how = 2 := by omega
  rcases h3 with rfl | rfl | rfl <;> cases a <;> cases b <;> simp
def JInv (s0 s : St) (how : Int) (p : Nat) (cx cy : Nat) (F G H K : Nat → Int) (c0 : Nat) (P Q : Nat → Int) (i j : Nat) (bx by' bo : Bool) (g t : Int) : Prop :=
  OnlyS p s0 s ∧ Sp s p c0 P Q ∧ RP cx F G i bx t ∧ RP cy H K j by' t ∧ bo = opB how bx by' ∧ (bo = true → -3000000 ≤ g ∧ g ≤ t ∧ ∀ k, k + 1 = c0 → Q k < g) ∧ (∀ k, k < c0 → Q k ≤ t) ∧ (∀ z, z < t → ((SIn c0 P Q z ∨ (bo = true ∧ g ≤ z)) ↔ opP how (SIn cx F G z) (SIn cy H K z))) ∧
  2 * c0 + bo.toNat ≤ 2 * i + bx.toNat + (2 * j + by'.toNat) ∧ -4000000 ≤ t ∧ t ≤ 3000000
theorem joined_loop (d : Nat) {s0 : St} {how : Int} {p x y cx cy : Nat} {F G H K : Nat → Int} (hp : SpA p) (hx : SpA x) (hy : SpA y) (px : p ≠ x) (py : p ≠ y) (hh : 0 ≤ how ∧ how ≤ 2) (sx : Sp s0 x cx F G) (sy : Sp s0 y cy H K) (hc : cx + cy ≤ 100) :
    ∀ (n : Nat) (s : St) (c0 : Nat) (P Q : Nat → Int) (i j : Nat) (bx by' bo : Bool) (g t : Int), 2 * cx + 2 * cy - (2 * i + bx.toNat + (2 * j + by'.toNat)) ≤ n → JInv s0 s how p cx cy F G H K c0 P Q i j bx by' bo g t →
    ∃ τ c P' Q', DD L (d + 2) 111 23 [.ref p, .ref x, .ref y, .int (I3 how), .int (I3 i), .int (I3 j), .int (ib bx), .int (ib by'), .int (ib bo), .long (I6 g)] s = ok none τ ∧ OnlyS p s0 τ ∧ Sp τ p c P' Q' ∧ c ≤ cx + cy ∧ ∀ z, SIn c P' Q' z ↔ opP how (SIn cx F G z) (SIn cy H K z) := by
  have fin : ∀ (s : St) (c0 : Nat) (P Q : Nat → Int) (i j : Nat) (bx by' bo : Bool) (g t : Int), ¬ (i < cx ∨ j < cy) → JInv s0 s how p cx cy F G H K c0 P Q i j bx by' bo g t →
      ∃ τ c P' Q', DD L (d + 2) 111 23 [.ref p, .ref x, .ref y, .int (I3 how), .int (I3 i), .int (I3 j), .int (ib bx), .int (ib by'), .int (ib bo), .long (I6 g)] s = ok none τ ∧ OnlyS p s0 τ ∧ Sp τ p c P' Q' ∧ c ≤ cx + cy ∧ ∀ z, SIn c P' Q' z ↔ opP how (SIn cx F G z) (SIn cy H K z) := by
    intro s c0 P Q i j bx by' bo g t hl hJ
    obtain ⟨j1, j2, j3, j4, j5, j6, j7, j8, j9, j10, j11⟩ := hJ
    obtain ⟨x1, x2, x3, x4⟩ := j3
    obtain ⟨y1, y2, y3, y4⟩ := j4
    have ex : bx = false := by
      cases bx
      · rfl
      · have := (x3 rfl).1; omega
    have ey : by' = false := by
      cases by'
      · rfl
      · have := (y3 rfl).1; omega
    subst ex; subst ey
    have eo : bo = false := by
      rw [j5]
      unfold opB
      have h3 : how = 0 ∨ how = 1 ∨ how = 2 := by omega
      rcases h3 with rfl | rfl | rfl <;> rfl
    subst eo
    obtain ⟨t1, -⟩ := sp_facts (L := L) hx s
    obtain ⟨u1, -⟩ := sp_facts (L := L) hy s
    have sx' := sp_keep hx hp (fun e => px e.symm) j1 sx
    have sy' := sp_keep hy hp (fun e => py e.symm) j1 sy
    have m1 : memN 1 [1] = true := rfl
    refine ⟨s, c0, P, Q, ?_, j1, j2, ?_, fun z => ?_⟩
    · rw [E_X1_joined_23]
      simp (disch := omega) only [I3_of, I6_of, I3_nat, I3_add, I3_sub, I3_mul, I3_neg, I6_add, I6_sub, I6_mul, I6_neg, I3_lt, I3_le, I3_eq, I6_lt, I6_le, I6_eq, I3_cl, I3_64, I6_32, cmp_pos', cmp_neg', cmp_eq', inb_I, cond_true, cond_false, aI_ok, aJ_ok, aA_ok, aV_ok', aI_thr, aJ_thr, aA_thr, aV_thr, ob_some, on_some, on_none, tg_wI, tg_wJ, tg_wR, ln_wI, ln_wJ, ln_wR, tg_cpI, ln_cpI, tg_cpR, ln_cpR, nx_wI, nx_wJ, nx_wR, sl_wI, sl_wJ, sl_wR, nx_cpI, sl_cpI, nx_cpR, sl_cpR, nx_nw, sl_nw, rJ_wI, rR_wI, rI_wJ, rR_wJ, rI_wR, rJ_wR, rJ_cpI, rR_cpI, rJ_cpR, rI_cpR, rI_wI, rJ_wJ, rq_wI, rq_wJ, rq_wR, rq_cpI, ↓reduceIte, Nat.reduceEqDiff, Nat.reduceAdd, Nat.reduceSub, Nat.reduceMul, Int.reduceAdd, Int.reduceSub, Int.reduceMul, Int.reduceNeg, Int.reduceLT, Int.reduceLE, Int.reduceEq, Int.reduceToNat, Int.sub_zero, Int.add_zero, Int.zero_add, true_and, and_true, false_and, and_false, or_true, true_or, or_false, false_or, not_true_eq_false, not_false_eq_true, eq_self, decide_true, decide_false, Bool.not_false, Bool.not_true, Bool.and_true, Bool.true_and, Bool.or_true, Bool.true_or, Bool.and_self, Bool.or_false, Bool.false_or, Bool.and_false, Bool.false_and, t1, u1, m1, sx'.1, sy'.1]
      rw [if_neg (by omega), if_neg (by omega)]
    · simp only [Bool.toNat_false] at j9
      omega
    · by_cases hz : z < t
      · have := j8 z hz
        rw [← this]
        exact ⟨fun h => Or.inl h, fun h => h.elim id (fun q => by cases q.1)⟩
      · have n1 : ¬ SIn c0 P Q z := fun ⟨k, k1, k2, k3⟩ => by have := j7 k k1; omega
        have n2 : ¬ SIn cx F G z := fun ⟨k, k1, k2, k3⟩ => by have := x2 k (by omega); omega
        have n3 : ¬ SIn cy H K z := fun ⟨k, k1, k2, k3⟩ => by have := y2 k (by omega); omega
        refine ⟨fun h => absurd h n1, fun h => ?_⟩
        rcases h with ⟨-, (q | q)⟩ | ⟨-, q, -⟩ | ⟨-, q, -⟩
        · exact absurd q n2
        · exact absurd q n3
        · exact absurd q n2
        · exact absurd q n2
  intro n
  induction n with
  | zero =>
    intro s c0 P Q i j bx by' bo g t hn hJ
    refine fin s c0 P Q i j bx by' bo g t ?_ hJ
    obtain ⟨-, -, ⟨x1, -, x3, -⟩, ⟨y1, -, y3, -⟩, -⟩ := hJ
    cases bx <;> cases by' <;> simp only [Bool.toNat_false, Bool.toNat_true] at hn
    · omega
    · have := (y3 rfl).1; omega
    · have := (x3 rfl).1; omega
    · have := (y3 rfl).1
      have := (x3 rfl).1
      omega
  | succ n ih =>
    intro s c0 P Q i j bx by' bo g t hn hJ
    by_cases hl : i < cx ∨ j < cy
    · have hJ0 := hJ
      obtain ⟨j1, j2, j3, j4, j5, j6, j7, j8, j9, j10, j11⟩ := hJ
      have sx' := sp_keep hx hp (fun e => px e.symm) j1 sx
      have sy' := sp_keep hy hp (fun e => py e.symm) j1 sy
      have fx : ∀ k, k < cx → F k < G k ∧ -3000000 ≤ F k ∧ G k ≤ 3000000 := fun k hk => (sx.2.2.1 k hk).2.2
      have fy : ∀ k, k < cy → H k < K k ∧ -3000000 ≤ H k ∧ K k ≤ 3000000 := fun k hk => (sy.2.2.1 k hk).2.2
      have ur := nxt_rng (i := i) (b := bx) fx
      have vr := nxt_rng (i := j) (b := by') fy
      -- the place
      obtain ⟨a, ha⟩ : ∃ a, a = if nxt cy H K j by' < nxt cx F G i bx then nxt cy H K j by' else nxt cx F G i bx := ⟨_, rfl⟩
      have gx : t < nxt cx F G i bx ∧ (i < cx → nxt cx F G i bx ≤ 3000000) := by
        unfold nxt
        by_cases c : i < cx
        · have q := fx i c
          rw [if_pos c]
          cases bx
          · have := j3.2.2.2 rfl c
            rw [if_neg (by decide)]; omega
          · have := (j3.2.2.1 rfl).2.2
            rw [if_pos rfl]; omega
        · rw [if_neg c]; omega
      have gy : t < nxt cy H K j by' ∧ (j < cy → nxt cy H K j by' ≤ 3000000) := by
        unfold nxt
        by_cases c : j < cy
        · have q := fy j c
          rw [if_pos c]
          cases by'
          · have := j4.2.2.2 rfl c
            rw [if_neg (by decide)]; omega
          · have := (j4.2.2.1 rfl).2.2
            rw [if_pos rfl]; omega
        · rw [if_neg c]; omega
      have gl : -3000000 ≤ nxt cx F G i bx ∧ -3000000 ≤ nxt cy H K j by' := by
        unfold nxt
        refine ⟨?_, ?_⟩
        · by_cases c : i < cx
          · have q := fx i c
            rw [if_pos c]; split <;> omega
          · rw [if_neg c]; omega
        · by_cases c : j < cy
          · have q := fy j c
            rw [if_pos c]; split <;> omega
          · rw [if_neg c]; omega
      have a5 : -3000000 ≤ a := by rw [ha]; split <;> omega
      have a1 : t < a := by rw [ha]; split <;> omega
      have a2 : a ≤ nxt cx F G i bx ∧ a ≤ nxt cy H K j by' := by rw [ha]; split <;> omega
      have a3 : a ≤ 3000000 := by
        have := a2
        rcases hl with q | q
        · have := gx.2 q; omega
        · have := gy.2 q; omega
      have a4 : nxt cx F G i bx = a ∨ nxt cy H K j by' = a := by rw [ha]; split <;> omega
      have rx := rp_next fx sx.2.2.2 j3 a1 a2.1 a3
      have ry := rp_next fy sy.2.2.2 j4 a1 a2.2 a3
      -- what is between
      have mid : ∀ z, t ≤ z → z < a → (opP how (SIn cx F G z) (SIn cy H K z) ↔ bo = true) := by
        intro z z1 z2
        rw [j5]
        exact opP_iff hh (rp_in (fun k hk => (fx k hk).1) sx.2.2.2 j3 z1 (by omega)) (rp_in (fun k hk => (fy k hk).1) sy.2.2.2 j4 z1 (by omega))
      have old : ∀ z, z < a → ((SIn c0 P Q z ∨ (bo = true ∧ g ≤ z)) ↔ opP how (SIn cx F G z) (SIn cy H K z)) := by
        intro z hz
        by_cases c : z < t
        · exact j8 z c
        · rw [mid z (by omega) hz]
          constructor
          · intro h
            rcases h with ⟨k, k1, k2, k3⟩ | h
            · have := j7 k k1; omega
            · exact h.1
          · intro h
            exact Or.inr ⟨h, by have := (j6 h).2.1; omega⟩
      -- the places after
      have go : DD L (d + 2) 111 23 [.ref p, .ref x, .ref y, .int (I3 how), .int (I3 i), .int (I3 j), .int (ib bx), .int (ib by'), .int (ib bo), .long (I6 g)] s = DD L (d + 2) 111 244 [.ref p, .ref x, .ref y, .int (I3 how), .int (I3 ((if nxt cx F G i bx = a ∧ bx = true then i + 1 else i : Nat) : Int)), .int (I3 ((if nxt cy H K j by' = a ∧ by' = true then j + 1 else j : Nat) : Int)), .int (ib (if nxt cx F G i bx = a then !bx else bx)), .int (ib (if nxt cy H K j by' = a then !by' else by')), .int (ib bo), .long (I6 g), .long (I6 a), .int (ib (opB how (if nxt cx F G i bx = a then !bx else bx) (if nxt cy H K j by' = a then !by' else by')))] s := by
        have i100 : i ≤ 100 := by have := j3.1; omega
        have j100 : j ≤ 100 := by have := j4.1; omega
        rw [stA (d + 2) hx hy sx' sy' i100 j100 hl, stB (d + 2) ur vr ha, stC (d + 2) hh]
      have cnt1 : (2 * i + bx.toNat + (2 * j + by'.toNat)) < 2 * (if nxt cx F G i bx = a ∧ bx = true then i + 1 else i) + (if nxt cx F G i bx = a then !bx else bx).toNat + (2 * (if nxt cy H K j by' = a ∧ by' = true then j + 1 else j) + (if nxt cy H K j by' = a then !by' else by').toNat) := by
        rcases a4 with q | q
        · rw [if_pos q]
          by_cases q2 : nxt cy H K j by' = a
          · rw [if_pos q2]
            cases bx <;> cases by' <;> simp [q, q2] <;> omega
          · rw [if_neg q2]
            cases bx <;> cases by' <;> simp [q, q2] <;> omega
        · rw [if_pos q]
          by_cases q2 : nxt cx F G i bx = a
          · rw [if_pos q2]
            cases bx <;> cases by' <;> simp [q, q2] <;> omega
          · rw [if_neg q2]
            cases bx <;> cases by' <;> simp [q, q2] <;> omega
      generalize (if nxt cx F G i bx = a ∧ bx = true then i + 1 else i) = i' at go cnt1 rx
      generalize (if nxt cy H K j by' = a ∧ by' = true then j + 1 else j) = j' at go cnt1 ry
      generalize (if nxt cx F G i bx = a then !bx else bx) = bx' at go cnt1 rx
      generalize (if nxt cy H K j by' = a then !by' else by') = by2 at go cnt1 ry
      obtain ⟨t1, -⟩ := sp_facts (L := L) hp s
      have v1 : lkN 1 [(1, 112, 5)] = some (112, 5) := rfl
      have v2 : Nat.ble (0 + 5 + 11) 64 = true := rfl
      rw [go, E_X1_joined_244]
      simp only [ib_eq]
      by_cases same : opB how bx' by2 = bo
      · rw [if_pos same]
        refine ih s c0 P Q i' j' bx' by2 bo g a (by omega) ⟨j1, j2, rx, ry, same.symm, fun h => ?_, fun k hk => by have := j7 k hk; omega, old, by omega, by omega, a3⟩
        obtain ⟨q1, q2, q3⟩ := j6 h
        exact ⟨q1, by omega, q3⟩
      · rw [if_neg same]
        simp (disch := omega) only [I3_of, I6_of, I3_nat, I3_add, I3_sub, I3_mul, I3_neg, I6_add, I6_sub, I6_mul, I6_neg, I3_lt, I3_le, I3_eq, I6_lt, I6_le, I6_eq, I3_cl, I3_64, I6_32, cmp_pos', cmp_neg', cmp_eq', inb_I, cond_true, cond_false, aI_ok, aJ_ok, aA_ok, aV_ok', aI_thr, aJ_thr, aA_thr, aV_thr, ob_some, on_some, on_none, tg_wI, tg_wJ, tg_wR, ln_wI, ln_wJ, ln_wR, tg_cpI, ln_cpI, tg_cpR, ln_cpR, nx_wI, nx_wJ, nx_wR, sl_wI, sl_wJ, sl_wR, nx_cpI, sl_cpI, nx_cpR, sl_cpR, nx_nw, sl_nw, rJ_wI, rR_wI, rI_wJ, rR_wJ, rI_wR, rJ_wR, rJ_cpI, rR_cpI, rJ_cpR, rI_cpR, rI_wI, rJ_wJ, rq_wI, rq_wJ, rq_wR, rq_cpI, ↓reduceIte, Nat.reduceEqDiff, Nat.reduceAdd, Nat.reduceSub, Nat.reduceMul, Int.reduceAdd, Int.reduceSub, Int.reduceMul, Int.reduceNeg, Int.reduceLT, Int.reduceLE, Int.reduceEq, Int.reduceToNat, Int.sub_zero, Int.add_zero, Int.zero_add, true_and, and_true, false_and, and_false, or_true, true_or, or_false, false_or, not_true_eq_false, not_false_eq_true, eq_self, decide_true, decide_false, Bool.not_false, Bool.not_true, Bool.and_true, Bool.true_and, Bool.or_true, Bool.true_or, Bool.and_self, Bool.or_false, Bool.false_or, Bool.and_false, Bool.false_and, ib_0]
        cases hnow : opB how bx' by2
        · -- it ends
          have hbo : bo = true := by
            cases bo
            · rw [hnow] at same; exact absurd rfl same
            · rfl
          subst hbo
          obtain ⟨q1, q2, q3⟩ := j6 rfl
          simp only [Bool.toNat_true] at j9
          have hc0 : c0 < 100 := by
            have b1 := rx.1
            have b2 := ry.1
            have b3 : bx'.toNat ≤ 1 := by cases bx' <;> decide
            have b4 : by2.toNat ≤ 1 := by cases by2 <;> decide
            have e1 : bx'.toNat = 1 → i' < cx := fun h => (rx.2.2.1 (by cases bx'; cases h; rfl)).1
            have e2 : by2.toNat = 1 → j' < cy := fun h => (ry.2.2.1 (by cases by2; cases h; rfl)).1
            omega
          obtain ⟨τ, r1, r2, r3⟩ := push_s (L := L) d hp j2 hc0 (a := g) (b := a) (by omega) q1 a3 q3
          simp (disch := omega) only [I3_of, I6_of, I3_nat, I3_add, I3_sub, I3_mul, I3_neg, I6_add, I6_sub, I6_mul, I6_neg, I3_lt, I3_le, I3_eq, I6_lt, I6_le, I6_eq, I3_cl, I3_64, I6_32, cmp_pos', cmp_neg', cmp_eq', inb_I, cond_true, cond_false, aI_ok, aJ_ok, aA_ok, aV_ok', aI_thr, aJ_thr, aA_thr, aV_thr, ob_some, on_some, on_none, tg_wI, tg_wJ, tg_wR, ln_wI, ln_wJ, ln_wR, tg_cpI, ln_cpI, tg_cpR, ln_cpR, nx_wI, nx_wJ, nx_wR, sl_wI, sl_wJ, sl_wR, nx_cpI, sl_cpI, nx_cpR, sl_cpR, nx_nw, sl_nw, rJ_wI, rR_wI, rI_wJ, rR_wJ, rI_wR, rJ_wR, rJ_cpI, rR_cpI, rJ_cpR, rI_cpR, rI_wI, rJ_wJ, rq_wI, rq_wJ, rq_wR, rq_cpI, ↓reduceIte, Nat.reduceEqDiff, Nat.reduceAdd, Nat.reduceSub, Nat.reduceMul, Int.reduceAdd, Int.reduceSub, Int.reduceMul, Int.reduceNeg, Int.reduceLT, Int.reduceLE, Int.reduceEq, Int.reduceToNat, Int.sub_zero, Int.add_zero, Int.zero_add, true_and, and_true, false_and, and_false, or_true, true_or, or_false, false_or, not_true_eq_false, not_false_eq_true, eq_self, decide_true, decide_false, Bool.not_false, Bool.not_true, Bool.and_true, Bool.true_and, Bool.or_true, Bool.true_or, Bool.and_self, Bool.or_false, Bool.false_or, Bool.and_false, Bool.false_and, t1, vcall_def, v1, v2, r1]
          refine ih τ (c0 + 1) _ _ i' j' bx' by2 false g a (by omega) ⟨onlyS_tr j1 r2, r3, rx, ry, hnow.symm, fun h => (by cases h), fun k hk => ?_, fun z hz => ?_, ?_, by omega, a3⟩
          · try dsimp only
            by_cases e : k = c0
            · rw [if_pos e]; omega
            · rw [if_neg e]; have := j7 k (by omega); omega
          · rw [← old z hz]
            constructor
            · intro h
              rcases h with ⟨k, k1, k2, k3⟩ | h
              · dsimp only at k2 k3
                by_cases e : k = c0
                · rw [if_pos e] at k2; exact Or.inr ⟨rfl, k2⟩
                · rw [if_neg e] at k2 k3; exact Or.inl ⟨k, by omega, k2, k3⟩
              · cases h.1
            · intro h
              left
              rcases h with ⟨k, k1, k2, k3⟩ | h
              · refine ⟨k, by omega, ?_, ?_⟩ <;> dsimp only <;> rw [if_neg (by omega)]
                · exact k2
                · exact k3
              · refine ⟨c0, by omega, ?_, ?_⟩ <;> dsimp only <;> rw [if_pos rfl]
                · exact h.2
                · exact hz
          · simp only [Bool.toNat_false]
            omega
        · -- it begins
          have hbo : bo = false := by
            cases bo
            · rfl
            · rw [hnow] at same; exact absurd rfl same
          subst hbo
          simp only [Bool.toNat_false] at j9
          simp (disch := omega) only [I3_of, I6_of, I3_nat, I3_add, I3_sub, I3_mul, I3_neg, I6_add, I6_sub, I6_mul, I6_neg, I3_lt, I3_le, I3_eq, I6_lt, I6_le, I6_eq, I3_cl, I3_64, I6_32, cmp_pos', cmp_neg', cmp_eq', inb_I, cond_true, cond_false, aI_ok, aJ_ok, aA_ok, aV_ok', aI_thr, aJ_thr, aA_thr, aV_thr, ob_some, on_some, on_none, tg_wI, tg_wJ, tg_wR, ln_wI, ln_wJ, ln_wR, tg_cpI, ln_cpI, tg_cpR, ln_cpR, nx_wI, nx_wJ, nx_wR, sl_wI, sl_wJ, sl_wR, nx_cpI, sl_cpI, nx_cpR, sl_cpR, nx_nw, sl_nw, rJ_wI, rR_wI, rI_wJ, rR_wJ, rI_wR, rJ_wR, rJ_cpI, rR_cpI, rJ_cpR, rI_cpR, rI_wI, rJ_wJ, rq_wI, rq_wJ, rq_wR, rq_cpI, ↓reduceIte, Nat.reduceEqDiff, Nat.reduceAdd, Nat.reduceSub, Nat.reduceMul, Int.reduceAdd, Int.reduceSub, Int.reduceMul, Int.reduceNeg, Int.reduceLT, Int.reduceLE, Int.reduceEq, Int.reduceToNat, Int.sub_zero, Int.add_zero, Int.zero_add, true_and, and_true, false_and, and_false, or_true, true_or, or_false, false_or, not_true_eq_false, not_false_eq_true, eq_self, decide_true, decide_false, Bool.not_false, Bool.not_true, Bool.and_true, Bool.true_and, Bool.or_true, Bool.true_or, Bool.and_self, Bool.or_false, Bool.false_or, Bool.and_false, Bool.false_and, Bool.true_eq_false]
          refine ih s c0 P Q i' j' bx' by2 true a a (by omega) ⟨j1, j2, rx, ry, hnow.symm, fun _ => ⟨by omega, Int.le_refl _, fun k hk => by have := j7 k (by omega); omega⟩, fun k hk => by have := j7 k hk; omega, fun z hz => ?_, ?_, by omega, a3⟩
          · rw [← old z hz]
            constructor
            · intro h
              rcases h with h | h
              · exact Or.inl h
              · omega
            · intro h
              rcases h with h | h
              · exact Or.inl h
              · cases h.1
          · simp only [Bool.toNat_true]
            omega
    · exact fin s c0 P Q i j bx by' bo g t hl hJ
theorem joined_s (d : Nat) {s : St} {how : Int} {p x y cx cy : Nat} {F G H K : Nat → Int} (hp : SpA p) (hx : SpA x) (hy : SpA y) (px : p ≠ x) (py : p ≠ y) (hh : 0 ≤ how ∧ how ≤ 2) (sx : Sp s x cx F G) (sy : Sp s y cy H K) (hc : cx + cy ≤ 100) :
    ∃ τ c P' Q', DD L (d + 2) 111 0 [.ref p, .ref x, .ref y, .int (I3 how)] s = ok none τ ∧ OnlyS p s τ ∧ Sp τ p c P' Q' ∧ c ≤ cx + cy ∧ ∀ z, SIn c P' Q' z ↔ opP how (SIn cx F G z) (SIn cy H K z) := by
  obtain ⟨t1, -⟩ := sp_facts (L := L) hp s
  have m1 : memN 1 [1] = true := rfl
  have eo : opB how false false = false := by
    unfold opB
    have h3 : how = 0 ∨ how = 1 ∨ how = 2 := by omega
    rcases h3 with rfl | rfl | rfl <;> rfl
  have nS : ∀ c F G z, z < -4000000 → (∀ k, k < c → -3000000 ≤ F k) → ¬ SIn c F G z := fun c F G z hz hF ⟨k, k1, k2, k3⟩ => by have := hF k k1; omega
  have fx : ∀ k, k < cx → -3000000 ≤ F k := fun k hk => (sx.2.2.1 k hk).2.2.2.1
  have fy : ∀ k, k < cy → -3000000 ≤ H k := fun k hk => (sy.2.2.1 k hk).2.2.2.1
  have o1 := onlyS_c hp (s := s) (v := I3 0)
  have hz0 : ∀ z, z < -4000000 → ((SIn 0 (fun _ => 0) (fun _ => 0) z ∨ (false = true ∧ (0 : Int) ≤ z)) ↔ opP how (SIn cx F G z) (SIn cy H K z)) := by
    intro z hz
    constructor
    · intro h
      rcases h with ⟨k, k1, -⟩ | h
      · omega
      · cases h.1
    · intro h
      rcases h with ⟨-, (q | q)⟩ | ⟨-, q, -⟩ | ⟨-, q, -⟩
      · exact absurd q (nS _ _ _ _ hz fx)
      · exact absurd q (nS _ _ _ _ hz fy)
      · exact absurd q (nS _ _ _ _ hz fx)
      · exact absurd q (nS _ _ _ _ hz fx)
  obtain ⟨τ, c, P', Q', r1, r2, r3⟩ := joined_loop (L := L) d (s0 := s) hp hx hy px py hh sx sy hc _ (wI s p 2 (I3 0)) 0 (fun _ => 0) (fun _ => 0) 0 0 false false false 0 (-4000000) (Nat.le_refl _)
    ⟨o1, ⟨by simp (disch := omega) only [I3_of, I6_of, I3_nat, I3_add, I3_sub, I3_mul, I3_neg, I6_add, I6_sub, I6_mul, I6_neg, I3_lt, I3_le, I3_eq, I6_lt, I6_le, I6_eq, I3_cl, I3_64, I6_32, cmp_pos', cmp_neg', cmp_eq', inb_I, cond_true, cond_false, aI_ok, aJ_ok, aA_ok, aV_ok', aI_thr, aJ_thr, aA_thr, aV_thr, ob_some, on_some, on_none, tg_wI, tg_wJ, tg_wR, ln_wI, ln_wJ, ln_wR, tg_cpI, ln_cpI, tg_cpR, ln_cpR, nx_wI, nx_wJ, nx_wR, sl_wI, sl_wJ, sl_wR, nx_cpI, sl_cpI, nx_cpR, sl_cpR, nx_nw, sl_nw, rJ_wI, rR_wI, rI_wJ, rR_wJ, rI_wR, rJ_wR, rJ_cpI, rR_cpI, rJ_cpR, rI_cpR, rI_wI, rJ_wJ, rq_wI, rq_wJ, rq_wR, rq_cpI, ↓reduceIte, Nat.reduceEqDiff, Nat.reduceAdd, Nat.reduceSub, Nat.reduceMul, Int.reduceAdd, Int.reduceSub, Int.reduceMul, Int.reduceNeg, Int.reduceLT, Int.reduceLE, Int.reduceEq, Int.reduceToNat, Int.sub_zero, Int.add_zero, Int.zero_add, true_and, and_true, false_and, and_false, or_true, true_or, or_false, false_or, not_true_eq_false, not_false_eq_true, eq_self, decide_true, decide_false, Bool.not_false, Bool.not_true, Bool.and_true, Bool.true_and, Bool.or_true, Bool.true_or, Bool.and_self, Bool.or_false, Bool.false_or, Bool.and_false, Bool.false_and]; rfl, by omega, fun k hk => by omega, fun k hk => by omega⟩, ⟨by omega, fun k hk => (by omega), fun h => (by cases h), fun _ h => by have := fx 0 h; omega⟩, ⟨by omega, fun k hk => (by omega), fun h => (by cases h), fun _ h => by have := fy 0 h; omega⟩, eo.symm, fun h => (by cases h), fun k hk => by omega, hz0, by simp, by omega, by omega⟩
  refine ⟨τ, c, P', Q', ?_, r2, r3⟩
  rw [E_X1_joined_0]
  simp (disch := omega) only [I3_of, I6_of, I3_nat, I3_add, I3_sub, I3_mul, I3_neg, I6_add, I6_sub, I6_mul, I6_neg, I3_lt, I3_le, I3_eq, I6_lt, I6_le, I6_eq, I3_cl, I3_64, I6_32, cmp_pos', cmp_neg', cmp_eq', inb_I, cond_true, cond_false, aI_ok, aJ_ok, aA_ok, aV_ok', aI_thr, aJ_thr, aA_thr, aV_thr, ob_some, on_some, on_none, tg_wI, tg_wJ, tg_wR, ln_wI, ln_wJ, ln_wR, tg_cpI, ln_cpI, tg_cpR, ln_cpR, nx_wI, nx_wJ, nx_wR, sl_wI, sl_wJ, sl_wR, nx_cpI, sl_cpI, nx_cpR, sl_cpR, nx_nw, sl_nw, rJ_wI, rR_wI, rI_wJ, rR_wJ, rI_wR, rJ_wR, rJ_cpI, rR_cpI, rJ_cpR, rI_cpR, rI_wI, rJ_wJ, rq_wI, rq_wJ, rq_wR, rq_cpI, ↓reduceIte, Nat.reduceEqDiff, Nat.reduceAdd, Nat.reduceSub, Nat.reduceMul, Int.reduceAdd, Int.reduceSub, Int.reduceMul, Int.reduceNeg, Int.reduceLT, Int.reduceLE, Int.reduceEq, Int.reduceToNat, Int.sub_zero, Int.add_zero, Int.zero_add, true_and, and_true, false_and, and_false, or_true, true_or, or_false, false_or, not_true_eq_false, not_false_eq_true, eq_self, decide_true, decide_false, Bool.not_false, Bool.not_true, Bool.and_true, Bool.true_and, Bool.or_true, Bool.true_or, Bool.and_self, Bool.or_false, Bool.false_or, Bool.and_false, Bool.false_and, t1, m1]
  exact r1
end JOINED
