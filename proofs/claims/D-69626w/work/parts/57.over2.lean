/-! ===== spans of all solids; the class's top ===== -/
section OVER2
variable {L : Nat}
def oM (k : Int) : Nat := if k = 0 then 116 else if k = 1 then 119 else if k = 2 then 122 else if k = 3 then 126 else if k = 4 then 129 else if k = 5 then 132 else 135
def oW (k : Int) : Nat := if k = 2 then 12 else if k = 3 then 16 else if k = 4 then 10 else 8
theorem lk_over {t : Nat} {k : Int} (h : (t : Int) = 11 + k) (h2 : 0 ≤ k ∧ k ≤ 6) : lkN t [(11, 116, 8), (12, 119, 8), (13, 122, 12), (14, 126, 16), (15, 129, 10), (16, 132, 8), (17, 135, 8)] = some (oM k, oW k) ∧ Nat.ble (0 + oW k + 11) 64 = true := by
  have : (t = 11 ∧ k = 0) ∨ (t = 12 ∧ k = 1) ∨ (t = 13 ∧ k = 2) ∨ (t = 14 ∧ k = 3) ∨ (t = 15 ∧ k = 4) ∨ (t = 16 ∧ k = 5) ∨ (t = 17 ∧ k = 6) := by omega
  rcases this with ⟨h, g⟩ | ⟨h, g⟩ | ⟨h, g⟩ | ⟨h, g⟩ | ⟨h, g⟩ | ⟨h, g⟩ | ⟨h, g⟩ <;> subst h <;> subst g <;> exact ⟨rfl, rfl⟩
theorem ov_mono {τ : St} {p : Nat} {B B' w w' : Int} {A A' : Int → Prop} (h : Ov τ p B w A) (hB : B ≤ B') (hw : w ≤ w') (hA : ∀ z, A z ↔ A' z) : Ov τ p B' w' A' := by
  obtain ⟨c, F, G, s1, s2, s3, s4⟩ := h
  exact ⟨c, F, G, s1, by omega, fun k hk => by have := s3 k hk; omega, fun z => (s4 z).trans (hA z)⟩
theorem over_h {σ0 : St} {T : Tb} {m e : Nat} (hx0 : 776 ≤ nx σ0) (h : Sol σ0 T m e) : ∀ (n s a : Nat) (d : Nat) (σ : St) (p f : Nat) (x y : Int), s ≤ n → 1 ≤ s → s ≤ m → rq σ0 e (s - 1) = some a → Fr [4] σ0 σ → nx σ = nx σ0 → SpA p → (p = 19 ∨ p < 23 + 3 * f) → f + 2 * s ≤ 120 →
    (-100000 - 5000 * (60 - s) ≤ x ∧ x ≤ 100000 + 5000 * (60 - s)) → (-100000 - 5000 * (60 - s) ≤ y ∧ y ≤ 100000 + 5000 * (60 - s)) →
    ∃ τ, DD L (d + n + 3) (oM (kd T s)) 0 [.ref a, .long (I6 x), .long (I6 y), .ref p, .ref 22, .int (I3 f)] σ = ok none τ ∧ OnlyF p f σ τ ∧ Ov τ p (20000 + 5000 * s) (wt T s) (inS T s x y) := by
  intro n
  induction n with
  | zero => intro s a d σ p f x y h1 h2; omega
  | succ n ih =>
    intro s a d σ p f x y hn h1 h2 ha0 hF hnx hp hpf hf hx hy
    have hS := sol_keep hx0 hF rfl rfl h
    have ha : rq σ e (s - 1) = some a := by
      obtain ⟨q1, q2, q3, q4⟩ := sol_arr h h1 h2
      rw [fr_q hF q2 (by rw [md_dyn q1 (by rw [q3]; decide) (Or.inl (by rw [q3]; decide))]; rfl)]
      exact ha0
    obtain ⟨q1, q2, q3, q4⟩ := sol_arr hS h1 h2
    obtain ⟨c1, c2, c3, c4, c5, c6, c7, c8⟩ := id hS
    have wf : ∀ s, 1 ≤ s → s ≤ m → WfS T s := fun s a b => (c6 s a b).1
    obtain ⟨a', e1, e2, e3, e4, -, e5⟩ := c7 s h1 h2
    rw [ha] at e1
    cases e1
    have son : ∀ r : Int, 1 ≤ r → r < s → ∃ b, rq σ e (r.toNat - 1) = some b ∧ rq σ0 e (r.toNat - 1) = some b ∧ 776 ≤ b ∧ b < nx σ ∧ tg (FF L) σ b = σ.1 b ∧ lkN (σ.1 b) [(11, 116, 8), (12, 119, 8), (13, 122, 12), (14, 126, 16), (15, 129, 10), (16, 132, 8), (17, 135, 8)] = some (oM (kd T r.toNat), oW (kd T r.toNat)) ∧ Nat.ble (0 + oW (kd T r.toNat) + 11) 64 = true := by
      intro r p1 p2
      obtain ⟨b, f1, f2, f3, f4, -⟩ := c7 r.toNat (by omega) (by omega)
      have lk := lk_over f4 (kd_rng (wf r.toNat (by omega) (by omega)))
      refine ⟨b, f1, ?_, f2, f3, tg_dyn f2, lk.1, lk.2⟩
      obtain ⟨z1, z2, z3, z4⟩ := sol_arr h h1 h2
      rw [← fr_q hF z2 (by rw [md_dyn z1 (by rw [z3]; decide) (Or.inl (by rw [z3]; decide))]; rfl)]
      exact f1
    have w := wf s h1 h2
    have wl := (c6 s h1 h2).2
    rcases e5 with ⟨k, b, f1, f2⟩ | ⟨k, b, f1, f2⟩ | ⟨k, b, f1, f2⟩ | ⟨k, b, f1, f2⟩ | ⟨k, f0, f1, f2⟩ | ⟨k, f1, b, f2, f3⟩ | ⟨k, f1⟩
    · have hr : ∀ i, i < 6 → -5000 ≤ nb T s i ∧ nb T s i ≤ 5000 := by
        rcases w with w | w | w | w
        · exact w.2.2.1
        · omega
        · omega
        · omega
      obtain ⟨τ, r1, r2, r3⟩ := box_over (L := L) (d + n + 3) (x := x) (y := y) (I3 f) hp e2 (by omega) f1 f2 hr (by omega) (by omega)
      rw [k]
      exact ⟨τ, r1, onlyF_S r2, ov_mono r3 (by omega) (by omega) (fun z => by rw [inS_0 h1 (by omega), k])⟩
    · have hr : ∀ i, i < 6 → -5000 ≤ nb T s i ∧ nb T s i ≤ 5000 := by
        rcases w with w | w | w | w
        · exact w.2.2.1
        · omega
        · omega
        · omega
      obtain ⟨τ, r1, r2, r3⟩ := post_over (L := L) (d + n + 3) (x := x) (y := y) (I3 f) hp e2 (by omega) f1 f2 hr (by omega) (by omega)
      rw [k]
      exact ⟨τ, r1, onlyF_S r2, ov_mono r3 (by omega) (by omega) (fun z => by rw [inS_0 h1 (by omega), k])⟩
    · have hr : ∀ i, i < 6 → -5000 ≤ nb T s i ∧ nb T s i ≤ 5000 := by
        rcases w with w | w | w | w
        · exact w.2.2.1
        · omega
        · omega
        · omega
      obtain ⟨τ, r1, r2, r3⟩ := ball_over (L := L) (d + n + 3) (x := x) (y := y) (I3 f) hp e2 (by omega) f1 f2 hr (by omega) (by omega)
      rw [k]
      exact ⟨τ, r1, onlyF_S r2, ov_mono r3 (by omega) (by omega) (fun z => by rw [inS_0 h1 (by omega), k])⟩
    · have hr : ∀ i, i < 6 → -5000 ≤ nb T s i ∧ nb T s i ≤ 5000 := by
        rcases w with w | w | w | w
        · exact w.2.2.1
        · omega
        · omega
        · omega
      obtain ⟨τ, r1, r2, r3⟩ := cone_over (L := L) (d + n + 3) (x := x) (y := y) (I3 f) hp e2 (by omega) f1 f2 hr (by omega) (by omega)
      rw [k]
      exact ⟨τ, r1, onlyF_S r2, ov_mono r3 (by omega) (by omega) (fun z => by rw [inS_0 h1 (by omega), k])⟩
    · -- a join
      have w4 : 1 ≤ nb T s 0 ∧ nb T s 0 < s ∧ 1 ≤ nb T s 1 ∧ nb T s 1 < s ∧ 0 ≤ nb T s 2 ∧ nb T s 2 ≤ 2 ∧ wt T s = wt T (nb T s 0).toNat + wt T (nb T s 1).toNat + 1 := by unfold WfS at w; omega
      obtain ⟨b, p1, p2, p3, p3', p4, p5, p6⟩ := son (nb T s 0) (by omega) (by omega)
      obtain ⟨b', g1, g2, g3, g3', g4, g5, g6⟩ := son (nb T s 1) (by omega) (by omega)
      have hA : SpA (23 + 3 * f) := Or.inr ⟨by omega, by omega, by omega⟩
      have hB : SpA (23 + 3 * (f + 1)) := Or.inr ⟨by omega, by omega, by omega⟩
      obtain ⟨τ1, i1, i2, i3⟩ := ih (nb T s 0).toNat b d σ (23 + 3 * f) (f + 2) x y (by omega) (by omega) (by omega) p2 hF hnx hA (Or.inr (by omega)) (by omega) (by omega) (by omega)
      obtain ⟨τ2, j1, j2, j3⟩ := ih (nb T s 1).toNat b' d τ1 (23 + 3 * (f + 1)) (f + 2) x y (by omega) (by omega) (by omega) g2 (fr_tr hF i2.1) (i2.2.1.trans hnx) hB (Or.inr (by omega)) (by omega) (by omega) (by omega)
      obtain ⟨cx, F, G, s1, s2, s3, s4⟩ := i3
      obtain ⟨cy, H, K, u1, u2, u3, u4⟩ := j3
      have s1' := sp_keepF hA hB (by omega) (by omega) j2 s1
      obtain ⟨τ, c, P, Q, y1, y2, y3, y4, y5⟩ := joined_s (L := L) (d + n + 1) (how := nb T s 2) hp hA hB (by unfold SpA at hp; omega) (by unfold SpA at hp; omega) (by omega) s1' u1 (by omega)
      have fr1 : Fr [4] σ τ1 := i2.1
      have fr2 : Fr [4] σ τ2 := fr_tr i2.1 j2.1
      have k4 : ∀ υ : St, Fr [4] σ υ → tg (FF L) υ a = 15 ∧ rR (FF L) υ a 2 = some b' ∧ rI υ a 3 = I3 (nb T s 2) := by
        intro υ hu
        have md4 : ∀ i, memN (md σ a i) [4] = false := fun i => by rw [md_dyn e2 (by omega) (Or.inl (by omega))]; rfl
        refine ⟨?_, ?_, ?_⟩
        · rw [fr_tg hu e3]; exact (tg_dyn e2).trans (by omega)
        · rw [fr_R hu e3 (md4 2)]; exact (rR_dyn e2).trans (f2.trans g1)
        · rw [fr_I hu e3 (md4 3)]; exact f0
      obtain ⟨z1, z2, z3⟩ := k4 σ fr_refl
      obtain ⟨z1', z2', z3'⟩ := k4 τ1 fr1
      obtain ⟨z1'', z2'', z3''⟩ := k4 τ2 fr2
      have t2 : rR (FF L) σ a 1 = some b := (rR_dyn e2).trans (f1.trans p1)
      have g4' : tg (FF L) τ1 b' = σ.1 b' := (fr_tg fr1 g3').trans g4
      obtain ⟨sp1, -⟩ := sp_facts (L := L) hp τ2
      have m1 : memN 15 [15] = true := rfl
      have m69 : ∀ υ : St, tg (FF L) υ 22 = 69 := fun _ => rfl
      have l22 : ∀ υ : St, ln (FF L) υ 22 = 202 := fun _ => rfl
      have b1 : Nat.beq 69 68 = false := rfl
      have b2 : Nat.beq 69 69 = true := rfl
      have pr : ∀ (υ : St) (i : Nat), i < 202 → rR (FF L) υ 22 i = some (23 + 3 * i) := by
        intro υ i hi
        rw [rR_rq]
        have : fR (FF L) 22 i = some (23 + 3 * i) := by
          show (bif Nat.blt i 202 then some (23 + 3 * i) else none) = some (23 + 3 * i)
          rw [bltT hi]; rfl
        rw [this]; rfl
      have v1 : lkN 1 [(1, 111, 18)] = some (111, 18) := rfl
      have v2 : Nat.ble (0 + 18 + 11) 64 = true := rfl
      refine ⟨τ, ?_, onlyF_tr (onlyF_tr (onlyF_in i2 (by omega) (by omega)) (onlyF_in j2 (by omega) (by omega))) (onlyF_S y2), c, P, Q, y3, by omega, fun i hi => ?_, fun z => ?_⟩
      · have ef : (f : Int) + 2 = ((f + 2 : Nat) : Int) := by omega
        have ef1 : ((f : Int) + 1).toNat = f + 1 := by omega
        rw [k]
        show DD L (d + n + 3 + 1) 129 0 _ σ = _
        rw [E_X15_over_0]
        simp only [m69, l22, b1, b2, Bool.false_or, cond_true]
        simp (disch := omega) only [I3_of, I6_of, I3_nat, I3_add, I3_sub, I3_mul, I3_neg, I6_add, I6_sub, I6_mul, I6_neg, I3_lt, I3_le, I3_eq, I6_lt, I6_le, I6_eq, I3_cl, I3_64, I6_32, cmp_pos', cmp_neg', cmp_eq', inb_I, cond_true, cond_false, aI_ok, aJ_ok, aA_ok, aV_ok', aI_thr, aJ_thr, aA_thr, aV_thr, ob_some, on_some, on_none, ↓reduceIte, Nat.reduceEqDiff, Nat.reduceAdd, Nat.reduceSub, Nat.reduceMul, Int.reduceAdd, Int.reduceSub, Int.reduceMul, Int.reduceNeg, Int.reduceLT, Int.reduceLE, Int.reduceEq, Int.reduceToNat, Int.sub_zero, Int.add_zero, Int.zero_add, true_and, and_true, false_and, and_false, or_true, true_or, or_false, false_or, not_true_eq_false, not_false_eq_true, eq_self, decide_true, decide_false, Bool.not_false, Bool.not_true, Bool.and_true, Bool.true_and, Bool.or_true, Bool.true_or, Bool.and_self, Bool.or_false, Bool.false_or, Bool.and_false, Bool.false_and, Int.toNat_natCast, pr σ f (by omega), ef1, pr σ (f + 1) (by omega), z1, m1, t2, vcall_def, p4, p5, p6, ef, i1, z1', z2', g4', g5, g6, j1, z1'', sp1, v1, v2, z3'', y1]
      · -- bounds
        obtain ⟨-, -, o3, -⟩ := y3
        obtain ⟨-, -, o4, o5, o6⟩ := o3 i hi
        have inx : ∀ z, SIn c P Q z → -(20000 + 5000 * (s : Int)) ≤ z ∧ z < 20000 + 5000 * (s : Int) := by
          intro z hz
          have bx : SIn cx F G z → -(20000 + 5000 * (s : Int)) ≤ z ∧ z < 20000 + 5000 * (s : Int) := fun ⟨i, i1, i2, i3⟩ => by have := s3 i i1; omega
          have bY : SIn cy H K z → -(20000 + 5000 * (s : Int)) ≤ z ∧ z < 20000 + 5000 * (s : Int) := fun ⟨i, i1, i2, i3⟩ => by have := u3 i i1; omega
          rcases (y5 z).mp hz with ⟨-, (q | q)⟩ | ⟨-, q, -⟩ | ⟨-, q, -⟩
          · exact bx q
          · exact bY q
          · exact bx q
          · exact bx q
        have l1 := inx (P i) ⟨i, hi, Int.le_refl _, o4⟩
        have l2 := inx (Q i - 1) ⟨i, hi, by omega, by omega⟩
        omega
      · rw [y5 z, inS_4 wf h1 h2 k]
        unfold opP
        rw [s4 z, u4 z]
    · -- moved
      have w5 : 1 ≤ nb T s 3 ∧ nb T s 3 < s ∧ (∀ i, i < 3 → -5000 ≤ nb T s i ∧ nb T s i ≤ 5000) ∧ wt T s = wt T (nb T s 3).toNat + 1 := by
        rcases w with w | w | w | w
        · omega
        · omega
        · exact ⟨w.2.1, w.2.2.1, w.2.2.2.1, w.2.2.2.2⟩
        · omega
      obtain ⟨w51, w52, w53, w54⟩ := w5
      have n0 := w53 0 (by omega)
      have n1 := w53 1 (by omega)
      have n2 := w53 2 (by omega)
      obtain ⟨b', p1, p2, p3, p3', p4, p5, p6⟩ := son (nb T s 3) (by omega) (by omega)
      obtain ⟨b1, b2, b3, b4, b5⟩ := f3
      obtain ⟨τ1, i1, i2, c, F, G, s1, s2, s3, s4⟩ := ih (nb T s 3).toNat b' d σ p f (x - nb T s 0) (y - nb T s 1) (by omega) (by omega) (by omega) p2 hF hnx hp hpf (by omega) (by omega) (by omega)
      obtain ⟨u1, u2, u3, u4⟩ := s1
      obtain ⟨τ, y1, y2, y3, y4⟩ := moved_s (L := L) (d + n + 3) (p := p) (c := c) (F := F) (G := G) (by' := nb T s 2) hp n2 u2 (fun i hi => by have := u3 i hi; have := s3 i hi; omega) _ 0 τ1 (Nat.le_refl _) (by omega) u1 (fun i hi => by
        obtain ⟨z1, z2, -⟩ := u3 i hi
        rw [if_neg (by omega), if_neg (by omega)]
        exact ⟨z1, z2⟩)
      have fr1 : Fr [4] σ τ1 := i2.1
      have mdA : ∀ i, memN (md σ a i) [4] = false := fun i => by rw [md_dyn e2 (by omega) (Or.inl (by omega))]; rfl
      have mdB : ∀ i, memN (md σ b i) [4] = false := fun i => by rw [md_dyn b1 (by rw [b3]; decide) (Or.inr (by omega))]; rfl
      have t1 : tg (FF L) σ a = 16 := (tg_dyn e2).trans (by omega)
      have t2 : rR (FF L) σ a 1 = some b' := (rR_dyn e2).trans (f1.trans p1)
      have t3 : rR (FF L) σ a 2 = some b := (rR_dyn e2).trans f2
      have t4 : tg (FF L) σ b = 64 := (tg_dyn b1).trans b3
      have t5 : ln (FF L) σ b = 3 := (ln_dyn b1).trans b4
      have t1' : tg (FF L) τ1 a = 16 := (fr_tg fr1 e3).trans t1
      have t3' : rR (FF L) τ1 a 2 = some b := (fr_R fr1 e3 (mdA 2)).trans t3
      have t4' : tg (FF L) τ1 b = 64 := (fr_tg fr1 b2).trans t4
      have t5' : ln (FF L) τ1 b = 3 := (fr_ln fr1 b2).trans t5
      have v22 : rI τ1 b 2 = I3 (nb T s 2) := (fr_I fr1 b2 (mdB 2)).trans (b5 2 (by omega))
      obtain ⟨sp1, -⟩ := sp_facts (L := L) hp τ1
      have m1 : memN 16 [16] = true := rfl
      have m2 : Nat.beq 64 64 = true := rfl
      have v1 : lkN 1 [(1, 110, 4)] = some (110, 4) := rfl
      have v2 : Nat.ble (0 + 4 + 11) 64 = true := rfl
      refine ⟨τ, ?_, onlyF_tr i2 (onlyF_S y2), c, fun i => F i + nb T s 2, fun i => G i + nb T s 2, ⟨y3, u2, fun i hi => ?_, fun i hi => by have := u4 i hi; dsimp only; omega⟩, by omega, fun i hi => by have := s3 i hi; dsimp only; omega, fun z => ?_⟩
      · have z0 : ((0 : Nat) : Int) = 0 := rfl
        rw [z0] at y1
        rw [k]
        show DD L (d + n + 3 + 1) 132 0 _ σ = _
        rw [E_X16_over_0]
        simp (disch := omega) only [I3_of, I6_of, I3_nat, I3_add, I3_sub, I3_mul, I3_neg, I6_add, I6_sub, I6_mul, I6_neg, I3_lt, I3_le, I3_eq, I6_lt, I6_le, I6_eq, I3_cl, I3_64, I6_32, cmp_pos', cmp_neg', cmp_eq', inb_I, cond_true, cond_false, aI_ok, aJ_ok, aA_ok, aV_ok', aI_thr, aJ_thr, aA_thr, aV_thr, ob_some, on_some, on_none, ↓reduceIte, Nat.reduceEqDiff, Nat.reduceAdd, Nat.reduceSub, Nat.reduceMul, Int.reduceAdd, Int.reduceSub, Int.reduceMul, Int.reduceNeg, Int.reduceLT, Int.reduceLE, Int.reduceEq, Int.reduceToNat, Int.sub_zero, Int.add_zero, Int.zero_add, true_and, and_true, false_and, and_false, or_true, true_or, or_false, false_or, not_true_eq_false, not_false_eq_true, eq_self, decide_true, decide_false, Bool.not_false, Bool.not_true, Bool.and_true, Bool.true_and, Bool.or_true, Bool.true_or, Bool.and_self, Bool.or_false, Bool.false_or, Bool.and_false, Bool.false_and, t1, t2, t3, t4, t5, m1, m2, vcall_def, p4, p5, p6, b5 0 (by omega), b5 1 (by omega), i1, t1', t3', t4', t5', v22, sp1, v1, v2, E_X1_moved_0, y1]
      · obtain ⟨-, -, z3, -⟩ := u3 i hi
        obtain ⟨z1, z2⟩ := y4 i hi
        have := s3 i hi
        exact ⟨z1, z2, by dsimp only; omega, by dsimp only; omega, by dsimp only; omega⟩
      · rw [inS_5 wf h1 h2 k, ← s4]
        constructor
        · intro ⟨i, i1, i2, i3⟩
          exact ⟨i, i1, by dsimp only at i2; omega, by dsimp only at i3; omega⟩
        · intro ⟨i, i1, i2, i3⟩
          exact ⟨i, i1, by dsimp only; omega, by dsimp only; omega⟩
    · -- turned
      have w6 : 1 ≤ nb T s 0 ∧ nb T s 0 < s ∧ wt T s = wt T (nb T s 0).toNat + 1 := by unfold WfS at w; omega
      obtain ⟨b', p1, p2, p3, p3', p4, p5, p6⟩ := son (nb T s 0) (by omega) (by omega)
      obtain ⟨τ1, i1, i2, i3⟩ := ih (nb T s 0).toNat b' d σ p f y (-x) (by omega) (by omega) (by omega) p2 hF hnx hp hpf (by omega) (by omega) (by omega)
      have t1 : tg (FF L) σ a = 17 := (tg_dyn e2).trans (by omega)
      have t2 : rR (FF L) σ a 1 = some b' := (rR_dyn e2).trans (f1.trans p1)
      have m1 : memN 17 [17] = true := rfl
      refine ⟨τ1, ?_, i2, ov_mono i3 (by omega) (by omega) (fun z => (inS_6 wf h1 h2 k).symm)⟩
      rw [k]
      show DD L (d + n + 3 + 1) 135 0 _ σ = _
      rw [E_X17_over_0]
      simp (disch := omega) only [I3_of, I6_of, I3_nat, I3_add, I3_sub, I3_mul, I3_neg, I6_add, I6_sub, I6_mul, I6_neg, I3_lt, I3_le, I3_eq, I6_lt, I6_le, I6_eq, I3_cl, I3_64, I6_32, cmp_pos', cmp_neg', cmp_eq', inb_I, cond_true, cond_false, aI_ok, aJ_ok, aA_ok, aV_ok', aI_thr, aJ_thr, aA_thr, aV_thr, ob_some, on_some, on_none, ↓reduceIte, Nat.reduceEqDiff, Nat.reduceAdd, Nat.reduceSub, Nat.reduceMul, Int.reduceAdd, Int.reduceSub, Int.reduceMul, Int.reduceNeg, Int.reduceLT, Int.reduceLE, Int.reduceEq, Int.reduceToNat, Int.sub_zero, Int.add_zero, Int.zero_add, true_and, and_true, false_and, and_false, or_true, true_or, or_false, false_or, not_true_eq_false, not_false_eq_true, eq_self, decide_true, decide_false, Bool.not_false, Bool.not_true, Bool.and_true, Bool.true_and, Bool.or_true, Bool.true_or, Bool.and_self, Bool.or_false, Bool.false_or, Bool.and_false, Bool.false_and, t1, t2, m1, vcall_def, p4, p5, p6, i1]
/-- the greatest place below 1000 that is in, and one more -/
def IsTop (A : Int → Prop) (t : Int) : Prop := 0 ≤ t ∧ t ≤ 1000 ∧ (t = 0 ∨ A (t - 1)) ∧ ∀ z, t ≤ z → z < 1000 → ¬ A z
theorem top_uniq {A : Int → Prop} {t u : Int} (h1 : IsTop A t) (h2 : IsTop A u) : t = u := by
  obtain ⟨a1, a2, a3, a4⟩ := h1
  obtain ⟨b1, b2, b3, b4⟩ := h2
  rcases Int.lt_trichotomy t u with h | h | h
  · exfalso
    rcases b3 with q | q
    · omega
    · exact a4 (u - 1) (by omega) (by omega) q
  · exact h
  · exfalso
    rcases a3 with q | q
    · omega
    · exact b4 (t - 1) (by omega) (by omega) q
theorem topOf_loop (d : Nat) {s : St} {c : Nat} {F G : Nat → Int} (hs : Sp s 19 c F G) : ∀ (n k : Nat) (t : Int), c - k ≤ n → k ≤ c → 0 ≤ t → t ≤ 1000 → (t = 0 ∨ ∃ i, i < k ∧ F i ≤ t - 1 ∧ t - 1 < G i) → (∀ z, t ≤ z → z < 1000 → ¬ ∃ i, i < k ∧ F i ≤ z ∧ z < G i) →
    ∃ t', DD L d 37 23 [.ref 16, .int (I3 t), .int (I3 k)] s = ok (some (.int (I3 t'))) s ∧ IsTop (SIn c F G) t' := by
  obtain ⟨h1, h2, h3, h4⟩ := hs
  have mono : ∀ i j, i < j → j < c → G i < F j := by
    intro i j hij
    induction j with
    | zero => omega
    | succ j ih =>
      intro hj
      by_cases e : i = j
      · subst e; exact h4 i hj
      · have q1 := ih (by omega) (by omega)
        have q2 := (h3 j (by omega)).2.2.1
        have q3 := h4 j hj
        omega
  intro n
  induction n with
  | zero =>
    intro k t hn hk t0 t1 ht hz
    have e : k = c := by omega
    subst e
    refine ⟨t, ?_, t0, t1, ht, hz⟩
    rw [E_X0_topOf_23]
    simp (disch := omega) only [I3_of, I6_of, I3_nat, I3_add, I3_sub, I3_mul, I3_neg, I6_add, I6_sub, I6_mul, I6_neg, I3_lt, I3_le, I3_eq, I6_lt, I6_le, I6_eq, I3_cl, I3_64, I6_32, cmp_pos', cmp_neg', cmp_eq', inb_I, cond_true, cond_false, aI_ok, aJ_ok, aA_ok, aV_ok', aI_thr, aJ_thr, aA_thr, aV_thr, ob_some, on_some, on_none, tg_wI, tg_wJ, tg_wR, ln_wI, ln_wJ, ln_wR, tg_cpI, ln_cpI, tg_cpR, ln_cpR, nx_wI, nx_wJ, nx_wR, sl_wI, sl_wJ, sl_wR, nx_cpI, sl_cpI, nx_cpR, sl_cpR, nx_nw, sl_nw, rJ_wI, rR_wI, rI_wJ, rR_wJ, rI_wR, rJ_wR, rJ_cpI, rR_cpI, rJ_cpR, rI_cpR, rI_wI, rJ_wJ, rq_wI, rq_wJ, rq_wR, rq_cpI, ↓reduceIte, Nat.reduceEqDiff, Nat.reduceAdd, Nat.reduceSub, Nat.reduceMul, Int.reduceAdd, Int.reduceSub, Int.reduceMul, Int.reduceNeg, Int.reduceLT, Int.reduceLE, Int.reduceEq, Int.reduceToNat, Int.sub_zero, Int.add_zero, Int.zero_add, true_and, and_true, false_and, and_false, or_true, true_or, or_false, false_or, not_true_eq_false, not_false_eq_true, eq_self, decide_true, decide_false, Bool.not_false, Bool.not_true, Bool.and_true, Bool.true_and, Bool.or_true, Bool.true_or, Bool.and_self, Bool.or_false, Bool.false_or, Bool.and_false, Bool.false_and, h1]
    rw [if_neg (by omega)]
  | succ n ih =>
    intro k t hn hk t0 t1 ht hz
    by_cases ck : k < c
    · obtain ⟨f1, f2, f3, f4, f5⟩ := h3 k ck
      have f1' : rJ s 20 k = I6 (F k) := f1
      have f2' : rJ s 21 k = I6 (G k) := f2
      have ek : (k : Int) + 1 = ((k + 1 : Nat) : Int) := by omega
      by_cases cf : F k < 1000
      · by_cases cg : 0 < G k
        · -- it counts
          obtain ⟨t', r1, r2⟩ := ih (k + 1) (if G k < 1000 then G k else 1000) (by omega) (by omega) (by split <;> omega) (by split <;> omega) (Or.inr ⟨k, by omega, by split <;> omega, by split <;> omega⟩) (fun z z1 z2 ⟨i, i1, i2, i3⟩ => by
            by_cases e : i = k
            · subst e
              by_cases q : G i < 1000
              · rw [if_pos q] at z1; omega
              · rw [if_neg q] at z1; omega
            · have := mono i k (by omega) ck
              by_cases q : G k < 1000
              · rw [if_pos q] at z1; omega
              · rw [if_neg q] at z1; omega)
          refine ⟨t', ?_, r2⟩
          have emin : (if I6 (G k) < I6 1000 then I6 (G k) else I6 1000).toInt32 = I3 (if G k < 1000 then G k else 1000) := by
            simp only [I6_lt (a := G k) (b := 1000) (by omega)]
            split
            · exact I6_32 (by omega)
            · exact I6_32 (by omega)
          rw [E_X0_topOf_23]
          simp (disch := omega) only [I3_of, I6_of, I3_nat, I3_add, I3_sub, I3_mul, I3_neg, I6_add, I6_sub, I6_mul, I6_neg, I3_lt, I3_le, I3_eq, I6_le, I6_eq, I3_cl, I3_64, I6_32, cmp_pos', cmp_neg', cmp_eq', inb_I, cond_true, cond_false, aI_ok, aJ_ok, aA_ok, aV_ok', aI_thr, aJ_thr, aA_thr, aV_thr, ob_some, on_some, on_none, tg_wI, tg_wJ, tg_wR, ln_wI, ln_wJ, ln_wR, tg_cpI, ln_cpI, tg_cpR, ln_cpR, nx_wI, nx_wJ, nx_wR, sl_wI, sl_wJ, sl_wR, nx_cpI, sl_cpI, nx_cpR, sl_cpR, nx_nw, sl_nw, rJ_wI, rR_wI, rI_wJ, rR_wJ, rI_wR, rJ_wR, rJ_cpI, rR_cpI, rJ_cpR, rI_cpR, rI_wI, rJ_wJ, rq_wI, rq_wJ, rq_wR, rq_cpI, ↓reduceIte, Nat.reduceEqDiff, Nat.reduceAdd, Nat.reduceSub, Nat.reduceMul, Int.reduceAdd, Int.reduceSub, Int.reduceMul, Int.reduceNeg, Int.reduceLT, Int.reduceLE, Int.reduceEq, Int.reduceToNat, Int.sub_zero, Int.add_zero, Int.zero_add, true_and, and_true, false_and, and_false, or_true, true_or, or_false, false_or, not_true_eq_false, not_false_eq_true, eq_self, decide_true, decide_false, Bool.not_false, Bool.not_true, Bool.and_true, Bool.true_and, Bool.or_true, Bool.true_or, Bool.and_self, Bool.or_false, Bool.false_or, Bool.and_false, Bool.false_and, h1, Int.toNat_natCast, f1', f2', emin]
          simp only [I6_lt (a := F k) (b := 1000) (by omega), I6_lt (a := 0) (b := G k) (by omega)]
          rw [if_pos (by omega), if_pos cf, if_pos cg]
          first
            | (rw [ek]; exact r1)
            | (simp only [emin]; rw [ek]; exact r1)
        · obtain ⟨t', r1, r2⟩ := ih (k + 1) t (by omega) (by omega) t0 t1 (ht.elim Or.inl (fun ⟨i, i1, i2⟩ => Or.inr ⟨i, by omega, i2⟩)) (fun z z1 z2 ⟨i, i1, i2, i3⟩ => by
            by_cases e : i = k
            · subst e; omega
            · exact hz z z1 z2 ⟨i, by omega, i2, i3⟩)
          refine ⟨t', ?_, r2⟩
          rw [E_X0_topOf_23]
          simp (disch := omega) only [I3_of, I6_of, I3_nat, I3_add, I3_sub, I3_mul, I3_neg, I6_add, I6_sub, I6_mul, I6_neg, I3_lt, I3_le, I3_eq, I6_le, I6_eq, I3_cl, I3_64, I6_32, cmp_pos', cmp_neg', cmp_eq', inb_I, cond_true, cond_false, aI_ok, aJ_ok, aA_ok, aV_ok', aI_thr, aJ_thr, aA_thr, aV_thr, ob_some, on_some, on_none, tg_wI, tg_wJ, tg_wR, ln_wI, ln_wJ, ln_wR, tg_cpI, ln_cpI, tg_cpR, ln_cpR, nx_wI, nx_wJ, nx_wR, sl_wI, sl_wJ, sl_wR, nx_cpI, sl_cpI, nx_cpR, sl_cpR, nx_nw, sl_nw, rJ_wI, rR_wI, rI_wJ, rR_wJ, rI_wR, rJ_wR, rJ_cpI, rR_cpI, rJ_cpR, rI_cpR, rI_wI, rJ_wJ, rq_wI, rq_wJ, rq_wR, rq_cpI, ↓reduceIte, Nat.reduceEqDiff, Nat.reduceAdd, Nat.reduceSub, Nat.reduceMul, Int.reduceAdd, Int.reduceSub, Int.reduceMul, Int.reduceNeg, Int.reduceLT, Int.reduceLE, Int.reduceEq, Int.reduceToNat, Int.sub_zero, Int.add_zero, Int.zero_add, true_and, and_true, false_and, and_false, or_true, true_or, or_false, false_or, not_true_eq_false, not_false_eq_true, eq_self, decide_true, decide_false, Bool.not_false, Bool.not_true, Bool.and_true, Bool.true_and, Bool.or_true, Bool.true_or, Bool.and_self, Bool.or_false, Bool.false_or, Bool.and_false, Bool.false_and, h1, Int.toNat_natCast, f1', f2']
          simp only [I6_lt (a := F k) (b := 1000) (by omega), I6_lt (a := 0) (b := G k) (by omega)]
          rw [if_pos (by omega), if_pos cf, if_neg cg, ek]
          exact r1
      · obtain ⟨t', r1, r2⟩ := ih (k + 1) t (by omega) (by omega) t0 t1 (ht.elim Or.inl (fun ⟨i, i1, i2⟩ => Or.inr ⟨i, by omega, i2⟩)) (fun z z1 z2 ⟨i, i1, i2, i3⟩ => by
          by_cases e : i = k
          · subst e; omega
          · exact hz z z1 z2 ⟨i, by omega, i2, i3⟩)
        refine ⟨t', ?_, r2⟩
        rw [E_X0_topOf_23]
        simp (disch := omega) only [I3_of, I6_of, I3_nat, I3_add, I3_sub, I3_mul, I3_neg, I6_add, I6_sub, I6_mul, I6_neg, I3_lt, I3_le, I3_eq, I6_le, I6_eq, I3_cl, I3_64, I6_32, cmp_pos', cmp_neg', cmp_eq', inb_I, cond_true, cond_false, aI_ok, aJ_ok, aA_ok, aV_ok', aI_thr, aJ_thr, aA_thr, aV_thr, ob_some, on_some, on_none, tg_wI, tg_wJ, tg_wR, ln_wI, ln_wJ, ln_wR, tg_cpI, ln_cpI, tg_cpR, ln_cpR, nx_wI, nx_wJ, nx_wR, sl_wI, sl_wJ, sl_wR, nx_cpI, sl_cpI, nx_cpR, sl_cpR, nx_nw, sl_nw, rJ_wI, rR_wI, rI_wJ, rR_wJ, rI_wR, rJ_wR, rJ_cpI, rR_cpI, rJ_cpR, rI_cpR, rI_wI, rJ_wJ, rq_wI, rq_wJ, rq_wR, rq_cpI, ↓reduceIte, Nat.reduceEqDiff, Nat.reduceAdd, Nat.reduceSub, Nat.reduceMul, Int.reduceAdd, Int.reduceSub, Int.reduceMul, Int.reduceNeg, Int.reduceLT, Int.reduceLE, Int.reduceEq, Int.reduceToNat, Int.sub_zero, Int.add_zero, Int.zero_add, true_and, and_true, false_and, and_false, or_true, true_or, or_false, false_or, not_true_eq_false, not_false_eq_true, eq_self, decide_true, decide_false, Bool.not_false, Bool.not_true, Bool.and_true, Bool.true_and, Bool.or_true, Bool.true_or, Bool.and_self, Bool.or_false, Bool.false_or, Bool.and_false, Bool.false_and, h1, Int.toNat_natCast, f1', f2']
        simp only [I6_lt (a := F k) (b := 1000) (by omega)]
        rw [if_pos (by omega), if_neg cf, ek]
        exact r1
    · exact ih k t (by omega) hk t0 t1 ht hz
theorem isTop_congr {A A' : Int → Prop} (h : ∀ z, A z ↔ A' z) {t : Int} (ht : IsTop A t) : IsTop A' t := by
  have : A = A' := funext fun z => propext (h z)
  rw [← this]; exact ht
theorem topOf_h (d : Nat) {σ : St} {T : Tb} {m e s a : Nat} {x y : Int} (hx0 : 776 ≤ nx σ) (h : Sol σ T m e) (h1 : 1 ≤ s) (h2 : s ≤ m) (ha : rq σ e (s - 1) = some a) (hx : -100000 ≤ x ∧ x ≤ 100000) (hy : -100000 ≤ y ∧ y ≤ 100000) :
    ∃ τ t, DD L (d + 64) 37 0 [.ref 16, .ref a, .int (I3 x), .int (I3 y)] σ = ok (some (.int (I3 t))) τ ∧ Fr [4] σ τ ∧ nx τ = nx σ ∧ sl τ = sl σ ∧ IsTop (inS T s x y) t := by
  have m60 := h.1
  obtain ⟨τ, r1, r2, c, F, G, r3, r4, r5, r6⟩ := over_h (L := L) hx0 h 60 s a d σ 19 0 x y (by omega) h1 h2 ha fr_refl rfl (Or.inl rfl) (Or.inl rfl) (by omega) (by omega) (by omega)
  obtain ⟨t, q1, q2⟩ := topOf_loop (L := L) (d + 64) r3 _ 0 0 (Nat.le_refl _) (by omega) (by omega) (by omega) (Or.inl rfl) (fun z z1 z2 ⟨i, i1, _⟩ => by omega)
  refine ⟨τ, t, ?_, r2.1, r2.2.1, r2.2.2.1, isTop_congr r6 q2⟩
  obtain ⟨a', e1, e2, e3, e4, -⟩ := h.2.2.2.2.2.2.1 s h1 h2
  rw [ha] at e1
  cases e1
  have lk := lk_over e4 (kd_rng (h.2.2.2.2.2.1 s h1 h2).1)
  have z0 : ((0 : Nat) : Int) = 0 := rfl
  rw [z0] at r1 q1
  rw [E_X0_topOf_0]
  simp (disch := omega) only [I3_of, I6_of, I3_nat, I3_add, I3_sub, I3_mul, I3_neg, I6_add, I6_sub, I6_mul, I6_neg, I3_lt, I3_le, I3_eq, I6_lt, I6_le, I6_eq, I3_cl, I3_64, I6_32, cmp_pos', cmp_neg', cmp_eq', inb_I, cond_true, cond_false, aI_ok, aJ_ok, aA_ok, aV_ok', aI_thr, aJ_thr, aA_thr, aV_thr, ob_some, on_some, on_none, ↓reduceIte, Nat.reduceEqDiff, Nat.reduceAdd, Nat.reduceSub, Nat.reduceMul, Int.reduceAdd, Int.reduceSub, Int.reduceMul, Int.reduceNeg, Int.reduceLT, Int.reduceLE, Int.reduceEq, Int.reduceToNat, Int.sub_zero, Int.add_zero, Int.zero_add, true_and, and_true, false_and, and_false, or_true, true_or, or_false, false_or, not_true_eq_false, not_false_eq_true, eq_self, decide_true, decide_false, Bool.not_false, Bool.not_true, Bool.and_true, Bool.true_and, Bool.or_true, Bool.true_or, Bool.and_self, Bool.or_false, Bool.false_or, Bool.and_false, Bool.false_and, vcall_def, tg_dyn e2, lk.1, lk.2, r1, q1]
end OVER2
