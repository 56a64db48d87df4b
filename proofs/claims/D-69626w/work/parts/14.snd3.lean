/-! ===== soundness: the instructions that touch no heap, all of them ===== -/
theorem emp_inv {st : List Value} {k : Res} {z : Out × St} (h : emp st k = some z) : st = [] ∧ k = some z := by
  cases st with
  | nil => exact ⟨rfl, h⟩
  | cons v r => cases h
theorem cv_rn {X : Cx} (hV : xV X = .null ∨ ∃ q, xV X = .ref q) (a : Nat) : (∃ b, cv X (.ref a) = .ref b) ∨ cv X (.ref a) = .null := by
  unfold cv
  cases hb : Nat.beq a 5 with
  | true =>
    simp only [hb, cond_true]
    rcases hV with h | ⟨q, h⟩
    · exact Or.inr h
    · exact Or.inl ⟨q, h⟩
  | false => simp only [hb, cond_false]; exact Or.inl ⟨_, rfl⟩
theorem retok_ty {t : Option FieldType} {v : Int32} (h : retok t v = true) : ∃ ty, t = some ty ∧ narrow ty (.int v) = .int v := by
  unfold retok at h
  split at h
  · exact ⟨_, rfl, rfl⟩
  · refine ⟨_, rfl, ?_⟩
    rw [Bool.or_eq_true, beq_iff_eq, beq_iff_eq] at h
    rcases h with rfl | rfl <;> rfl
  · exact ⟨_, rfl, of_decide_eq_true h⟩
  · exact ⟨_, rfl, of_decide_eq_true h⟩
  · cases h
section SND3
variable {X : Cx} {F : Fx} {p : Program} {l : Launch} {e : Env} {R : Room} {s : State} {m : MethodId} {args : Array Value} {below : List Frame} {meth : Method} {c : Code} {M : MI} {d n0 m0 : Nat} {res : Out × St}
variable {go : Go} {cl : Cl} {pc len : Nat} {cut : Option (List Nat)} {t : List Ent} {ls : Lcs} {st : List Value} {σ : St} {i : Instr}
set_option maxHeartbeats 4000000 in
theorem snd_stepI (hS : Sc X F p e R s m args meth c M d n0 m0 res) (hg : GoOK X F p l e R s m args below meth c M n0 m0 res go) (hd : decode (mB M) pc = .ok (i, len)) (hlen : lenok (pc, i, len, cut) = true) (ht : ∀ z ∈ t, z ∈ mC M)
    (hLd : ∀ k, stepI F M go cl (pc, i, len, cut) t ls st σ = some res → (i = .ldc k ∨ i = .ldc_w k ∨ i = .ldc2_w k) → Le σ res.2 ∧ WA X F p l e R s m args below meth c M n0 m0 res pc ls st σ)
    (hTh : stepI F M go cl (pc, i, len, cut) t ls st σ = some res → i = .athrow → Le σ res.2 ∧ WA X F p l e R s m args below meth c M n0 m0 res pc ls st σ)
    (hIv : ∀ k, stepI F M go cl (pc, i, len, cut) t ls st σ = some res → (i = .invokestatic k ∨ i = .invokespecial k ∨ i = .invokevirtual k) → Le σ res.2 ∧ WA X F p l e R s m args below meth c M n0 m0 res pc ls st σ)
    (hHp : stepH F M go (pc, i, len, cut) t ls st σ = some res → Le σ res.2 ∧ WA X F p l e R s m args below meth c M n0 m0 res pc ls st σ)
    (h : stepI F M go cl (pc, i, len, cut) t ls st σ = some res) : Le σ res.2 ∧ WA X F p l e R s m args below meth c M n0 m0 res pc ls st σ := by
  obtain ⟨hx, hb, hS'⟩ := id hS
  obtain ⟨hr, hlk, -, -, -, hKF, -⟩ := id hS'
  have hVV := hKF.2.1
  cases i with
  | iadd =>
    cases len_ok hlen rfl
    obtain ⟨x, y, r, e0, h0⟩ := pII_inv h
    clear h hLd hTh hIv hHp
    have h := h0
    subst e0
    clear h0
    obtain ⟨q1, q2⟩ := hg _ _ _ _ _ ht h
    exact ⟨q1, wa_st (fun H locs lsA cs ss hL kk => lv_iadd hx hb hd kk) q2⟩
  | isub =>
    cases len_ok hlen rfl
    obtain ⟨x, y, r, e0, h0⟩ := pII_inv h
    clear h hLd hTh hIv hHp
    have h := h0
    subst e0
    clear h0
    obtain ⟨q1, q2⟩ := hg _ _ _ _ _ ht h
    exact ⟨q1, wa_st (fun H locs lsA cs ss hL kk => lv_isub hx hb hd kk) q2⟩
  | imul =>
    cases len_ok hlen rfl
    obtain ⟨x, y, r, e0, h0⟩ := pII_inv h
    clear h hLd hTh hIv hHp
    have h := h0
    subst e0
    clear h0
    obtain ⟨q1, q2⟩ := hg _ _ _ _ _ ht h
    exact ⟨q1, wa_st (fun H locs lsA cs ss hL kk => lv_imul hx hb hd kk) q2⟩
  | iand =>
    cases len_ok hlen rfl
    obtain ⟨x, y, r, e0, h0⟩ := pII_inv h
    clear h hLd hTh hIv hHp
    have h := h0
    subst e0
    clear h0
    obtain ⟨q1, q2⟩ := hg _ _ _ _ _ ht h
    exact ⟨q1, wa_st (fun H locs lsA cs ss hL kk => lv_iand hx hb hd kk) q2⟩
  | ior =>
    cases len_ok hlen rfl
    obtain ⟨x, y, r, e0, h0⟩ := pII_inv h
    clear h hLd hTh hIv hHp
    have h := h0
    subst e0
    clear h0
    obtain ⟨q1, q2⟩ := hg _ _ _ _ _ ht h
    exact ⟨q1, wa_st (fun H locs lsA cs ss hL kk => lv_ior hx hb hd kk) q2⟩
  | ixor =>
    cases len_ok hlen rfl
    obtain ⟨x, y, r, e0, h0⟩ := pII_inv h
    clear h hLd hTh hIv hHp
    have h := h0
    subst e0
    clear h0
    obtain ⟨q1, q2⟩ := hg _ _ _ _ _ ht h
    exact ⟨q1, wa_st (fun H locs lsA cs ss hL kk => lv_ixor hx hb hd kk) q2⟩
  | ishl =>
    cases len_ok hlen rfl
    obtain ⟨x, y, r, e0, h0⟩ := pII_inv h
    clear h hLd hTh hIv hHp
    have h := h0
    subst e0
    clear h0
    obtain ⟨q1, q2⟩ := hg _ _ _ _ _ ht h
    exact ⟨q1, wa_st (fun H locs lsA cs ss hL kk => lv_ishl hx hb hd kk) q2⟩
  | ishr =>
    cases len_ok hlen rfl
    obtain ⟨x, y, r, e0, h0⟩ := pII_inv h
    clear h hLd hTh hIv hHp
    have h := h0
    subst e0
    clear h0
    obtain ⟨q1, q2⟩ := hg _ _ _ _ _ ht h
    exact ⟨q1, wa_st (fun H locs lsA cs ss hL kk => lv_ishr hx hb hd kk) q2⟩
  | ladd =>
    cases len_ok hlen rfl
    obtain ⟨x, y, r, e0, h0⟩ := pJJ_inv h
    clear h hLd hTh hIv hHp
    have h := h0
    subst e0
    clear h0
    obtain ⟨q1, q2⟩ := hg _ _ _ _ _ ht h
    exact ⟨q1, wa_st (fun H locs lsA cs ss hL kk => lv_ladd hx hb hd kk) q2⟩
  | lsub =>
    cases len_ok hlen rfl
    obtain ⟨x, y, r, e0, h0⟩ := pJJ_inv h
    clear h hLd hTh hIv hHp
    have h := h0
    subst e0
    clear h0
    obtain ⟨q1, q2⟩ := hg _ _ _ _ _ ht h
    exact ⟨q1, wa_st (fun H locs lsA cs ss hL kk => lv_lsub hx hb hd kk) q2⟩
  | lmul =>
    cases len_ok hlen rfl
    obtain ⟨x, y, r, e0, h0⟩ := pJJ_inv h
    clear h hLd hTh hIv hHp
    have h := h0
    subst e0
    clear h0
    obtain ⟨q1, q2⟩ := hg _ _ _ _ _ ht h
    exact ⟨q1, wa_st (fun H locs lsA cs ss hL kk => lv_lmul hx hb hd kk) q2⟩
  | land =>
    cases len_ok hlen rfl
    obtain ⟨x, y, r, e0, h0⟩ := pJJ_inv h
    clear h hLd hTh hIv hHp
    have h := h0
    subst e0
    clear h0
    obtain ⟨q1, q2⟩ := hg _ _ _ _ _ ht h
    exact ⟨q1, wa_st (fun H locs lsA cs ss hL kk => lv_land hx hb hd kk) q2⟩
  | lor =>
    cases len_ok hlen rfl
    obtain ⟨x, y, r, e0, h0⟩ := pJJ_inv h
    clear h hLd hTh hIv hHp
    have h := h0
    subst e0
    clear h0
    obtain ⟨q1, q2⟩ := hg _ _ _ _ _ ht h
    exact ⟨q1, wa_st (fun H locs lsA cs ss hL kk => lv_lor hx hb hd kk) q2⟩
  | lxor =>
    cases len_ok hlen rfl
    obtain ⟨x, y, r, e0, h0⟩ := pJJ_inv h
    clear h hLd hTh hIv hHp
    have h := h0
    subst e0
    clear h0
    obtain ⟨q1, q2⟩ := hg _ _ _ _ _ ht h
    exact ⟨q1, wa_st (fun H locs lsA cs ss hL kk => lv_lxor hx hb hd kk) q2⟩
  | idiv =>
    cases len_ok hlen rfl
    obtain ⟨x, y, r, e0, h0⟩ := pII_inv h
    clear h hLd hTh hIv hHp
    have h := h0
    subst e0
    clear h0
    by_cases hy : y = 0
    · rw [if_pos hy] at h; cases h
    · rw [if_neg hy] at h
      obtain ⟨q1, q2⟩ := hg _ _ _ _ _ ht h
      exact ⟨q1, wa_st (fun H locs lsA cs ss hL kk => lv_idiv hx hb hd hy kk) q2⟩
  | irem =>
    cases len_ok hlen rfl
    obtain ⟨x, y, r, e0, h0⟩ := pII_inv h
    clear h hLd hTh hIv hHp
    have h := h0
    subst e0
    clear h0
    by_cases hy : y = 0
    · rw [if_pos hy] at h; cases h
    · rw [if_neg hy] at h
      obtain ⟨q1, q2⟩ := hg _ _ _ _ _ ht h
      exact ⟨q1, wa_st (fun H locs lsA cs ss hL kk => lv_irem hx hb hd hy kk) q2⟩
  | ldiv =>
    cases len_ok hlen rfl
    obtain ⟨x, y, r, e0, h0⟩ := pJJ_inv h
    clear h hLd hTh hIv hHp
    have h := h0
    subst e0
    clear h0
    by_cases hy : y = 0
    · rw [if_pos hy] at h; cases h
    · rw [if_neg hy] at h
      obtain ⟨q1, q2⟩ := hg _ _ _ _ _ ht h
      exact ⟨q1, wa_st (fun H locs lsA cs ss hL kk => lv_ldiv hx hb hd hy kk) q2⟩
  | lrem =>
    cases len_ok hlen rfl
    obtain ⟨x, y, r, e0, h0⟩ := pJJ_inv h
    clear h hLd hTh hIv hHp
    have h := h0
    subst e0
    clear h0
    by_cases hy : y = 0
    · rw [if_pos hy] at h; cases h
    · rw [if_neg hy] at h
      obtain ⟨q1, q2⟩ := hg _ _ _ _ _ ht h
      exact ⟨q1, wa_st (fun H locs lsA cs ss hL kk => lv_lrem hx hb hd hy kk) q2⟩
  | ineg =>
    cases len_ok hlen rfl
    obtain ⟨x, r, e0, h0⟩ := pI_inv h
    clear h hLd hTh hIv hHp
    have h := h0
    subst e0
    clear h0
    obtain ⟨q1, q2⟩ := hg _ _ _ _ _ ht h
    exact ⟨q1, wa_st (fun H locs lsA cs ss hL kk => lv_ineg hx hb hd kk) q2⟩
  | lneg =>
    cases len_ok hlen rfl
    obtain ⟨x, r, e0, h0⟩ := pJ_inv h
    clear h hLd hTh hIv hHp
    have h := h0
    subst e0
    clear h0
    obtain ⟨q1, q2⟩ := hg _ _ _ _ _ ht h
    exact ⟨q1, wa_st (fun H locs lsA cs ss hL kk => lv_lneg hx hb hd kk) q2⟩
  | i2l =>
    cases len_ok hlen rfl
    obtain ⟨x, r, e0, h0⟩ := pI_inv h
    clear h hLd hTh hIv hHp
    have h := h0
    subst e0
    clear h0
    obtain ⟨q1, q2⟩ := hg _ _ _ _ _ ht h
    exact ⟨q1, wa_st (fun H locs lsA cs ss hL kk => lv_i2l hx hb hd rfl kk) q2⟩
  | l2i =>
    cases len_ok hlen rfl
    obtain ⟨x, r, e0, h0⟩ := pJ_inv h
    clear h hLd hTh hIv hHp
    have h := h0
    subst e0
    clear h0
    obtain ⟨q1, q2⟩ := hg _ _ _ _ _ ht h
    exact ⟨q1, wa_st (fun H locs lsA cs ss hL kk => lv_l2i hx hb hd rfl kk) q2⟩
  | i2b =>
    cases len_ok hlen rfl
    obtain ⟨x, r, e0, h0⟩ := pI_inv h
    clear h hLd hTh hIv hHp
    have h := h0
    subst e0
    clear h0
    obtain ⟨q1, q2⟩ := hg _ _ _ _ _ ht h
    exact ⟨q1, wa_st (fun H locs lsA cs ss hL kk => lv_i2b hx hb hd rfl kk) q2⟩
  | i2c =>
    cases len_ok hlen rfl
    obtain ⟨x, r, e0, h0⟩ := pI_inv h
    clear h hLd hTh hIv hHp
    have h := h0
    subst e0
    clear h0
    obtain ⟨q1, q2⟩ := hg _ _ _ _ _ ht h
    exact ⟨q1, wa_st (fun H locs lsA cs ss hL kk => lv_i2c hx hb hd rfl kk) q2⟩
  | lshl =>
    cases len_ok hlen rfl
    obtain ⟨x, y, r, e0, h0⟩ := pJI_inv h
    clear h hLd hTh hIv hHp
    have h := h0
    subst e0
    clear h0
    obtain ⟨q1, q2⟩ := hg _ _ _ _ _ ht h
    exact ⟨q1, wa_st (fun H locs lsA cs ss hL kk => lv_lshl hx hb hd rfl kk) q2⟩
  | lshr =>
    cases len_ok hlen rfl
    obtain ⟨x, y, r, e0, h0⟩ := pJI_inv h
    clear h hLd hTh hIv hHp
    have h := h0
    subst e0
    clear h0
    obtain ⟨q1, q2⟩ := hg _ _ _ _ _ ht h
    exact ⟨q1, wa_st (fun H locs lsA cs ss hL kk => lv_lshr hx hb hd rfl kk) q2⟩
  | lcmp =>
    cases len_ok hlen rfl
    obtain ⟨x, y, r, e0, h0⟩ := pJJ_inv h
    clear h hLd hTh hIv hHp
    have h := h0
    subst e0
    clear h0
    obtain ⟨q1, q2⟩ := hg _ _ _ _ _ ht h
    exact ⟨q1, wa_st (fun H locs lsA cs ss hL kk => W.lcmp hx hb hd kk) q2⟩
  | iconst i =>
    cases len_ok hlen rfl
    obtain ⟨q1, q2⟩ := hg _ _ _ _ _ ht h
    exact ⟨q1, wa_st (fun H locs lsA cs ss hL kk => lv_iconst hx hb hd rfl kk) q2⟩
  | bipush i =>
    cases len_ok hlen rfl
    obtain ⟨q1, q2⟩ := hg _ _ _ _ _ ht h
    exact ⟨q1, wa_st (fun H locs lsA cs ss hL kk => lv_bipush hx hb hd rfl kk) q2⟩
  | sipush i =>
    cases len_ok hlen rfl
    obtain ⟨q1, q2⟩ := hg _ _ _ _ _ ht h
    exact ⟨q1, wa_st (fun H locs lsA cs ss hL kk => lv_sipush hx hb hd rfl kk) q2⟩
  | lconst i =>
    cases len_ok hlen rfl
    obtain ⟨q1, q2⟩ := hg _ _ _ _ _ ht h
    exact ⟨q1, wa_st (fun H locs lsA cs ss hL kk => lv_lconst hx hb hd rfl kk) q2⟩
  | aconst_null =>
    cases len_ok hlen rfl
    obtain ⟨q1, q2⟩ := hg _ _ _ _ _ ht h
    exact ⟨q1, wa_st (fun H locs lsA cs ss hL kk => lv_null hx hb hd kk) q2⟩
  | iload_n n =>
    cases len_ok hlen rfl
    have h : ldl 0 n.val ls (fun v => go (pc + 1) t ls (v :: st) σ) = some res := h
    obtain ⟨v, hv, h0, hk⟩ := ldl_inv h
    clear h
    have h := h0
    clear h0
    obtain ⟨q1, q2⟩ := hg _ _ _ _ _ ht h
    rcases hk with ⟨-, x, rfl⟩ | ⟨q, -⟩ | ⟨q, -⟩
    · exact ⟨q1, wa_st (fun H locs lsA cs ss hL kk => lv_iload_n hx hb hd rfl (lv_get hL hv) kk) q2⟩
    · cases q
    · cases q
  | iload n =>
    cases len_ok hlen rfl
    have h : ldl 0 n ls (fun v => go (pc + 2) t ls (v :: st) σ) = some res := h
    obtain ⟨v, hv, h0, hk⟩ := ldl_inv h
    clear h
    have h := h0
    clear h0
    obtain ⟨q1, q2⟩ := hg _ _ _ _ _ ht h
    rcases hk with ⟨-, x, rfl⟩ | ⟨q, -⟩ | ⟨q, -⟩
    · exact ⟨q1, wa_st (fun H locs lsA cs ss hL kk => lv_iload hx hb hd (lv_get hL hv) kk) q2⟩
    · cases q
    · cases q
  | lload_n n =>
    cases len_ok hlen rfl
    have h : ldl 1 n.val ls (fun v => go (pc + 1) t ls (v :: st) σ) = some res := h
    obtain ⟨v, hv, h0, hk⟩ := ldl_inv h
    clear h
    have h := h0
    clear h0
    obtain ⟨q1, q2⟩ := hg _ _ _ _ _ ht h
    rcases hk with ⟨q, -⟩ | ⟨-, x, rfl⟩ | ⟨q, -⟩
    · cases q
    · exact ⟨q1, wa_st (fun H locs lsA cs ss hL kk => lv_lload_n hx hb hd rfl (lv_get hL hv) kk) q2⟩
    · cases q
  | lload n =>
    cases len_ok hlen rfl
    have h : ldl 1 n ls (fun v => go (pc + 2) t ls (v :: st) σ) = some res := h
    obtain ⟨v, hv, h0, hk⟩ := ldl_inv h
    clear h
    have h := h0
    clear h0
    obtain ⟨q1, q2⟩ := hg _ _ _ _ _ ht h
    rcases hk with ⟨q, -⟩ | ⟨-, x, rfl⟩ | ⟨q, -⟩
    · cases q
    · exact ⟨q1, wa_st (fun H locs lsA cs ss hL kk => lv_lload hx hb hd (lv_get hL hv) kk) q2⟩
    · cases q
  | aload_n n =>
    cases len_ok hlen rfl
    have h : ldl 2 n.val ls (fun v => go (pc + 1) t ls (v :: st) σ) = some res := h
    obtain ⟨v, hv, h0, hk⟩ := ldl_inv h
    clear h
    have h := h0
    clear h0
    obtain ⟨q1, q2⟩ := hg _ _ _ _ _ ht h
    rcases hk with ⟨q, -⟩ | ⟨q, -⟩ | ⟨-, ⟨x, rfl⟩ | rfl⟩
    · cases q
    · cases q
    · refine ⟨q1, wa_st (fun H locs lsA cs ss hL kk => ?_) q2⟩
      have hget := lv_get hL hv
      rw [List.map_cons] at kk
      rcases cv_rn hVV x with ⟨b, e⟩ | e
      · rw [e] at hget kk
        exact lv_aload_n hx hb hd rfl hget kk
      · rw [e] at hget kk
        exact lv_aload_nN hx hb hd rfl hget kk
    · exact ⟨q1, wa_st (fun H locs lsA cs ss hL kk => lv_aload_nN hx hb hd rfl (lv_get hL hv) kk) q2⟩
  | aload n =>
    cases len_ok hlen rfl
    have h : ldl 2 n ls (fun v => go (pc + 2) t ls (v :: st) σ) = some res := h
    obtain ⟨v, hv, h0, hk⟩ := ldl_inv h
    clear h
    have h := h0
    clear h0
    obtain ⟨q1, q2⟩ := hg _ _ _ _ _ ht h
    rcases hk with ⟨q, -⟩ | ⟨q, -⟩ | ⟨-, ⟨x, rfl⟩ | rfl⟩
    · cases q
    · cases q
    · refine ⟨q1, wa_st (fun H locs lsA cs ss hL kk => ?_) q2⟩
      have hget := lv_get hL hv
      rw [List.map_cons] at kk
      rcases cv_rn hVV x with ⟨b, e⟩ | e
      · rw [e] at hget kk
        exact lv_aload hx hb hd hget kk
      · rw [e] at hget kk
        exact lv_aloadN hx hb hd hget kk
    · exact ⟨q1, wa_st (fun H locs lsA cs ss hL kk => lv_aloadN hx hb hd (lv_get hL hv) kk) q2⟩
  | istore_n n =>
    cases len_ok hlen rfl
    obtain ⟨x, r, e0, h0⟩ := pI_inv h
    clear h hLd hTh hIv hHp
    have h := h0
    subst e0
    clear h0
    obtain ⟨hn, h⟩ := bif_inv h
    rw [Nat.blt_eq] at hn
    obtain ⟨q1, q2⟩ := hg _ _ _ _ _ ht h
    exact ⟨q1, fun H locs lsA hW hV hL h1 h2 => lv_istore_n hx hb hd rfl hL hn (cvl_sto1 hVV _ (.int _) _) fun ls' hL' => q2 H locs ls' hW hV hL' h1 h2⟩
  | istore n =>
    cases len_ok hlen rfl
    obtain ⟨x, r, e0, h0⟩ := pI_inv h
    clear h hLd hTh hIv hHp
    have h := h0
    subst e0
    clear h0
    obtain ⟨hn, h⟩ := bif_inv h
    rw [Nat.blt_eq] at hn
    obtain ⟨q1, q2⟩ := hg _ _ _ _ _ ht h
    exact ⟨q1, fun H locs lsA hW hV hL h1 h2 => lv_istore hx hb hd hL hn (cvl_sto1 hVV _ (.int _) _) fun ls' hL' => q2 H locs ls' hW hV hL' h1 h2⟩
  | lstore_n n =>
    cases len_ok hlen rfl
    obtain ⟨x, r, e0, h0⟩ := pJ_inv h
    clear h hLd hTh hIv hHp
    have h := h0
    subst e0
    clear h0
    obtain ⟨hn, h⟩ := bif_inv h
    rw [Nat.blt_eq] at hn
    obtain ⟨q1, q2⟩ := hg _ _ _ _ _ ht h
    exact ⟨q1, fun H locs lsA hW hV hL h1 h2 => lv_lstore_n hx hb hd rfl hL hn (cvl_sto2 hVV _ (.long _) _) fun ls' hL' => q2 H locs ls' hW hV hL' h1 h2⟩
  | lstore n =>
    cases len_ok hlen rfl
    obtain ⟨x, r, e0, h0⟩ := pJ_inv h
    clear h hLd hTh hIv hHp
    have h := h0
    subst e0
    clear h0
    obtain ⟨hn, h⟩ := bif_inv h
    rw [Nat.blt_eq] at hn
    obtain ⟨q1, q2⟩ := hg _ _ _ _ _ ht h
    exact ⟨q1, fun H locs lsA hW hV hL h1 h2 => lv_lstore hx hb hd hL hn (cvl_sto2 hVV _ (.long _) _) fun ls' hL' => q2 H locs ls' hW hV hL' h1 h2⟩
  | astore_n n =>
    cases len_ok hlen rfl
    have h0 := pN_inv h
    clear h hLd hTh hIv hHp
    rcases h0 with ⟨x, r, rfl, h⟩ | ⟨r, rfl, h⟩
    · obtain ⟨hn, h⟩ := bif_inv h
      rw [Nat.blt_eq] at hn
      obtain ⟨q1, q2⟩ := hg _ _ _ _ _ ht h
      refine ⟨q1, fun H locs lsA hW hV hL h1 h2 => ?_⟩
      rw [List.map_cons]
      have hst := cvl_sto1 hVV n.val (.ref x) ls
      rcases cv_rn hVV x with ⟨b, e⟩ | e
      · rw [e] at hst ⊢
        exact lv_astore_n hx hb hd rfl hL hn hst fun ls' hL' => q2 H locs ls' hW hV hL' h1 h2
      · rw [e] at hst ⊢
        exact lv_astore_nN hx hb hd rfl hL hn hst fun ls' hL' => q2 H locs ls' hW hV hL' h1 h2
    · obtain ⟨hn, h⟩ := bif_inv h
      rw [Nat.blt_eq] at hn
      obtain ⟨q1, q2⟩ := hg _ _ _ _ _ ht h
      exact ⟨q1, fun H locs lsA hW hV hL h1 h2 => lv_astore_nN hx hb hd rfl hL hn (cvl_sto1 hVV _ .null _) fun ls' hL' => q2 H locs ls' hW hV hL' h1 h2⟩
  | astore n =>
    cases len_ok hlen rfl
    have h0 := pN_inv h
    clear h hLd hTh hIv hHp
    rcases h0 with ⟨x, r, rfl, h⟩ | ⟨r, rfl, h⟩
    · obtain ⟨hn, h⟩ := bif_inv h
      rw [Nat.blt_eq] at hn
      obtain ⟨q1, q2⟩ := hg _ _ _ _ _ ht h
      refine ⟨q1, fun H locs lsA hW hV hL h1 h2 => ?_⟩
      rw [List.map_cons]
      have hst := cvl_sto1 hVV n (.ref x) ls
      rcases cv_rn hVV x with ⟨b, e⟩ | e
      · rw [e] at hst ⊢
        exact lv_astore hx hb hd hL hn hst fun ls' hL' => q2 H locs ls' hW hV hL' h1 h2
      · rw [e] at hst ⊢
        exact lv_astoreN hx hb hd hL hn hst fun ls' hL' => q2 H locs ls' hW hV hL' h1 h2
    · obtain ⟨hn, h⟩ := bif_inv h
      rw [Nat.blt_eq] at hn
      obtain ⟨q1, q2⟩ := hg _ _ _ _ _ ht h
      exact ⟨q1, fun H locs lsA hW hV hL h1 h2 => lv_astoreN hx hb hd hL hn (cvl_sto1 hVV _ .null _) fun ls' hL' => q2 H locs ls' hW hV hL' h1 h2⟩
  | iinc n k =>
    cases len_ok hlen rfl
    obtain ⟨v, hv, h⟩ := ob_inv h
    cases v with
    | int x =>
      obtain ⟨hn, h⟩ := bif_inv h
      rw [Nat.blt_eq] at hn
      obtain ⟨q1, q2⟩ := hg _ _ _ _ _ ht h
      refine ⟨q1, fun H locs lsA hW hV hL h1 h2 => ?_⟩
      obtain ⟨j, hj⟩ := List.getElem?_of_mem (cvl_mem (X := X) hv)
      exact lv_iinc hx hb hd hL hj rfl hn (cvl_sto1 hVV _ (.int _) _) fun ls' hL' => q2 H locs ls' hW hV hL' h1 h2
    | _ => cases h
  | dup =>
    cases len_ok hlen rfl
    obtain ⟨x, r, e0, h0⟩ := pV_inv h
    clear h hLd hTh hIv hHp
    have h := h0
    subst e0
    clear h0
    obtain ⟨hc, h⟩ := bif_inv h
    have hc := Nat.eq_of_beq_eq_true hc
    obtain ⟨q1, q2⟩ := hg _ _ _ _ _ ht h
    exact ⟨q1, wa_st (fun H locs lsA cs ss hL kk => lv_dup hx hb hd ((cv_cat hVV _).trans hc) kk) q2⟩
  | pop =>
    cases len_ok hlen rfl
    obtain ⟨x, r, e0, h0⟩ := pV_inv h
    clear h hLd hTh hIv hHp
    have h := h0
    subst e0
    clear h0
    obtain ⟨hc, h⟩ := bif_inv h
    have hc := Nat.eq_of_beq_eq_true hc
    obtain ⟨q1, q2⟩ := hg _ _ _ _ _ ht h
    exact ⟨q1, wa_st (fun H locs lsA cs ss hL kk => lv_pop hx hb hd ((cv_cat hVV _).trans hc) kk) q2⟩
  | dup_x1 =>
    cases len_ok hlen rfl
    obtain ⟨x, y, r, e0, h0⟩ := pVV_inv h
    clear h hLd hTh hIv hHp
    have h := h0
    subst e0
    clear h0
    obtain ⟨hc, h⟩ := bif_inv h
    rw [Bool.and_eq_true] at hc
    have hc1 := Nat.eq_of_beq_eq_true hc.1
    have hc2 := Nat.eq_of_beq_eq_true hc.2
    obtain ⟨q1, q2⟩ := hg _ _ _ _ _ ht h
    exact ⟨q1, wa_st (fun H locs lsA cs ss hL kk => lv_dup_x1 hx hb hd ((cv_cat hVV _).trans hc1) ((cv_cat hVV _).trans hc2) kk) q2⟩
  | dup2 =>
    cases len_ok hlen rfl
    obtain ⟨x, y, r, e0, h0⟩ := pVV_inv h
    clear h hLd hTh hIv hHp
    have h := h0
    subst e0
    clear h0
    obtain ⟨hc, h⟩ := bif_inv h
    rw [Bool.and_eq_true] at hc
    have hc1 := Nat.eq_of_beq_eq_true hc.1
    have hc2 := Nat.eq_of_beq_eq_true hc.2
    obtain ⟨q1, q2⟩ := hg _ _ _ _ _ ht h
    exact ⟨q1, wa_st (fun H locs lsA cs ss hL kk => lv_dup2_11 hx hb hd ((cv_cat hVV _).trans hc1) ((cv_cat hVV _).trans hc2) kk) q2⟩
  | goto o =>
    cases len_ok hlen rfl
    obtain ⟨q1, q2⟩ := hg _ _ _ _ _ seek_sub h
    exact ⟨q1, wa_st (fun H locs lsA cs ss hL kk => lv_goto hx hb hd (tgt_ok hlen (o := o) List.mem_cons_self) kk) q2⟩
  | ifCond cnd o =>
    cases len_ok hlen rfl
    obtain ⟨x, r, e0, h0⟩ := pI_inv h
    clear h hLd hTh hIv hHp
    have h := h0
    subst e0
    clear h0
    cases cnd with
    | eq =>
      dsimp only at h
      by_cases hq : x = 0
      · rw [if_pos hq] at h
        obtain ⟨q1, q2⟩ := hg _ _ _ _ _ seek_sub h
        exact ⟨q1, wa_st (fun H locs lsA cs ss hL kk => lv_if_eq hx hb hd (tgt_ok hlen (o := o) List.mem_cons_self) (fun _ => kk) (fun z => absurd hq z)) q2⟩
      · rw [if_neg hq] at h
        obtain ⟨q1, q2⟩ := hg _ _ _ _ _ ht h
        exact ⟨q1, wa_st (fun H locs lsA cs ss hL kk => lv_if_eq hx hb hd (tgt_ok hlen (o := o) List.mem_cons_self) (fun z => absurd z hq) (fun _ => kk)) q2⟩
    | ne =>
      dsimp only at h
      by_cases hq : x = 0
      · rw [if_pos hq] at h
        obtain ⟨q1, q2⟩ := hg _ _ _ _ _ ht h
        exact ⟨q1, wa_st (fun H locs lsA cs ss hL kk => lv_if_ne hx hb hd (tgt_ok hlen (o := o) List.mem_cons_self) (fun z => absurd hq z) (fun _ => kk)) q2⟩
      · rw [if_neg hq] at h
        obtain ⟨q1, q2⟩ := hg _ _ _ _ _ seek_sub h
        exact ⟨q1, wa_st (fun H locs lsA cs ss hL kk => lv_if_ne hx hb hd (tgt_ok hlen (o := o) List.mem_cons_self) (fun _ => kk) (fun z => absurd z hq)) q2⟩
    | lt =>
      dsimp only at h
      by_cases hq : x < 0
      · rw [if_pos hq] at h
        obtain ⟨q1, q2⟩ := hg _ _ _ _ _ seek_sub h
        exact ⟨q1, wa_st (fun H locs lsA cs ss hL kk => lv_if_lt hx hb hd (tgt_ok hlen (o := o) List.mem_cons_self) (fun _ => kk) (fun z => absurd hq z)) q2⟩
      · rw [if_neg hq] at h
        obtain ⟨q1, q2⟩ := hg _ _ _ _ _ ht h
        exact ⟨q1, wa_st (fun H locs lsA cs ss hL kk => lv_if_lt hx hb hd (tgt_ok hlen (o := o) List.mem_cons_self) (fun z => absurd z hq) (fun _ => kk)) q2⟩
    | ge =>
      dsimp only at h
      by_cases hq : x < 0
      · rw [if_pos hq] at h
        obtain ⟨q1, q2⟩ := hg _ _ _ _ _ ht h
        exact ⟨q1, wa_st (fun H locs lsA cs ss hL kk => lv_if_ge hx hb hd (tgt_ok hlen (o := o) List.mem_cons_self) (fun z => absurd hq (Int32.not_lt.mpr z)) (fun _ => kk)) q2⟩
      · rw [if_neg hq] at h
        obtain ⟨q1, q2⟩ := hg _ _ _ _ _ seek_sub h
        exact ⟨q1, wa_st (fun H locs lsA cs ss hL kk => lv_if_ge hx hb hd (tgt_ok hlen (o := o) List.mem_cons_self) (fun _ => kk) (fun z => absurd (Int32.not_lt.mp hq) z)) q2⟩
    | gt =>
      dsimp only at h
      by_cases hq : 0 < x
      · rw [if_pos hq] at h
        obtain ⟨q1, q2⟩ := hg _ _ _ _ _ seek_sub h
        exact ⟨q1, wa_st (fun H locs lsA cs ss hL kk => lv_if_gt hx hb hd (tgt_ok hlen (o := o) List.mem_cons_self) (fun _ => kk) (fun z => absurd hq z)) q2⟩
      · rw [if_neg hq] at h
        obtain ⟨q1, q2⟩ := hg _ _ _ _ _ ht h
        exact ⟨q1, wa_st (fun H locs lsA cs ss hL kk => lv_if_gt hx hb hd (tgt_ok hlen (o := o) List.mem_cons_self) (fun z => absurd z hq) (fun _ => kk)) q2⟩
    | le =>
      dsimp only at h
      by_cases hq : 0 < x
      · rw [if_pos hq] at h
        obtain ⟨q1, q2⟩ := hg _ _ _ _ _ ht h
        exact ⟨q1, wa_st (fun H locs lsA cs ss hL kk => lv_if_le hx hb hd (tgt_ok hlen (o := o) List.mem_cons_self) (fun z => absurd hq (Int32.not_lt.mpr z)) (fun _ => kk)) q2⟩
      · rw [if_neg hq] at h
        obtain ⟨q1, q2⟩ := hg _ _ _ _ _ seek_sub h
        exact ⟨q1, wa_st (fun H locs lsA cs ss hL kk => lv_if_le hx hb hd (tgt_ok hlen (o := o) List.mem_cons_self) (fun _ => kk) (fun z => absurd (Int32.not_lt.mp hq) z)) q2⟩
  | if_icmp cnd o =>
    cases len_ok hlen rfl
    obtain ⟨x, y, r, e0, h0⟩ := pII_inv h
    clear h hLd hTh hIv hHp
    have h := h0
    subst e0
    clear h0
    cases cnd with
    | eq =>
      dsimp only at h
      by_cases hq : x = y
      · rw [if_pos hq] at h
        obtain ⟨q1, q2⟩ := hg _ _ _ _ _ seek_sub h
        exact ⟨q1, wa_st (fun H locs lsA cs ss hL kk => lv_icmp_eq hx hb hd (tgt_ok hlen (o := o) List.mem_cons_self) (fun _ => kk) (fun z => absurd hq z)) q2⟩
      · rw [if_neg hq] at h
        obtain ⟨q1, q2⟩ := hg _ _ _ _ _ ht h
        exact ⟨q1, wa_st (fun H locs lsA cs ss hL kk => lv_icmp_eq hx hb hd (tgt_ok hlen (o := o) List.mem_cons_self) (fun z => absurd z hq) (fun _ => kk)) q2⟩
    | ne =>
      dsimp only at h
      by_cases hq : x = y
      · rw [if_pos hq] at h
        obtain ⟨q1, q2⟩ := hg _ _ _ _ _ ht h
        exact ⟨q1, wa_st (fun H locs lsA cs ss hL kk => lv_icmp_ne hx hb hd (tgt_ok hlen (o := o) List.mem_cons_self) (fun z => absurd hq z) (fun _ => kk)) q2⟩
      · rw [if_neg hq] at h
        obtain ⟨q1, q2⟩ := hg _ _ _ _ _ seek_sub h
        exact ⟨q1, wa_st (fun H locs lsA cs ss hL kk => lv_icmp_ne hx hb hd (tgt_ok hlen (o := o) List.mem_cons_self) (fun _ => kk) (fun z => absurd z hq)) q2⟩
    | lt =>
      dsimp only at h
      by_cases hq : x < y
      · rw [if_pos hq] at h
        obtain ⟨q1, q2⟩ := hg _ _ _ _ _ seek_sub h
        exact ⟨q1, wa_st (fun H locs lsA cs ss hL kk => lv_icmp_lt hx hb hd (tgt_ok hlen (o := o) List.mem_cons_self) (fun _ => kk) (fun z => absurd hq z)) q2⟩
      · rw [if_neg hq] at h
        obtain ⟨q1, q2⟩ := hg _ _ _ _ _ ht h
        exact ⟨q1, wa_st (fun H locs lsA cs ss hL kk => lv_icmp_lt hx hb hd (tgt_ok hlen (o := o) List.mem_cons_self) (fun z => absurd z hq) (fun _ => kk)) q2⟩
    | ge =>
      dsimp only at h
      by_cases hq : x < y
      · rw [if_pos hq] at h
        obtain ⟨q1, q2⟩ := hg _ _ _ _ _ ht h
        exact ⟨q1, wa_st (fun H locs lsA cs ss hL kk => lv_icmp_ge hx hb hd (tgt_ok hlen (o := o) List.mem_cons_self) (fun z => absurd hq (Int32.not_lt.mpr z)) (fun _ => kk)) q2⟩
      · rw [if_neg hq] at h
        obtain ⟨q1, q2⟩ := hg _ _ _ _ _ seek_sub h
        exact ⟨q1, wa_st (fun H locs lsA cs ss hL kk => lv_icmp_ge hx hb hd (tgt_ok hlen (o := o) List.mem_cons_self) (fun _ => kk) (fun z => absurd (Int32.not_lt.mp hq) z)) q2⟩
    | gt =>
      dsimp only at h
      by_cases hq : y < x
      · rw [if_pos hq] at h
        obtain ⟨q1, q2⟩ := hg _ _ _ _ _ seek_sub h
        exact ⟨q1, wa_st (fun H locs lsA cs ss hL kk => lv_icmp_gt hx hb hd (tgt_ok hlen (o := o) List.mem_cons_self) (fun _ => kk) (fun z => absurd hq z)) q2⟩
      · rw [if_neg hq] at h
        obtain ⟨q1, q2⟩ := hg _ _ _ _ _ ht h
        exact ⟨q1, wa_st (fun H locs lsA cs ss hL kk => lv_icmp_gt hx hb hd (tgt_ok hlen (o := o) List.mem_cons_self) (fun z => absurd z hq) (fun _ => kk)) q2⟩
    | le =>
      dsimp only at h
      by_cases hq : y < x
      · rw [if_pos hq] at h
        obtain ⟨q1, q2⟩ := hg _ _ _ _ _ ht h
        exact ⟨q1, wa_st (fun H locs lsA cs ss hL kk => lv_icmp_le hx hb hd (tgt_ok hlen (o := o) List.mem_cons_self) (fun z => absurd hq (Int32.not_lt.mpr z)) (fun _ => kk)) q2⟩
      · rw [if_neg hq] at h
        obtain ⟨q1, q2⟩ := hg _ _ _ _ _ seek_sub h
        exact ⟨q1, wa_st (fun H locs lsA cs ss hL kk => lv_icmp_le hx hb hd (tgt_ok hlen (o := o) List.mem_cons_self) (fun _ => kk) (fun z => absurd (Int32.not_lt.mp hq) z)) q2⟩
  | tableswitch dflt lo hi os =>
    refine snd_tab ⟨hx, hb, hS'⟩ hg hd (fun o ho => tgt_ok hlen (o := o) ?_) h
    rcases ho with e | e
    · rw [e]; exact List.mem_cons_self
    · exact List.mem_cons_of_mem _ e
  | ireturn =>
    cases len_ok hlen rfl
    obtain ⟨x, r, e0, h0⟩ := pI_inv h
    clear h hLd hTh hIv hHp
    have h := h0
    subst e0
    clear h0
    obtain ⟨rfl, h⟩ := emp_inv h
    obtain ⟨hok, h⟩ := bif_inv h
    have hres := (Option.some.inj h).symm
    refine ⟨by rw [hres]; exact Le.rfl' _, wa_ret hres fun H locs lsA Qc hq hf => ?_⟩
    obtain ⟨ty, e1, e2⟩ := retok_ty hok
    exact W.zret hx hb (hr.trans e1) e2 hq hf hd hlk
  | lreturn =>
    cases len_ok hlen rfl
    obtain ⟨x, r, e0, h0⟩ := pJ_inv h
    clear h hLd hTh hIv hHp
    have h := h0
    subst e0
    clear h0
    obtain ⟨rfl, h⟩ := emp_inv h
    have hres : mR M = some .long ∧ res = (.inl (some (.long x)), σ) := by
      split at h
      · rename_i e; exact ⟨e, (Option.some.inj h).symm⟩
      · cases h
    refine ⟨by rw [hres.2]; exact Le.rfl' _, wa_ret hres.2 fun H locs lsA Qc hq hf => ?_⟩
    exact W.lret hx hb (hr.trans hres.1) hq hf hd hlk
  | areturn =>
    cases len_ok hlen rfl
    obtain ⟨x, r, e0, h0⟩ := pA_inv h
    clear h hLd hTh hIv hHp
    have h := h0
    subst e0
    clear h0
    obtain ⟨rfl, h⟩ := emp_inv h
    have hres : (∃ rt, mR M = some rt ∧ ((∃ n, rt = .object n) ∨ ∃ t, rt = .array t)) ∧ res = (.inl (some (.ref x)), σ) := by
      split at h
      · rename_i e; exact ⟨⟨_, e, Or.inl ⟨_, rfl⟩⟩, (Option.some.inj h).symm⟩
      · rename_i e; exact ⟨⟨_, e, Or.inr ⟨_, rfl⟩⟩, (Option.some.inj h).symm⟩
      · cases h
    obtain ⟨⟨rt, e1, e2⟩, hres⟩ := hres
    refine ⟨by rw [hres]; exact Le.rfl' _, wa_ret hres fun H locs lsA Qc hq hf => ?_⟩
    refine W.aret hx hb (hr.trans e1) e2 ?_ hq hf hd hlk
    rcases cv_rn hVV x with ⟨b, e⟩ | e
    · exact Or.inr ⟨b, e⟩
    · exact Or.inl e
  | return_ =>
    cases len_ok hlen rfl
    obtain ⟨e0, h0⟩ := emp_inv h
    clear h hLd hTh hIv hHp
    have h := h0
    subst e0
    clear h0
    have hres : mR M = none ∧ res = (.inl none, σ) := by
      split at h
      · rename_i e; exact ⟨e, (Option.some.inj h).symm⟩
      · cases h
    refine ⟨by rw [hres.2]; exact Le.rfl' _, wa_ret hres.2 fun H locs lsA Qc hq hf => ?_⟩
    exact W.vret hx hb (hr.trans hres.1) hq hf hd hlk
  | ldc i => exact hLd i h (Or.inl rfl)
  | ldc_w i => exact hLd i h (Or.inr (Or.inl rfl))
  | ldc2_w i => exact hLd i h (Or.inr (Or.inr rfl))
  | athrow => exact hTh h rfl
  | invokestatic i => exact hIv i h (Or.inl rfl)
  | invokespecial i => exact hIv i h (Or.inr (Or.inl rfl))
  | invokevirtual i => exact hIv i h (Or.inr (Or.inr rfl))
  | _ => exact hHp h
end SND3
