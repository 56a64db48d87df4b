/-! ===== soundness: constructors, constants, throws; all instructions ===== -/
/-- the pool and the handlers of a method are right -/
def CPok (mt : Nat → Option MI) (M : MI) : Prop :=
  (∀ q ∈ (mK M).2.1, FOK (mK M).1 q.1 q.2) ∧ (∀ q ∈ (mK M).2.2.1, MOK mt (mK M).1 q.1 q.2) ∧ (∀ q ∈ (mK M).2.2.2.1, NOK (mK M).1 q.1 q.2) ∧ (∀ q ∈ (mK M).2.2.2.2.1, AOK (mK M).1 q.1 q.2) ∧
  (∀ q ∈ (mK M).2.2.2.2.2.1, KOK (mK M).1 q.1 q.2) ∧ (∀ q ∈ (mK M).2.2.2.2.2.2, COK (mK M).1 q.1 q.2) ∧ HOK M
section SND9
variable {X : Cx} {F : Fx} {p : Program} {l : Launch} {e : Env} {R : Room} {s : State} {m : MethodId} {args : Array Value} {below : List Frame} {meth : Method} {c : Code} {M : MI} {d n0 m0 : Nat} {res : Out × St}
variable {go : Go} {cl : Cl} {pc len : Nat} {cut : Option (List Nat)} {t : List Ent} {ls : Lcs} {st : List Value} {σ : St} {mt : Nat → Option MI}
theorem snd_N (hS : Sc X F p e R s m args meth c M d n0 m0 res) (hg : GoOK X F p l e R s m args below meth c M n0 m0 res go) (hcl : ClSnd X F l mt d cl) (hH : HOK M) (hcp : ∀ q ∈ (mK M).2.2.1, MOK mt (mK M).1 q.1 q.2) {i : Nat} (hd : decode (mB M) pc = .ok (.invokespecial i, 3)) (ht : ∀ z ∈ t, z ∈ mC M)
    (h : stepN F M go cl (pc, .invokespecial i, 3, cut) t ls st σ i = some res) : Le σ res.2 ∧ WA X F p l e R s m args below meth c M n0 m0 res pc ls st σ := by
  have hS0 := hS
  obtain ⟨hx, hb, hr, hlk, hml, hown, hts, hKF, hex, hnm, hstt, ⟨hrf, hrl, hrc, hrs⟩, hdec, hF5⟩ := hS
  obtain ⟨q, hq, h1⟩ := ob_inv h
  clear h
  obtain ⟨-, k1, -, k3, -, k5, -, -⟩ := hcp _ (lkN_mem hq)
  obtain ⟨qk, qn, qr, qt⟩ := q
  rcases qk with _ | _ | _ | _ | _ | _ | qk
  · cases h1
  · -- a constructor
    obtain ⟨z, hz, h2⟩ := ob_inv h1
    obtain ⟨a, r, ez, h2⟩ := pA_inv h2
    obtain ⟨h255, h2⟩ := bif_inv h2
    have h255 : tg F σ a ≠ 255 := fun e0 => by rw [e0] at h255; cases h255
    obtain ⟨w, hw, h3⟩ := ob_inv h2
    obtain ⟨M', ⟨t1, t2, t3, t4, t5⟩, hnil, hnone, hname, w1, w2⟩ := k1 rfl w hw
    obtain ⟨pp, e1, e2, e3⟩ := splA_spec _ _ _ _ hz
    rw [List.append_nil] at e2
    rw [ez] at e1
    have hcode : (Cond.code (mY M') (mB M') (mL M') none).before args s = true := by
      have := hts _ t3
      unfold wordM at this
      rw [hnil, hnone] at this
      exact this
    refine snd_doCall hS0 hg hcl hH hd ht t1 t2 t3 t4 (fun H locs lsA cs ss T hW hV hTh XX => ?_) h3
    have hlen := t5.len (k := (z.1.map (cv X)).length) (by rw [List.length_map, e2, List.length_reverse, e3])
    have hcv := cv_ref (X := X) (ne5 hF5 h255)
    have hstk : st.map (cv X) = (z.1.map (cv X)).reverse ++ .ref (adr X a) :: r.map (cv X) := by
      rw [e1, e2, List.map_append, List.map_reverse, List.reverse_reverse, List.map_cons, hcv]
    have hargs : ((Value.ref a :: z.1).map (cv X)).toArray = (Value.ref (adr X a) :: z.1.map (cv X)).toArray := by
      rw [List.map_cons, hcv]
    rw [hargs]
    rcases w2 with hl | ⟨host, hl⟩
    · exact mx_invI XX hx hown hname (hts _ hl) (hts _ w1) hcode t5.1 (g := F0 m pc lsA (st.map (cv X))) rfl (argsL := z.1.map (cv X)) (rest := r.map (cv X)) hlen hstk (by rw [hb]; exact hd)
    · exact mx_invIN XX hx hown hname (va_Nw.use (xtra_t (xtra_k _ hl)) (hKF.2.2.2.2.2.2.2.2.2.2.1 _ hl)) (hts _ w1) hcode t5.1 (g := F0 m pc lsA (st.map (cv X))) rfl (argsL := z.1.map (cv X)) (rest := r.map (cv X)) hlen hstk (by rw [hb]; exact hd)
  · cases h1
  · -- Object's
    obtain ⟨a, r, e0, h1⟩ := pA_inv h1
    subst e0
    obtain ⟨hm, h1⟩ := bif_inv h1
    rw [Bool.and_eq_true] at hm
    have hcats := Nat.le_of_ble_eq_true hm.2
    have h255 : tg F σ a ≠ 255 := fun e0 => by rw [e0] at hm; cases hm.1
    obtain ⟨q1, q2⟩ := hg _ _ _ _ _ ht h1
    refine ⟨q1, fun H locs lsA hW hV hL g1 g2 => ?_⟩
    have kk := q2 H locs lsA hW hV hL g1 g2
    rw [List.map_cons, cv_ref (ne5 hF5 h255)]
    exact W.objInit hx hb hown (hts _ (k3 rfl)) (hts _ q227) (hts _ q228) rfl (by show lsA.size = _; rw [hL.1, hml]) rfl hd (by rw [hrf]; omega) (by show 2 * 0 + _ + 12 ≤ _; rw [cats_eq hKF.2.1, hrl]; omega) kk
  · cases h1
  · -- the exception's
    obtain ⟨a, r, e0, h1⟩ := pA_inv h1
    subst e0
    obtain ⟨hm, h1⟩ := bif_inv h1
    rw [Bool.and_eq_true, Bool.and_eq_true, Bool.and_eq_true] at hm
    obtain ⟨⟨⟨t21, hFa⟩, hz⟩, hcats⟩ := hm
    have t21 := Nat.eq_of_beq_eq_true t21
    have hFa := Nat.le_of_ble_eq_true hFa
    have hz : rI σ a 0 = 0 := eq_of_beq hz
    have hcats := Nat.le_of_ble_eq_true hcats
    obtain ⟨q1, q2⟩ := hg _ _ _ _ _ ht h1
    refine ⟨q1, fun H locs lsA hW hV hL g1 g2 => ?_⟩
    obtain ⟨cell, c1, c2, c3, c4⟩ := (hW.2.2.2.2.2.2 a).2.2.1 t21
    have c4 := c4 hz
    obtain ⟨kE, hkE, hiE⟩ := hKF.2.2.2.2.2.2.2.2.2.2.2.2.1
    have hfX : s.vm.findClass tISE = some ((xG X).1 21) := (hKF.2.2.1.1 21 _ rfl).2.1
    have ha16 : 16 ≤ a := hW.hi (by omega) (by omega)
    rw [List.map_cons, cv_ref (ne5 hF5 (a := a) (σ := σ) (by omega))]
    intro T hTh XX
    obtain ⟨vm', cl', L, d1, d2, d3, X', st'⟩ := mx_ise0 XX hx hstt hts hKF hown (hts _ (k5 rfl)) (fun q h1 h2 => by rw [hTh]; exact hV.2.1 q h1 h2) hfX hkE (by rw [hTh, c1, c4, ← hiE]) (aq_adr X ha16)
      (g := F0 m pc lsA (.ref (adr X a) :: r.map (cv X))) rfl (by show lsA.size = _; rw [hL.1, hml]) (rest := r.map (cv X)) rfl (by rw [hb]; exact hd) (by rw [hrf]; omega) (by show 2 * 0 + _ + _ ≤ _; rw [cats_eq hKF.2.1, hrl]; omega)
    have hlt : adr X a < H.size := (Array.getElem?_eq_some_iff.mp c1).1
    have hheap : ((T.setVm vm').setCell (adr X a) cl').heap = H.setIfInBounds (adr X a) cl' := by rw [← hTh]; rfl
    have hW1 : Wd X F (wI σ a 0 1) (H.setIfInBounds (adr X a) cl') := by
      refine hW.upd rfl (fun _ => rfl) (fun _ => rfl) ha16 o_wI (by simp) (fun q hq => by simp [Array.getElem?_setIfInBounds, Ne.symm hq]) ?_
      unfold RepC
      have e21 : tg F (wI σ a 0 1) a = 21 := t21
      rw [e21]
      refine ⟨fun h => by omega, fun h => by omega, fun _ => ⟨cl', by simp [Array.getElem?_setIfInBounds, hlt], d1, d2, fun h0 => ?_⟩, fun h => by omega, fun h => by omega, fun h => by omega⟩
      rw [rI_wI_same] at h0
      cases h0
    have hV1 : va_S (Aq X) s.heap (H.setIfInBounds (adr X a) cl') (locs ++ L) := by
      refine ⟨by simp; exact hV.1, fun q h1 h2 => ?_, fun q hq => ?_⟩
      · have : q ≠ adr X a := fun e0 => h2 (by rw [e0]; exact aq_adr X ha16)
        rw [Array.getElem?_setIfInBounds, if_neg (Ne.symm this)]
        exact hV.2.1 q h1 h2
      · rcases List.mem_append.mp hq with h | h
        · exact hV.2.2 q h
        · rw [d3 q h]; exact aq_adr X ha16
    obtain ⟨tt, a1, b1⟩ := q2 _ (locs ++ L) lsA hW1 hV1 hL g1 g2 _ hheap X'
    exact ⟨tt, st' tt a1, b1⟩
  · cases h1
theorem mw_ldcS {H : Heap} {locs : List Loc} {cells slots : Nat} {Q : State → Prop} {lsA : Array Slot} {rest : List Value} {cc : ByteArray} (hexec : p.tables.exec = Jvm.exec) (hb : c.code = cc) {own tx : String} {index q : Nat} (hown : s.vm.findClass own = some m.cls) (hZ : vk_R own index tx q s) (hdg : decode cc pc = .ok (.ldc_w index, 3))
    (k : W p l e R s m args below meth c H locs cells slots Q (F0 m (pc + 3) lsA (.ref q :: rest))) : W p l e R s m args below meth c H locs cells slots Q (F0 m pc lsA rest) := by
  intro T hT X
  obtain ⟨t, a1, b1⟩ := k T hT X
  exact ⟨t, X.ldcStringW hexec hown (text := tx) (a := q) hZ.1 hZ.2 (g := F0 m pc lsA rest) rfl (by rw [hb]; exact hdg) t a1, b1⟩
theorem snd_ldc (hS : Sc X F p e R s m args meth c M d n0 m0 res) (hg : GoOK X F p l e R s m args below meth c M n0 m0 res go) (hcp : ∀ q ∈ (mK M).2.2.2.2.2.2, COK (mK M).1 q.1 q.2) {i : Instr} {k : Nat} (hd : decode (mB M) pc = .ok (i, len)) (hlen : lenok (pc, i, len, cut) = true) (ht : ∀ z ∈ t, z ∈ mC M)
    (h : stepI F M go cl (pc, i, len, cut) t ls st σ = some res) (hi : i = .ldc k ∨ i = .ldc_w k ∨ i = .ldc2_w k) : Le σ res.2 ∧ WA X F p l e R s m args below meth c M n0 m0 res pc ls st σ := by
  obtain ⟨hx, hb, hr, hlk, hml, hown, hts, hKF, hex, hnm, hstt, hroom, hdec, hF5⟩ := hS
  have h100 : ∀ {v : Value}, lkN k (mK M).2.2.2.2.2.2 = some v → k < 100000 → ((∃ x, v = .int x ∧ Cond.constant (mK M).1 k x ∈ lw_all) ∨ (∃ x, v = .long x ∧ Cond.constantLong (mK M).1 k x ∈ lw_all) ∨ (v = .ref 2 ∧ ∃ q ∈ strs, q.1 = (mK M).1 ∧ q.2.1 = k) ∨ (v = .ref 4 ∧ Cond.classLink (mK M).1 k "[Ljava/lang/Object;" ∈ lw_all)) := by
    intro v hv hk
    rcases hcp _ (lkN_mem hv) with ⟨-, h1⟩ | ⟨h1, -⟩
    · exact h1
    · dsimp only at h1
      omega
  rcases hi with rfl | rfl | rfl
  · cases len_ok hlen rfl
    obtain ⟨v, hv, h1⟩ := ob_inv h
    cases v with
    | int x =>
      obtain ⟨hk, h1⟩ := bif_inv h1
      have hk : k < 100000 := (Nat.blt_eq).mp hk
      obtain ⟨q1, q2⟩ := hg _ _ _ _ _ ht h1
      refine ⟨q1, wa_st (fun H locs lsA cs ss hL kk => ?_) q2⟩
      rcases h100 hv hk with ⟨y, e1, w⟩ | ⟨y, e1, w⟩ | ⟨e1, -⟩ | ⟨e1, -⟩
      · cases e1
        exact lv_ldc hx hb hown (hts _ w) hd kk
      · cases e1
      · cases e1
      · cases e1
    | ref x =>
      obtain ⟨hk, h1⟩ := bif_inv h1
      have hk : k < 100000 := (Nat.blt_eq).mp hk
      obtain ⟨q1, q2⟩ := hg _ _ _ _ _ ht h1
      refine ⟨q1, wa_st (fun H locs lsA cs ss hL kk => ?_) q2⟩
      rw [List.map_cons] at kk
      rcases h100 hv hk with ⟨y, e1, w⟩ | ⟨y, e1, w⟩ | ⟨e1, z, hz, z1, z2⟩ | ⟨e1, w⟩
      · cases e1
      · cases e1
      · cases e1
        rw [cv_ref (by decide)] at kk
        have := hKF.2.2.2.2.2.2.2.2.1 z hz
        rw [z1, z2] at this
        exact va_ldcS hx hb hown this hd kk
      · cases e1
        rw [cv_ref (by decide)] at kk
        exact va_ldcM hx hb hown (hts _ w) hKF.2.2.2.2.2.2.2.2.2.1 hd kk
    | _ => cases h1
  · cases len_ok hlen rfl
    obtain ⟨v, hv, h1⟩ := ob_inv h
    cases v with
    | int x =>
      obtain ⟨hk, h1⟩ := bif_inv h1
      have hk : k < 100000 := (Nat.blt_eq).mp hk
      obtain ⟨q1, q2⟩ := hg _ _ _ _ _ ht h1
      refine ⟨q1, wa_st (fun H locs lsA cs ss hL kk => ?_) q2⟩
      rcases h100 hv hk with ⟨y, e1, w⟩ | ⟨y, e1, w⟩ | ⟨e1, -⟩ | ⟨e1, -⟩
      · cases e1
        exact lv_ldcw hx hb hown (hts _ w) hd kk
      · cases e1
      · cases e1
      · cases e1
    | ref x =>
      obtain ⟨hk, h1⟩ := bif_inv h1
      rw [Bool.and_eq_true] at hk
      have hx2 : x = 2 := Nat.eq_of_beq_eq_true hk.2
      subst hx2
      have hk : k < 100000 := (Nat.blt_eq).mp hk.1
      obtain ⟨q1, q2⟩ := hg _ _ _ _ _ ht h1
      refine ⟨q1, wa_st (fun H locs lsA cs ss hL kk => ?_) q2⟩
      rw [List.map_cons] at kk
      rcases h100 hv hk with ⟨y, e1, w⟩ | ⟨y, e1, w⟩ | ⟨e1, z, hz, z1, z2⟩ | ⟨e1, w⟩
      · cases e1
      · cases e1
      · rw [cv_ref (by decide)] at kk
        have := hKF.2.2.2.2.2.2.2.2.1 z hz
        rw [z1, z2] at this
        exact mw_ldcS hx hb hown this hd kk
      · cases e1
    | _ => cases h1
  · cases len_ok hlen rfl
    obtain ⟨v, hv, h1⟩ := ob_inv h
    cases v with
    | long x =>
      obtain ⟨hk, h1⟩ := bif_inv h1
      have hk : k < 100000 := (Nat.blt_eq).mp hk
      obtain ⟨q1, q2⟩ := hg _ _ _ _ _ ht h1
      refine ⟨q1, wa_st (fun H locs lsA cs ss hL kk => ?_) q2⟩
      rcases h100 hv hk with ⟨y, e1, w⟩ | ⟨y, e1, w⟩ | ⟨e1, -⟩ | ⟨e1, -⟩
      · cases e1
      · cases e1
        exact lv_ldc2 hx hb hown (hts _ w) hd kk
      · cases e1
      · cases e1
    | _ => cases h1
theorem snd_thr (hS : Sc X F p e R s m args meth c M d n0 m0 res) (hg : GoOK X F p l e R s m args below meth c M n0 m0 res go) (hH : HOK M) (hd : decode (mB M) pc = .ok (.athrow, len)) (hlen : lenok (pc, .athrow, len, cut) = true)
    (h : stepI F M go cl (pc, .athrow, len, cut) t ls st σ = some res) : Le σ res.2 ∧ WA X F p l e R s m args below meth c M n0 m0 res pc ls st σ := by
  have hS0 := hS
  obtain ⟨hx, hb, hr, hlk, hml, hown, hts, hKF, hex, hnm, hstt, hroom, hdec, hF5⟩ := hS
  cases len_ok hlen rfl
  obtain ⟨a, r, e0, h1⟩ := pA_inv h
  subst e0
  obtain ⟨h21, h1⟩ := bif_inv h1
  have h21 := Nat.eq_of_beq_eq_true h21
  obtain ⟨q1, q2⟩ := snd_hnd hS0 hg hH h21 h1
  refine ⟨q1, fun H locs lsA hW hV hL g1 g2 => ?_⟩
  rw [List.map_cons, cv_ref (ne5 hF5 (a := a) (σ := σ) (by omega))]
  exact WT.athrow hx hb hd (q2 H locs lsA _ hW hV hL g1 g2)
theorem snd_H (hS : Sc X F p e R s m args meth c M d n0 m0 res) (hg : GoOK X F p l e R s m args below meth c M n0 m0 res go) (hcp : CPok mt M) {i : Instr} (hd : decode (mB M) pc = .ok (i, len)) (hlen : lenok (pc, i, len, cut) = true) (ht : ∀ z ∈ t, z ∈ mC M)
    (h : stepH F M go (pc, i, len, cut) t ls st σ = some res) : Le σ res.2 ∧ WA X F p l e R s m args below meth c M n0 m0 res pc ls st σ := by
  obtain ⟨p1, p2, p3, p4, p5, p6, p7⟩ := hcp
  cases i with
  | getfield k => cases len_ok hlen rfl; exact snd_getf hS hg p1 hd ht h
  | putfield k => cases len_ok hlen rfl; exact snd_putf hS hg p1 hd ht h
  | getstatic k => cases len_ok hlen rfl; exact snd_gets hS hg p6 hd ht h
  | iaload => cases len_ok hlen rfl; exact snd_iald hS hg hd ht h
  | laload => cases len_ok hlen rfl; exact snd_lald hS hg hd ht h
  | baload => cases len_ok hlen rfl; exact snd_bald hS hg hd ht h
  | aaload => cases len_ok hlen rfl; exact snd_aald hS hg hd ht h
  | iastore => cases len_ok hlen rfl; exact snd_iast hS hg hd ht h
  | lastore => cases len_ok hlen rfl; exact snd_last hS hg hd ht h
  | bastore => cases len_ok hlen rfl; exact snd_bast hS hg hd ht h
  | aastore => cases len_ok hlen rfl; exact snd_aast hS hg hd ht h
  | arraylength => cases len_ok hlen rfl; exact snd_alen hS hg hd ht h
  | newarray ty => cases len_ok hlen rfl; exact snd_newa hS hg hd ht h
  | anewarray k => cases len_ok hlen rfl; exact snd_anew hS hg p4 hd ht h
  | new k => cases len_ok hlen rfl; exact snd_new hS hg p3 hd ht h
  | checkcast k => cases len_ok hlen rfl; exact snd_cast hS hg p5 hd ht h
  | if_acmp cnd o => cases len_ok hlen rfl; exact snd_acmp hS hg hd hlen ht h
  | ifnull o => cases len_ok hlen rfl; exact snd_null hS hg hd hlen ht h
  | ifnonnull o => cases len_ok hlen rfl; exact snd_nonnull hS hg hd hlen ht h
  | _ => cases h
theorem snd_all (hS : Sc X F p e R s m args meth c M d n0 m0 res) (hg : GoOK X F p l e R s m args below meth c M n0 m0 res go) (hcl : ClSnd X F l mt d cl) (hcp : CPok mt M) {i : Instr} (hd : decode (mB M) pc = .ok (i, len)) (hlen : lenok (pc, i, len, cut) = true) (ht : ∀ z ∈ t, z ∈ mC M)
    (h : stepI F M go cl (pc, i, len, cut) t ls st σ = some res) : Le σ res.2 ∧ WA X F p l e R s m args below meth c M n0 m0 res pc ls st σ := by
  refine snd_stepI hS hg hd hlen ht ?_ ?_ ?_ (fun h => snd_H hS hg hcp hd hlen ht h) h
  · exact fun k h hi => snd_ldc hS hg hcp.2.2.2.2.2.1 hd hlen ht h hi
  · intro h hi
    subst hi
    exact snd_thr hS hg hcp.2.2.2.2.2.2 hd hlen h
  · intro k h hi
    rcases hi with rfl | rfl | rfl
    · cases len_ok hlen rfl
      exact snd_S hS hg hcl hcp.2.2.2.2.2.2 hcp.2.1 hd ht h
    · cases len_ok hlen rfl
      exact snd_N hS hg hcl hcp.2.2.2.2.2.2 hcp.2.1 hd ht h
    · cases len_ok hlen rfl
      exact snd_V hS hg hcl hcp.2.2.2.2.2.2 hcp.2.1 hd ht h
end SND9
