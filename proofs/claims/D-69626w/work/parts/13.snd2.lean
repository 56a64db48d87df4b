/-! ===== soundness: the instructions that touch no heap ===== -/
section SND2
variable {X : Cx} {F : Fx} {p : Program} {l : Launch} {e : Env} {R : Room} {s : State} {m : MethodId} {args : Array Value} {below : List Frame} {meth : Method} {c : Code} {M : MI} {d n0 m0 : Nat} {res : Out × St}
def GoOK (X : Cx) (F : Fx) (p : Program) (l : Launch) (e : Env) (R : Room) (s : State) (m : MethodId) (args : Array Value) (below : List Frame) (meth : Method) (c : Code) (M : MI) (n0 m0 : Nat) (res : Out × St) (go : Go) : Prop :=
  ∀ (q : Nat) (t : List Ent) (ls : Lcs) (st : List Value) (σ : St), (∀ z ∈ t, z ∈ mC M) → go q t ls st σ = some res → Le σ res.2 ∧ WA X F p l e R s m args below meth c M n0 m0 res q ls st σ
theorem tgt_ok {i : Instr} {pc len : Nat} {cut : Option (List Nat)} (h : lenok (pc, i, len, cut) = true) {o : Int} (ho : o ∈ offs i) : (pc : Int) + o = (tgt pc o : Int) := by
  unfold lenok at h
  rw [Bool.and_eq_true] at h
  have h2 := List.all_eq_true.mp h.2 o ho
  have h3 : 0 ≤ (pc : Int) + o := of_decide_eq_true h2
  unfold tgt
  exact (Int.toNat_of_nonneg h3).symm
theorem len_ok {i : Instr} {pc len n : Nat} {cut : Option (List Nat)} (h : lenok (pc, i, len, cut) = true) (hn : ilen i = n + 1) : len = n + 1 := by
  unfold lenok at h
  rw [Bool.and_eq_true, Bool.or_eq_true] at h
  rcases h.1 with q | q
  · have : ilen i = 0 := Nat.eq_of_beq_eq_true q
    omega
  · have : ilen i = len := Nat.eq_of_beq_eq_true q
    omega
theorem int_le {x y : Int32} : y ≤ x ↔ ¬ x < y := Int32.not_lt.symm
variable {go : Go} {cl : Cl} {pc len : Nat} {cut : Option (List Nat)} {t : List Ent} {ls : Lcs} {st : List Value} {σ : St}
theorem snd_tab (hS : Sc X F p e R s m args meth c M d n0 m0 res) (hg : GoOK X F p l e R s m args below meth c M n0 m0 res go) {dflt lo hi : Int} {offs' : Array Int} (hd : decode (mB M) pc = .ok (.tableswitch dflt lo hi offs', len))
    (ht : ∀ o, o = dflt ∨ o ∈ offs'.toList → (pc : Int) + o = (tgt pc o : Int)) (h : stepI F M go cl (pc, .tableswitch dflt lo hi offs', len, cut) t ls st σ = some res) : Le σ res.2 ∧ WA X F p l e R s m args below meth c M n0 m0 res pc ls st σ := by
  obtain ⟨hx, hb, -⟩ := hS
  obtain ⟨x, r, rfl, h⟩ := pI_inv h
  obtain ⟨hc, h⟩ := bif_inv h
  simp only [Bool.and_eq_true, decide_eq_true_eq] at hc
  obtain ⟨⟨hc1, hc2⟩, hc3⟩ := hc
  have key : ∀ (os : List Int) (k : Nat), (∀ j : Nat, os[j]? = offs'[k + j]?) → os.length + k = offs'.size → ¬ (x.toInt < lo + k) → swT x (lo + k) os (fun o => go (tgt pc o) (seek (tgt pc o) (mC M)) ls r σ) (go (tgt pc dflt) (seek (tgt pc dflt) (mC M)) ls r σ) = some res → Le σ res.2 ∧ WA X F p l e R s m args below meth c M n0 m0 res pc ls (.int x :: r) σ := by
    intro os
    induction os with
    | nil =>
      intro k hk hl hlo h
      obtain ⟨q1, q2⟩ := hg _ _ _ _ _ seek_sub h
      refine ⟨q1, wa_st (fun H locs lsA cs ss hL kk => lv_tableOut (tgt := tgt pc dflt) hx hb hd (Or.inr ?_) (ht _ (Or.inl rfl)) kk) q2⟩
      have hsz : offs'.toList.length = offs'.size := by simp
      rw [hsz] at hc1
      simp only [List.length_nil] at hl
      omega
    | cons o os ih =>
      intro k hk hl hlo h
      have ho : offs'[k]? = some o := by have := hk 0; simpa using this.symm
      unfold swT at h
      by_cases hq : x = Int32.ofInt (lo + k)
      · rw [if_pos hq] at h
        obtain ⟨q1, q2⟩ := hg _ _ _ _ _ seek_sub h
        have hxi : x.toInt = lo + k := by
          rw [hq]
          have hsz : offs'.toList.length = offs'.size := by simp
          rw [hsz] at hc1
          simp only [List.length_cons] at hl
          exact Int32.toInt_ofInt_of_le (by omega) (by omega)
        refine ⟨q1, wa_st (fun H locs lsA cs ss hL kk => lv_tableIn (tgt := tgt pc o) (off := o) hx hb hd (by omega) ?_ ?_ (ht _ (Or.inr ?_)) kk) q2⟩
        · have hsz : offs'.toList.length = offs'.size := by simp
          rw [hsz] at hc1
          simp only [List.length_cons] at hl
          omega
        · rw [hxi]
          have : (lo + (k : Int) - lo).toNat = k := by omega
          rw [this]; exact ho
        · exact Array.mem_toList_iff.mpr (Array.mem_of_getElem? ho)
      · rw [if_neg hq] at h
        have e1 : lo + (k : Int) + 1 = lo + ((k + 1 : Nat) : Int) := by omega
        rw [e1] at h
        refine ih (k + 1) (fun j => ?_) ?_ ?_ h
        · have := hk (j + 1)
          rw [List.getElem?_cons_succ] at this
          rw [this]
          congr 1
          omega
        · simp only [List.length_cons] at hl; omega
        · intro hlt
          refine hq ?_
          have hxi : x.toInt = lo + k := by omega
          rw [← hxi]
          exact (Int32.ofInt_toInt x).symm
  by_cases hlo : x.toInt < lo
  · have : ∀ (os : List Int) (v : Int), lo ≤ v → v + os.length ≤ hi + 1 → swT x v os (fun o => go (tgt pc o) (seek (tgt pc o) (mC M)) ls r σ) (go (tgt pc dflt) (seek (tgt pc dflt) (mC M)) ls r σ) = some res → go (tgt pc dflt) (seek (tgt pc dflt) (mC M)) ls r σ = some res := by
      intro os
      induction os with
      | nil => intro v _ _ h; exact h
      | cons o os ih =>
        intro v hv hv2 h
        unfold swT at h
        have hne : ¬ x = Int32.ofInt v := by
          intro hq
          have : x.toInt = v := by
            rw [hq]
            simp only [List.length_cons] at hv2
            exact Int32.toInt_ofInt_of_le (by omega) (by omega)
          omega
        rw [if_neg hne] at h
        exact ih (v + 1) (by omega) (by simp only [List.length_cons] at hv2; omega) h
    have h2 := this _ _ (Int.le_refl _) (by omega) h
    obtain ⟨q1, q2⟩ := hg _ _ _ _ _ seek_sub h2
    exact ⟨q1, wa_st (fun H locs lsA cs ss hL kk => lv_tableOut (tgt := tgt pc dflt) hx hb hd (Or.inl hlo) (ht _ (Or.inl rfl)) kk) q2⟩
  · refine key offs'.toList 0 (fun j => by simp) (by simp) (by simpa using hlo) ?_
    simpa using h
end SND2
