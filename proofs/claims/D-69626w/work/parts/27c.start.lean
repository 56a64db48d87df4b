/-! ===== the start: the facts of the tables, and the world before there is a cell of ours ===== -/
set_option maxRecDepth 100000
def txtB : List Int32 := [32, 73, 70, 32, 71, 79, 84, 79, 32, 87, 72, 73, 76, 69, 32, 68, 79, 32, 69, 78, 68, 32, 65, 66, 83, 32, 70, 73, 88, 32, 70, 85, 80, 32, 82, 79, 79, 84, 32, 77, 79, 68, 32, 65, 78, 68, 32, 79, 82, 32, 88, 79, 82, 32, 69, 81, 32, 78, 69, 32, 76, 84, 32, 76, 69, 32, 71, 84, 32, 71, 69, 32]
theorem clsL_inst : ∀ q ∈ clsL, ∃ n, Cond.instantiable q.1 n ∈ lw_all := List.forall_mem_cons.mpr ⟨⟨_, q222⟩, List.forall_mem_cons.mpr ⟨⟨_, q256⟩, List.forall_mem_cons.mpr ⟨⟨_, q285⟩, List.forall_mem_cons.mpr ⟨⟨_, q358⟩, List.forall_mem_cons.mpr ⟨⟨_, q407⟩, List.forall_mem_cons.mpr ⟨⟨_, q487⟩, List.forall_mem_cons.mpr ⟨⟨_, q493⟩, List.forall_mem_cons.mpr ⟨⟨_, q558⟩, List.forall_mem_cons.mpr ⟨⟨_, q1757⟩, List.forall_mem_cons.mpr ⟨⟨_, q1763⟩, List.forall_mem_cons.mpr ⟨⟨_, q854⟩, List.forall_mem_cons.mpr ⟨⟨_, q854⟩, List.forall_mem_cons.mpr ⟨⟨_, q874⟩, List.forall_mem_cons.mpr ⟨⟨_, q885⟩, List.forall_mem_cons.mpr ⟨⟨_, q896⟩, List.forall_mem_cons.mpr ⟨⟨_, q1003⟩, List.forall_mem_cons.mpr ⟨⟨_, q1024⟩, List.forall_mem_cons.mpr ⟨⟨_, q1042⟩, List.forall_mem_cons.mpr ⟨⟨_, q1252⟩, List.forall_mem_cons.mpr ⟨⟨_, q230⟩, List.forall_mem_cons.mpr ⟨⟨_, q222⟩, List.forall_mem_cons.mpr ⟨⟨_, q413⟩, fun _ h => absurd h List.not_mem_nil⟩⟩⟩⟩⟩⟩⟩⟩⟩⟩⟩⟩⟩⟩⟩⟩⟩⟩⟩⟩⟩⟩
/-- a cell that was there: an array that nobody writes -/
def OldA (X : Cx) (s : State) (a t N : Nat) (f : Nat → Int32) : Prop := xS X a < xB X ∧ ∃ cell : Cell, s.heap[xS X a]? = some cell ∧ cell.cls = xA X t ∧ cell.vm ≠ .unknown ∧ (∀ k, cell.vm ≠ .statics k) ∧ (N ≤ cell.slots.size ∧ cell.slots.size.toInt32 = Int32.ofNat N) ∧ ∀ j, j < N → cell.slots[j]? = some (.int (f j))
theorem arr_of {s : State} {cell : Cell} {ty : FieldType} (h : s.isArrayOf cell ty) : ArrOfT s cell.cls ty := by
  obtain ⟨-, k, hk, comp, hkind⟩ := h
  exact fun n z => ⟨(fun k h => by cases h), k, hk, comp, hkind⟩
theorem prim_arr {args : Array Value} {s : State} {ty : FieldType} (h : (Cond.arrayClass ty).before args s = true) : ∃ cA, ArrOfT s cA ty ∧ s.vm.findClass ("[" ++ ty.toString) = some cA := by
  obtain ⟨cA, k, comp, h1, h2, h3⟩ := Cond.arrayClass_spec h
  exact ⟨cA, fun n z => ⟨(fun k h => by cases h), k, h2, comp, h3⟩, h1⟩
theorem ref_arr {args : Array Value} {s : State} {C : String} (h : (Cond.arrayOver (.object C)).before args s = true) : ∃ cA, ArrOfT s cA (.object C) ∧ va_RA s cA (.object C) := by
  obtain ⟨comp, cA, k, h1, -, h3, h4, h5⟩ := Cond.arrayOver_spec h
  exact ⟨cA, fun n z => ⟨(fun k h => by cases h), k, h3, comp, h4⟩, k, comp, h3, h4, h1, h5⟩
theorem refv_of {C n d : String} {A : Nat → Prop} {U : State} {H : Heap} (h : va_Zq C n d A U H) : ∃ u : RefV, va_Z C n d u.v A U H := by
  rcases h with h | ⟨t, h⟩
  · exact ⟨⟨.null, rfl⟩, h⟩
  · exact ⟨⟨.ref t, rfl⟩, h⟩
theorem txt_in : ∀ j, j < 72 → Cond.eq (.elem (.field (.string "MakingHouse$Reader" 119) "java/lang/String" "value" "[B") (.int (Int32.ofNat j))) (.int (txtB.getD j 0)) ∈ flatC (Jvm.Cond.and given_1 narrow_1) := by decide +kernel
theorem start_X {s : State} {b L : Nat} {xs : Nat → Int32} (hts : ∀ w ∈ lw_tbl, w.before #[Value.ref b] s = true) (hX : va_X b L xs s s.heap) (hbl : b < s.heap.size) (hgv : (Jvm.Cond.and given_1 narrow_1).before #[Value.ref b] s = true) :
    ∃ X : Cx, xB X = s.heap.size ∧ KF X s ∧ Wd X FI sg0 s.heap ∧ xS X 0 = b ∧ OldA X s 0 71 L xs ∧ OldA X s 3 72 72 (fun j => txtB.getD j 0) := by
  have hs := flat_of_before _ hgv
  have hta : ∀ w ∈ lw_all, w.before #[Value.ref b] s = true := fun w hw => hts w (lw_all_tbl hw)
  have hA : ∀ a : Nat, a < s.heap.size → ¬ s.heap.size ≤ a := fun a h1 h2 => absurd h1 (Nat.not_lt.mpr h2)
  -- classes
  have hcl : ∀ c : Nat, ∃ z : ClassId × (Nat → Nat), ∀ q, clsL[c]? = some q → u_Kn s q.1 q.2.1 q.2.2 z.1 z.2 := by
    intro c
    cases hq : clsL[c]? with
    | none => exact ⟨(0, fun _ => 0), fun q h => by cases h⟩
    | some q =>
      have hm := List.mem_of_getElem? hq
      obtain ⟨n, hn⟩ := clsL_inst q hm
      obtain ⟨cC, iS, h⟩ := u_known (n := n) hta (clsL_ok q hm).1 (hta _ hn)
      exact ⟨(cC, iS), fun q' h' => by cases h'; exact h⟩
  obtain ⟨zc, hzc⟩ := Classical.axiomOfChoice hcl
  -- arrays
  obtain ⟨cI, hI1, hI2⟩ := prim_arr (hta _ q278)
  obtain ⟨cJ, hJ1, hJ2⟩ := prim_arr (hta _ q279)
  obtain ⟨cB, hB1, hB2⟩ := prim_arr (hta _ q473)
  obtain ⟨cZ, hZ1, hZ2⟩ := prim_arr (hta _ q356)
  obtain ⟨cO, hO1, hO2⟩ := ref_arr (hts _ q967)
  obtain ⟨cS, hS1, hS2⟩ := ref_arr (hts _ q283)
  obtain ⟨cT, hT1, hT2⟩ := ref_arr (hts _ q405)
  -- the script
  obtain ⟨scr, hx1, hx2, hx3, hx4, hx5⟩ := hX
  -- the text
  have e1 : (Cond.exactly (.string "MakingHouse$Reader" 119) "java/lang/String").before #[Value.ref b] s = true := hs _ (by decide +kernel)
  have e2 : (Cond.eq (.field (.string "MakingHouse$Reader" 119) "java/lang/String" "coder" "B") (.int 0)).before #[Value.ref b] s = true := hs _ (by decide +kernel)
  have e3 : (Cond.arrayOf (.field (.string "MakingHouse$Reader" 119) "java/lang/String" "value" "[B") .byte).before #[Value.ref b] s = true := hs _ (by decide +kernel)
  have e4 : (Cond.eq (.length (.field (.string "MakingHouse$Reader" 119) "java/lang/String" "value" "[B")) (.int 72)).before #[Value.ref b] s = true := hs _ (by decide +kernel)
  have e5 : (Cond.eq (.string "MakingHouse$Reader" 119) (.string "MakingHouseModel" 343)).before #[Value.ref b] s = true := hs _ (by decide +kernel)
  obtain ⟨aK, cK, cellK, kK, k1, k2, k3, k4, k5, k6, -⟩ := Cond.exactly_spec (args := #[Value.ref b]) (first := s) (o := none) (s := s) (idx := []) e1
  obtain ⟨aV, hv1, hv2⟩ := va_Tof (f := fun j => .int (txtB.getD j 0)) (A := fun q => s.heap.size ≤ q) (N := 72) (by decide) e3 (va_eqt e4) (fun j hj => va_eqt (hs _ (txt_in j hj))) hA
  have k7 : (Term.string "MakingHouseModel" 343).eval #[Value.ref b] s none [] s = some (.ref aK) := by
    have h := e5
    simp only [Cond.before, Cond.holds, Cond.value, k1] at h
    cases hv : (Term.string "MakingHouseModel" 343).eval #[Value.ref b] s none [] s with
    | none => simp [hv] at h
    | some v =>
      rw [hv] at h
      cases v <;> simp at h <;> first | (subst h; rfl) | rw [h] | rw [← h]
  have w1 := vk_OFof (A := fun q => s.heap.size ≤ q) k1 (va_eqt e2) hA
  have w2 := vk_OFof (A := fun q => s.heap.size ≤ q) k1 hv1 hA
  obtain ⟨cellV, v1, v2, v3, v4, v5, v6, v7⟩ := hv2
  -- the empty array
  have g1 : (Cond.arrayOf (.static "java/util/ArrayList" "DEFAULTCAPACITY_EMPTY_ELEMENTDATA" "[Ljava/lang/Object;") (.object "java/lang/Object")).before #[Value.ref b] s = true := hs _ (by decide +kernel)
  have g2 : (Cond.eq (.length (.static "java/util/ArrayList" "DEFAULTCAPACITY_EMPTY_ELEMENTDATA" "[Ljava/lang/Object;")) (.int 0)).before #[Value.ref b] s = true := hs _ (by decide +kernel)
  obtain ⟨aE, hE1, hE2⟩ := va_Tof (f := fun _ => .null) (A := fun q => s.heap.size ≤ q) (N := 0) (by decide) g1 (va_eqt g2) (fun j hj => absurd hj (Nat.not_lt_zero _)) hA
  obtain ⟨cellE, u1, u2, u3, u4, u5, -, u7⟩ := hE2
  -- statics
  have z1 := va_Zof (A := fun q => s.heap.size ≤ q) (hts _ q1340) (hta _ q218) (va_eqt (hs (Cond.eq (.static "java/lang/String" "COMPACT_STRINGS" "Z") (.int 1)) (by decide +kernel))) hA
  have z2 := va_Zref (A := fun q => s.heap.size ≤ q) (hts _ q242) (hta _ q189) hE1 hA
  have z3 := va_Zqof (A := fun q => s.heap.size ≤ q) (hts _ q1356) (hta _ q213) (hs _ (by decide +kernel)) hA
  obtain ⟨xv, z3, hxv⟩ : ∃ xv : Value, va_Z "jdk/internal/util/Preconditions" "SIOOBE_FORMATTER" "Ljava/util/function/BiFunction;" xv (fun q => s.heap.size ≤ q) s s.heap ∧ (xv = .null ∨ ∃ q, xv = .ref q) := by
    rcases z3 with h | ⟨t, h⟩
    · exact ⟨_, h, Or.inl rfl⟩
    · exact ⟨_, h, Or.inr ⟨t, rfl⟩⟩
  obtain ⟨mi, hmi⟩ := va_Mi.of (args := #[Value.ref b]) (s := s) (C := "[Ljava/lang/Object;") (hs _ (by decide +kernel))
  obtain ⟨t1, ht1⟩ := refv_of (va_Zqof (A := fun q => s.heap.size ≤ q) (hts _ q439) (hta _ q194) (hs _ (by decide +kernel)) hA)
  obtain ⟨t2, ht2⟩ := refv_of (va_Zqof (A := fun q => s.heap.size ≤ q) (hts _ q441) (hta _ q194) (hs _ (by decide +kernel)) hA)
  have lays : ∀ {C n d : String}, (Cond.laysStatic C n d).before #[Value.ref b] s = true → (Cond.laysStatic C n d).before #[] s = true := by
    intro C n d h
    obtain ⟨c, k, i, f, a, cell, hc, hi, hst, ha, hcell, hs, hcls, hlt, hty⟩ := Cond.laysStatic_spec h
    exact Cond.laysStatic_of hc hi hst ha hcell hs hcls hlt hty
  obtain ⟨kE, hkE, -⟩ := (hzc 21 _ rfl).2.2
  let X : Cx := ((fun c => (zc c).1, fun c => (zc c).2), (fun t => if t = 64 then cI else if t = 65 then cJ else if t = 66 then cB else if t = 67 then cZ else if t = 68 then cO else if t = 69 then cS else if t = 70 then cT else if t = 71 then scr.cls else if t = 72 then cellV.cls else cellE.cls), xv,
    (fun a => if a = 0 then b else if a = 2 then aK else if a = 3 then aV else if a = 4 then mi else if a = 6 then aE else 0), s.heap.size, clsL, kE.instanceTypes)
  have a2 : adr X 2 = aK := rfl
  have a3 : adr X 3 = aV := rfl
  have a4 : adr X 4 = mi := rfl
  have a6 : adr X 6 = aE := rfl
  refine ⟨X, rfl, ?_, ?_, rfl, ⟨hbl, scr, hx1, rfl, hx3, hx2.1, ⟨Nat.le_of_eq hx4.symm, by rw [hx4]⟩, hx5⟩, ⟨(Array.getElem?_eq_some_iff.mp v1).1, cellV, v1, rfl, v3, v2.1, ⟨v4, v5⟩, v6⟩⟩
  · refine ⟨rfl, hxv, ⟨fun c q hq => hzc c q hq, fun k q hk => by cases hk⟩, ?_, ?_, w2, w1, ⟨(Array.getElem?_eq_some_iff.mp k3).1, cellK, k3, ?_, by rw [k6]; exact k2⟩, ?_, hmi, fun w hw => va_tabs (xtra_t (xtra_k w hw)) rfl (hts w (xtra_ok w hw)), ⟨hts _ q967, hts _ q283, hts _ q405⟩, ⟨kE, hkE, rfl⟩, t1, t2, ht1, ht2, lays (hts _ q439), lays (hts _ q441)⟩
    · intro t h1 h2
      have : t = 64 ∨ t = 65 ∨ t = 66 ∨ t = 67 ∨ t = 68 ∨ t = 69 ∨ t = 70 ∨ t = 71 ∨ t = 72 ∨ t = 73 := by omega
      rcases this with rfl | rfl | rfl | rfl | rfl | rfl | rfl | rfl | rfl | rfl
      · exact ⟨hI1, fun _ => hI2⟩
      · exact ⟨hJ1, fun _ => hJ2⟩
      · exact ⟨hB1, fun _ => hB2⟩
      · exact ⟨hZ1, fun _ => hZ2⟩
      · exact ⟨hO1, fun _ => hO2⟩
      · exact ⟨hS1, fun _ => hS2⟩
      · exact ⟨hT1, fun _ => hT2⟩
      · exact ⟨arr_of hx2, fun h => absurd h (by decide)⟩
      · exact ⟨arr_of v2, fun h => absurd h (by decide)⟩
      · exact ⟨arr_of u2, fun h => absurd h (by decide)⟩
    · exact List.forall_mem_cons.mpr ⟨z1, List.forall_mem_cons.mpr ⟨z2, List.forall_mem_cons.mpr ⟨z3, fun _ h => absurd h List.not_mem_nil⟩⟩⟩
    · intro k h
      rw [h] at k5
      cases k5
    · exact List.forall_mem_cons.mpr ⟨vk_R.of (hts _ q1330) k1, List.forall_mem_cons.mpr ⟨vk_R.of (hts _ q2305) k7, fun _ h => absurd h List.not_mem_nil⟩⟩
  · refine ⟨rfl, Nat.le_refl _, Nat.le_refl _, ?_, ?_, ?_, ?_⟩
    · intro a ha
      have : a = 0 ∨ a = 1 ∨ a = 2 ∨ a = 3 ∨ a = 4 ∨ a = 5 ∨ a = 6 ∨ a = 7 ∨ a = 8 ∨ a = 9 ∨ a = 10 ∨ a = 11 ∨ a = 12 ∨ a = 13 ∨ a = 14 ∨ a = 15 := by omega
      rcases this with rfl | rfl | rfl | rfl | rfl | rfl | rfl | rfl | rfl | rfl | rfl | rfl | rfl | rfl | rfl | rfl <;> first | exact Or.inl rfl | exact Or.inr (by decide)
    · intro a ha h73
      have : a = 2 ∨ a = 6 := by
        have : a = 0 ∨ a = 1 ∨ a = 2 ∨ a = 3 ∨ a = 4 ∨ a = 5 ∨ a = 6 ∨ a = 7 ∨ a = 8 ∨ a = 9 ∨ a = 10 ∨ a = 11 ∨ a = 12 ∨ a = 13 ∨ a = 14 ∨ a = 15 := by omega
        rcases this with rfl | rfl | rfl | rfl | rfl | rfl | rfl | rfl | rfl | rfl | rfl | rfl | rfl | rfl | rfl | rfl <;> first | exact Or.inl rfl | exact Or.inr rfl | exact absurd h73 (by decide)
      rcases this with rfl | rfl
      · exact (Array.getElem?_eq_some_iff.mp k3).1
      · exact (Array.getElem?_eq_some_iff.mp u1).1
    · intro a ha
      have ha : 16 ≤ a := ha
      rw [tg_hi (F := FI) ha]
      rfl
    · intro a
      rcases Nat.lt_or_ge a 16 with ha | ha
      · have : a = 0 ∨ a = 1 ∨ a = 2 ∨ a = 3 ∨ a = 4 ∨ a = 5 ∨ a = 6 ∨ a = 7 ∨ a = 8 ∨ a = 9 ∨ a = 10 ∨ a = 11 ∨ a = 12 ∨ a = 13 ∨ a = 14 ∨ a = 15 := by omega
        have vac : ∀ a, 74 ≤ tg FI sg0 a → RepC X FI sg0 s.heap a := by
          intro a h
          exact ⟨fun h => by omega, fun h => by omega, fun h => by omega, fun h => by omega, fun h => by omega, fun h => by omega⟩
        rcases this with rfl | rfl | rfl | rfl | rfl | rfl | rfl | rfl | rfl | rfl | rfl | rfl | rfl | rfl | rfl | rfl <;> first | exact vac _ (by decide) | skip
        · refine ⟨fun h => absurd h (by decide), fun _ => ⟨rfl, rfl, rfl⟩, fun h => absurd h (by decide), fun h => absurd h (by decide), fun h => absurd h (by decide), fun h => absurd h (by decide)⟩
        · exact ⟨fun h => absurd h (by decide), fun h => absurd h (by decide), fun h => absurd h (by decide), fun _ h => absurd h (by decide), fun _ _ => ⟨cellE, u1, rfl, u3, u2.1, ⟨Nat.zero_le _, u5⟩, fun h => absurd rfl h⟩, fun h => absurd h (by decide)⟩
      · have h255 : tg FI sg0 a = 255 := by
          rw [tg_hi (F := FI) ha]
          rfl
        exact ⟨fun h => by omega, fun h => by omega, fun h => by omega, fun h => by omega, fun h => by omega, fun h => by omega⟩
