/-! ===== decoding, by the bytes at the place (printed by gen/dec.py) ===== -/
abbrev DcR (α : Type) : Type := Jvm.ClassFile.Decoder α
theorem run_bind {α β : Type} (r : DcR α) (f : α → DcR β) (c : ByteArray) (p : Nat) {a : α} {q : Nat} (h : r.runAt c p = .ok (a, q)) : (r >>= f).runAt c p = (f a).runAt c q := by
  have e : (r >>= f).runAt c p = (match r.runAt c p with | .ok (a, q) => (f a).runAt c q | .error e => .error e) := by
    show (do let x ← (ReaderT.run r c).run p; ((ReaderT.run (f x.1) c).run x.2)) = _
    cases hx : (ReaderT.run r c).run p with
    | error e =>
      have : r.runAt c p = .error e := hx
      rw [this]; rfl
    | ok x =>
      obtain ⟨a, q⟩ := x
      have : r.runAt c p = .ok (a, q) := hx
      rw [this]; rfl
  rw [e, h]
theorem u1_run {c : ByteArray} {p : Nat} {b : UInt8} (h : c[p]? = some b) : (Jvm.ClassFile.Reader.u1 : DcR Nat).runAt c p = .ok (b.toNat, p + 1) := by
  obtain ⟨h1, h2⟩ := getElem?_eq_some_iff.mp h
  show (dite (p < c.size) _ _ : DcR Nat) c p = _
  rw [dif_pos h1]
  subst h2
  rfl
theorem u2_run {c : ByteArray} {p : Nat} {b b' : UInt8} (h : c[p]? = some b) (h' : c[p + 1]? = some b') : (Jvm.ClassFile.Reader.u2 : DcR Nat).runAt c p = .ok (b.toNat * 256 + b'.toNat, p + 2) := by
  have e : (Jvm.ClassFile.Reader.u2 : DcR Nat) = Jvm.ClassFile.Reader.u1 >>= fun hi => Jvm.ClassFile.Reader.u1 >>= fun lo => pure (hi * 256 + lo) := rfl
  rw [e, run_bind _ _ _ _ (u1_run h), run_bind _ _ _ _ (u1_run h')]
  rfl
theorem s1_run {c : ByteArray} {p : Nat} {b : UInt8} (h : c[p]? = some b) : (Jvm.ClassFile.Reader.s1 : DcR Int).runAt c p = .ok (Jvm.ClassFile.Reader.signed 8 b.toNat, p + 1) := by
  have e : (Jvm.ClassFile.Reader.s1 : DcR Int) = Jvm.ClassFile.Reader.u1 >>= fun n => pure (Jvm.ClassFile.Reader.signed 8 n) := rfl
  rw [e, run_bind _ _ _ _ (u1_run h)]
  rfl
theorem s2_run {c : ByteArray} {p : Nat} {b b' : UInt8} (h : c[p]? = some b) (h' : c[p + 1]? = some b') : (Jvm.ClassFile.Reader.s2 : DcR Int).runAt c p = .ok (Jvm.ClassFile.Reader.signed 16 (b.toNat * 256 + b'.toNat), p + 2) := by
  have e : (Jvm.ClassFile.Reader.s2 : DcR Int) = Jvm.ClassFile.Reader.u2 >>= fun n => pure (Jvm.ClassFile.Reader.signed 16 n) := rfl
  rw [e, run_bind _ _ _ _ (u2_run h h')]
  rfl
theorem dec_of {c : ByteArray} {pc : Nat} {i : Instr} {n : Nat} (h : (Jvm.ClassFile.Decoder.instr pc).runAt c pc = .ok (i, pc + n)) : decode c pc = .ok (i, n) := by
  unfold decode
  rw [h]
  show Except.ok (i, pc + n - pc) = _
  rw [Nat.add_sub_cancel_left]
section DEC
variable {c : ByteArray} {pc : Nat} {b1 b2 : UInt8}
theorem dc1 (h0 : c[pc]? = some 1) : decode c pc = .ok (.aconst_null, 1) := by
  have e : Jvm.ClassFile.Decoder.instr pc = Jvm.ClassFile.Reader.u1 >>= _ := rfl
  refine dec_of ?_
  rw [e, run_bind _ _ _ _ (u1_run h0)]
  rfl
theorem dc2 (h0 : c[pc]? = some 2) : decode c pc = .ok (.iconst (-1), 1) := by
  have e : Jvm.ClassFile.Decoder.instr pc = Jvm.ClassFile.Reader.u1 >>= _ := rfl
  refine dec_of ?_
  rw [e, run_bind _ _ _ _ (u1_run h0)]
  rfl
theorem dc3 (h0 : c[pc]? = some 3) : decode c pc = .ok (.iconst 0, 1) := by
  have e : Jvm.ClassFile.Decoder.instr pc = Jvm.ClassFile.Reader.u1 >>= _ := rfl
  refine dec_of ?_
  rw [e, run_bind _ _ _ _ (u1_run h0)]
  rfl
theorem dc4 (h0 : c[pc]? = some 4) : decode c pc = .ok (.iconst 1, 1) := by
  have e : Jvm.ClassFile.Decoder.instr pc = Jvm.ClassFile.Reader.u1 >>= _ := rfl
  refine dec_of ?_
  rw [e, run_bind _ _ _ _ (u1_run h0)]
  rfl
theorem dc5 (h0 : c[pc]? = some 5) : decode c pc = .ok (.iconst 2, 1) := by
  have e : Jvm.ClassFile.Decoder.instr pc = Jvm.ClassFile.Reader.u1 >>= _ := rfl
  refine dec_of ?_
  rw [e, run_bind _ _ _ _ (u1_run h0)]
  rfl
theorem dc6 (h0 : c[pc]? = some 6) : decode c pc = .ok (.iconst 3, 1) := by
  have e : Jvm.ClassFile.Decoder.instr pc = Jvm.ClassFile.Reader.u1 >>= _ := rfl
  refine dec_of ?_
  rw [e, run_bind _ _ _ _ (u1_run h0)]
  rfl
theorem dc7 (h0 : c[pc]? = some 7) : decode c pc = .ok (.iconst 4, 1) := by
  have e : Jvm.ClassFile.Decoder.instr pc = Jvm.ClassFile.Reader.u1 >>= _ := rfl
  refine dec_of ?_
  rw [e, run_bind _ _ _ _ (u1_run h0)]
  rfl
theorem dc8 (h0 : c[pc]? = some 8) : decode c pc = .ok (.iconst 5, 1) := by
  have e : Jvm.ClassFile.Decoder.instr pc = Jvm.ClassFile.Reader.u1 >>= _ := rfl
  refine dec_of ?_
  rw [e, run_bind _ _ _ _ (u1_run h0)]
  rfl
theorem dc9 (h0 : c[pc]? = some 9) : decode c pc = .ok (.lconst 0, 1) := by
  have e : Jvm.ClassFile.Decoder.instr pc = Jvm.ClassFile.Reader.u1 >>= _ := rfl
  refine dec_of ?_
  rw [e, run_bind _ _ _ _ (u1_run h0)]
  rfl
theorem dc10 (h0 : c[pc]? = some 10) : decode c pc = .ok (.lconst 1, 1) := by
  have e : Jvm.ClassFile.Decoder.instr pc = Jvm.ClassFile.Reader.u1 >>= _ := rfl
  refine dec_of ?_
  rw [e, run_bind _ _ _ _ (u1_run h0)]
  rfl
theorem dc16 (h0 : c[pc]? = some 16) (h1 : c[pc + 1]? = some b1) : decode c pc = .ok (.bipush (Jvm.ClassFile.Reader.signed 8 b1.toNat), 2) := by
  have e : Jvm.ClassFile.Decoder.instr pc = Jvm.ClassFile.Reader.u1 >>= _ := rfl
  refine dec_of ?_
  rw [e, run_bind _ _ _ _ (u1_run h0)]
  exact run_bind _ _ _ _ (s1_run h1)
theorem dc17 (h0 : c[pc]? = some 17) (h1 : c[pc + 1]? = some b1) (h2 : c[pc + 2]? = some b2) : decode c pc = .ok (.sipush (Jvm.ClassFile.Reader.signed 16 (b1.toNat * 256 + b2.toNat)), 3) := by
  have e : Jvm.ClassFile.Decoder.instr pc = Jvm.ClassFile.Reader.u1 >>= _ := rfl
  refine dec_of ?_
  rw [e, run_bind _ _ _ _ (u1_run h0)]
  exact run_bind _ _ _ _ (s2_run h1 h2)
theorem dc18 (h0 : c[pc]? = some 18) (h1 : c[pc + 1]? = some b1) : decode c pc = .ok (.ldc b1.toNat, 2) := by
  have e : Jvm.ClassFile.Decoder.instr pc = Jvm.ClassFile.Reader.u1 >>= _ := rfl
  refine dec_of ?_
  rw [e, run_bind _ _ _ _ (u1_run h0)]
  exact run_bind _ _ _ _ (u1_run h1)
theorem dc19 (h0 : c[pc]? = some 19) (h1 : c[pc + 1]? = some b1) (h2 : c[pc + 2]? = some b2) : decode c pc = .ok (.ldc_w (b1.toNat * 256 + b2.toNat), 3) := by
  have e : Jvm.ClassFile.Decoder.instr pc = Jvm.ClassFile.Reader.u1 >>= _ := rfl
  refine dec_of ?_
  rw [e, run_bind _ _ _ _ (u1_run h0)]
  exact run_bind _ _ _ _ (u2_run h1 h2)
theorem dc20 (h0 : c[pc]? = some 20) (h1 : c[pc + 1]? = some b1) (h2 : c[pc + 2]? = some b2) : decode c pc = .ok (.ldc2_w (b1.toNat * 256 + b2.toNat), 3) := by
  have e : Jvm.ClassFile.Decoder.instr pc = Jvm.ClassFile.Reader.u1 >>= _ := rfl
  refine dec_of ?_
  rw [e, run_bind _ _ _ _ (u1_run h0)]
  exact run_bind _ _ _ _ (u2_run h1 h2)
theorem dc21 (h0 : c[pc]? = some 21) (h1 : c[pc + 1]? = some b1) : decode c pc = .ok (.iload b1.toNat, 2) := by
  have e : Jvm.ClassFile.Decoder.instr pc = Jvm.ClassFile.Reader.u1 >>= _ := rfl
  refine dec_of ?_
  rw [e, run_bind _ _ _ _ (u1_run h0)]
  exact run_bind _ _ _ _ (u1_run h1)
theorem dc22 (h0 : c[pc]? = some 22) (h1 : c[pc + 1]? = some b1) : decode c pc = .ok (.lload b1.toNat, 2) := by
  have e : Jvm.ClassFile.Decoder.instr pc = Jvm.ClassFile.Reader.u1 >>= _ := rfl
  refine dec_of ?_
  rw [e, run_bind _ _ _ _ (u1_run h0)]
  exact run_bind _ _ _ _ (u1_run h1)
theorem dc25 (h0 : c[pc]? = some 25) (h1 : c[pc + 1]? = some b1) : decode c pc = .ok (.aload b1.toNat, 2) := by
  have e : Jvm.ClassFile.Decoder.instr pc = Jvm.ClassFile.Reader.u1 >>= _ := rfl
  refine dec_of ?_
  rw [e, run_bind _ _ _ _ (u1_run h0)]
  exact run_bind _ _ _ _ (u1_run h1)
theorem dc26 (h0 : c[pc]? = some 26) : decode c pc = .ok (.iload_n 0, 1) := by
  have e : Jvm.ClassFile.Decoder.instr pc = Jvm.ClassFile.Reader.u1 >>= _ := rfl
  refine dec_of ?_
  rw [e, run_bind _ _ _ _ (u1_run h0)]
  rfl
theorem dc27 (h0 : c[pc]? = some 27) : decode c pc = .ok (.iload_n 1, 1) := by
  have e : Jvm.ClassFile.Decoder.instr pc = Jvm.ClassFile.Reader.u1 >>= _ := rfl
  refine dec_of ?_
  rw [e, run_bind _ _ _ _ (u1_run h0)]
  rfl
theorem dc28 (h0 : c[pc]? = some 28) : decode c pc = .ok (.iload_n 2, 1) := by
  have e : Jvm.ClassFile.Decoder.instr pc = Jvm.ClassFile.Reader.u1 >>= _ := rfl
  refine dec_of ?_
  rw [e, run_bind _ _ _ _ (u1_run h0)]
  rfl
theorem dc29 (h0 : c[pc]? = some 29) : decode c pc = .ok (.iload_n 3, 1) := by
  have e : Jvm.ClassFile.Decoder.instr pc = Jvm.ClassFile.Reader.u1 >>= _ := rfl
  refine dec_of ?_
  rw [e, run_bind _ _ _ _ (u1_run h0)]
  rfl
theorem dc30 (h0 : c[pc]? = some 30) : decode c pc = .ok (.lload_n 0, 1) := by
  have e : Jvm.ClassFile.Decoder.instr pc = Jvm.ClassFile.Reader.u1 >>= _ := rfl
  refine dec_of ?_
  rw [e, run_bind _ _ _ _ (u1_run h0)]
  rfl
theorem dc31 (h0 : c[pc]? = some 31) : decode c pc = .ok (.lload_n 1, 1) := by
  have e : Jvm.ClassFile.Decoder.instr pc = Jvm.ClassFile.Reader.u1 >>= _ := rfl
  refine dec_of ?_
  rw [e, run_bind _ _ _ _ (u1_run h0)]
  rfl
theorem dc32 (h0 : c[pc]? = some 32) : decode c pc = .ok (.lload_n 2, 1) := by
  have e : Jvm.ClassFile.Decoder.instr pc = Jvm.ClassFile.Reader.u1 >>= _ := rfl
  refine dec_of ?_
  rw [e, run_bind _ _ _ _ (u1_run h0)]
  rfl
theorem dc33 (h0 : c[pc]? = some 33) : decode c pc = .ok (.lload_n 3, 1) := by
  have e : Jvm.ClassFile.Decoder.instr pc = Jvm.ClassFile.Reader.u1 >>= _ := rfl
  refine dec_of ?_
  rw [e, run_bind _ _ _ _ (u1_run h0)]
  rfl
theorem dc42 (h0 : c[pc]? = some 42) : decode c pc = .ok (.aload_n 0, 1) := by
  have e : Jvm.ClassFile.Decoder.instr pc = Jvm.ClassFile.Reader.u1 >>= _ := rfl
  refine dec_of ?_
  rw [e, run_bind _ _ _ _ (u1_run h0)]
  rfl
theorem dc43 (h0 : c[pc]? = some 43) : decode c pc = .ok (.aload_n 1, 1) := by
  have e : Jvm.ClassFile.Decoder.instr pc = Jvm.ClassFile.Reader.u1 >>= _ := rfl
  refine dec_of ?_
  rw [e, run_bind _ _ _ _ (u1_run h0)]
  rfl
theorem dc44 (h0 : c[pc]? = some 44) : decode c pc = .ok (.aload_n 2, 1) := by
  have e : Jvm.ClassFile.Decoder.instr pc = Jvm.ClassFile.Reader.u1 >>= _ := rfl
  refine dec_of ?_
  rw [e, run_bind _ _ _ _ (u1_run h0)]
  rfl
theorem dc45 (h0 : c[pc]? = some 45) : decode c pc = .ok (.aload_n 3, 1) := by
  have e : Jvm.ClassFile.Decoder.instr pc = Jvm.ClassFile.Reader.u1 >>= _ := rfl
  refine dec_of ?_
  rw [e, run_bind _ _ _ _ (u1_run h0)]
  rfl
theorem dc46 (h0 : c[pc]? = some 46) : decode c pc = .ok (.iaload, 1) := by
  have e : Jvm.ClassFile.Decoder.instr pc = Jvm.ClassFile.Reader.u1 >>= _ := rfl
  refine dec_of ?_
  rw [e, run_bind _ _ _ _ (u1_run h0)]
  rfl
theorem dc47 (h0 : c[pc]? = some 47) : decode c pc = .ok (.laload, 1) := by
  have e : Jvm.ClassFile.Decoder.instr pc = Jvm.ClassFile.Reader.u1 >>= _ := rfl
  refine dec_of ?_
  rw [e, run_bind _ _ _ _ (u1_run h0)]
  rfl
theorem dc50 (h0 : c[pc]? = some 50) : decode c pc = .ok (.aaload, 1) := by
  have e : Jvm.ClassFile.Decoder.instr pc = Jvm.ClassFile.Reader.u1 >>= _ := rfl
  refine dec_of ?_
  rw [e, run_bind _ _ _ _ (u1_run h0)]
  rfl
theorem dc51 (h0 : c[pc]? = some 51) : decode c pc = .ok (.baload, 1) := by
  have e : Jvm.ClassFile.Decoder.instr pc = Jvm.ClassFile.Reader.u1 >>= _ := rfl
  refine dec_of ?_
  rw [e, run_bind _ _ _ _ (u1_run h0)]
  rfl
theorem dc54 (h0 : c[pc]? = some 54) (h1 : c[pc + 1]? = some b1) : decode c pc = .ok (.istore b1.toNat, 2) := by
  have e : Jvm.ClassFile.Decoder.instr pc = Jvm.ClassFile.Reader.u1 >>= _ := rfl
  refine dec_of ?_
  rw [e, run_bind _ _ _ _ (u1_run h0)]
  exact run_bind _ _ _ _ (u1_run h1)
theorem dc55 (h0 : c[pc]? = some 55) (h1 : c[pc + 1]? = some b1) : decode c pc = .ok (.lstore b1.toNat, 2) := by
  have e : Jvm.ClassFile.Decoder.instr pc = Jvm.ClassFile.Reader.u1 >>= _ := rfl
  refine dec_of ?_
  rw [e, run_bind _ _ _ _ (u1_run h0)]
  exact run_bind _ _ _ _ (u1_run h1)
theorem dc58 (h0 : c[pc]? = some 58) (h1 : c[pc + 1]? = some b1) : decode c pc = .ok (.astore b1.toNat, 2) := by
  have e : Jvm.ClassFile.Decoder.instr pc = Jvm.ClassFile.Reader.u1 >>= _ := rfl
  refine dec_of ?_
  rw [e, run_bind _ _ _ _ (u1_run h0)]
  exact run_bind _ _ _ _ (u1_run h1)
theorem dc59 (h0 : c[pc]? = some 59) : decode c pc = .ok (.istore_n 0, 1) := by
  have e : Jvm.ClassFile.Decoder.instr pc = Jvm.ClassFile.Reader.u1 >>= _ := rfl
  refine dec_of ?_
  rw [e, run_bind _ _ _ _ (u1_run h0)]
  rfl
theorem dc60 (h0 : c[pc]? = some 60) : decode c pc = .ok (.istore_n 1, 1) := by
  have e : Jvm.ClassFile.Decoder.instr pc = Jvm.ClassFile.Reader.u1 >>= _ := rfl
  refine dec_of ?_
  rw [e, run_bind _ _ _ _ (u1_run h0)]
  rfl
theorem dc61 (h0 : c[pc]? = some 61) : decode c pc = .ok (.istore_n 2, 1) := by
  have e : Jvm.ClassFile.Decoder.instr pc = Jvm.ClassFile.Reader.u1 >>= _ := rfl
  refine dec_of ?_
  rw [e, run_bind _ _ _ _ (u1_run h0)]
  rfl
theorem dc62 (h0 : c[pc]? = some 62) : decode c pc = .ok (.istore_n 3, 1) := by
  have e : Jvm.ClassFile.Decoder.instr pc = Jvm.ClassFile.Reader.u1 >>= _ := rfl
  refine dec_of ?_
  rw [e, run_bind _ _ _ _ (u1_run h0)]
  rfl
theorem dc63 (h0 : c[pc]? = some 63) : decode c pc = .ok (.lstore_n 0, 1) := by
  have e : Jvm.ClassFile.Decoder.instr pc = Jvm.ClassFile.Reader.u1 >>= _ := rfl
  refine dec_of ?_
  rw [e, run_bind _ _ _ _ (u1_run h0)]
  rfl
theorem dc64 (h0 : c[pc]? = some 64) : decode c pc = .ok (.lstore_n 1, 1) := by
  have e : Jvm.ClassFile.Decoder.instr pc = Jvm.ClassFile.Reader.u1 >>= _ := rfl
  refine dec_of ?_
  rw [e, run_bind _ _ _ _ (u1_run h0)]
  rfl
theorem dc65 (h0 : c[pc]? = some 65) : decode c pc = .ok (.lstore_n 2, 1) := by
  have e : Jvm.ClassFile.Decoder.instr pc = Jvm.ClassFile.Reader.u1 >>= _ := rfl
  refine dec_of ?_
  rw [e, run_bind _ _ _ _ (u1_run h0)]
  rfl
theorem dc66 (h0 : c[pc]? = some 66) : decode c pc = .ok (.lstore_n 3, 1) := by
  have e : Jvm.ClassFile.Decoder.instr pc = Jvm.ClassFile.Reader.u1 >>= _ := rfl
  refine dec_of ?_
  rw [e, run_bind _ _ _ _ (u1_run h0)]
  rfl
theorem dc75 (h0 : c[pc]? = some 75) : decode c pc = .ok (.astore_n 0, 1) := by
  have e : Jvm.ClassFile.Decoder.instr pc = Jvm.ClassFile.Reader.u1 >>= _ := rfl
  refine dec_of ?_
  rw [e, run_bind _ _ _ _ (u1_run h0)]
  rfl
theorem dc76 (h0 : c[pc]? = some 76) : decode c pc = .ok (.astore_n 1, 1) := by
  have e : Jvm.ClassFile.Decoder.instr pc = Jvm.ClassFile.Reader.u1 >>= _ := rfl
  refine dec_of ?_
  rw [e, run_bind _ _ _ _ (u1_run h0)]
  rfl
theorem dc77 (h0 : c[pc]? = some 77) : decode c pc = .ok (.astore_n 2, 1) := by
  have e : Jvm.ClassFile.Decoder.instr pc = Jvm.ClassFile.Reader.u1 >>= _ := rfl
  refine dec_of ?_
  rw [e, run_bind _ _ _ _ (u1_run h0)]
  rfl
theorem dc78 (h0 : c[pc]? = some 78) : decode c pc = .ok (.astore_n 3, 1) := by
  have e : Jvm.ClassFile.Decoder.instr pc = Jvm.ClassFile.Reader.u1 >>= _ := rfl
  refine dec_of ?_
  rw [e, run_bind _ _ _ _ (u1_run h0)]
  rfl
theorem dc79 (h0 : c[pc]? = some 79) : decode c pc = .ok (.iastore, 1) := by
  have e : Jvm.ClassFile.Decoder.instr pc = Jvm.ClassFile.Reader.u1 >>= _ := rfl
  refine dec_of ?_
  rw [e, run_bind _ _ _ _ (u1_run h0)]
  rfl
theorem dc80 (h0 : c[pc]? = some 80) : decode c pc = .ok (.lastore, 1) := by
  have e : Jvm.ClassFile.Decoder.instr pc = Jvm.ClassFile.Reader.u1 >>= _ := rfl
  refine dec_of ?_
  rw [e, run_bind _ _ _ _ (u1_run h0)]
  rfl
theorem dc83 (h0 : c[pc]? = some 83) : decode c pc = .ok (.aastore, 1) := by
  have e : Jvm.ClassFile.Decoder.instr pc = Jvm.ClassFile.Reader.u1 >>= _ := rfl
  refine dec_of ?_
  rw [e, run_bind _ _ _ _ (u1_run h0)]
  rfl
theorem dc84 (h0 : c[pc]? = some 84) : decode c pc = .ok (.bastore, 1) := by
  have e : Jvm.ClassFile.Decoder.instr pc = Jvm.ClassFile.Reader.u1 >>= _ := rfl
  refine dec_of ?_
  rw [e, run_bind _ _ _ _ (u1_run h0)]
  rfl
theorem dc87 (h0 : c[pc]? = some 87) : decode c pc = .ok (.pop, 1) := by
  have e : Jvm.ClassFile.Decoder.instr pc = Jvm.ClassFile.Reader.u1 >>= _ := rfl
  refine dec_of ?_
  rw [e, run_bind _ _ _ _ (u1_run h0)]
  rfl
theorem dc89 (h0 : c[pc]? = some 89) : decode c pc = .ok (.dup, 1) := by
  have e : Jvm.ClassFile.Decoder.instr pc = Jvm.ClassFile.Reader.u1 >>= _ := rfl
  refine dec_of ?_
  rw [e, run_bind _ _ _ _ (u1_run h0)]
  rfl
theorem dc90 (h0 : c[pc]? = some 90) : decode c pc = .ok (.dup_x1, 1) := by
  have e : Jvm.ClassFile.Decoder.instr pc = Jvm.ClassFile.Reader.u1 >>= _ := rfl
  refine dec_of ?_
  rw [e, run_bind _ _ _ _ (u1_run h0)]
  rfl
theorem dc92 (h0 : c[pc]? = some 92) : decode c pc = .ok (.dup2, 1) := by
  have e : Jvm.ClassFile.Decoder.instr pc = Jvm.ClassFile.Reader.u1 >>= _ := rfl
  refine dec_of ?_
  rw [e, run_bind _ _ _ _ (u1_run h0)]
  rfl
theorem dc96 (h0 : c[pc]? = some 96) : decode c pc = .ok (.iadd, 1) := by
  have e : Jvm.ClassFile.Decoder.instr pc = Jvm.ClassFile.Reader.u1 >>= _ := rfl
  refine dec_of ?_
  rw [e, run_bind _ _ _ _ (u1_run h0)]
  rfl
theorem dc97 (h0 : c[pc]? = some 97) : decode c pc = .ok (.ladd, 1) := by
  have e : Jvm.ClassFile.Decoder.instr pc = Jvm.ClassFile.Reader.u1 >>= _ := rfl
  refine dec_of ?_
  rw [e, run_bind _ _ _ _ (u1_run h0)]
  rfl
theorem dc100 (h0 : c[pc]? = some 100) : decode c pc = .ok (.isub, 1) := by
  have e : Jvm.ClassFile.Decoder.instr pc = Jvm.ClassFile.Reader.u1 >>= _ := rfl
  refine dec_of ?_
  rw [e, run_bind _ _ _ _ (u1_run h0)]
  rfl
theorem dc101 (h0 : c[pc]? = some 101) : decode c pc = .ok (.lsub, 1) := by
  have e : Jvm.ClassFile.Decoder.instr pc = Jvm.ClassFile.Reader.u1 >>= _ := rfl
  refine dec_of ?_
  rw [e, run_bind _ _ _ _ (u1_run h0)]
  rfl
theorem dc104 (h0 : c[pc]? = some 104) : decode c pc = .ok (.imul, 1) := by
  have e : Jvm.ClassFile.Decoder.instr pc = Jvm.ClassFile.Reader.u1 >>= _ := rfl
  refine dec_of ?_
  rw [e, run_bind _ _ _ _ (u1_run h0)]
  rfl
theorem dc105 (h0 : c[pc]? = some 105) : decode c pc = .ok (.lmul, 1) := by
  have e : Jvm.ClassFile.Decoder.instr pc = Jvm.ClassFile.Reader.u1 >>= _ := rfl
  refine dec_of ?_
  rw [e, run_bind _ _ _ _ (u1_run h0)]
  rfl
theorem dc108 (h0 : c[pc]? = some 108) : decode c pc = .ok (.idiv, 1) := by
  have e : Jvm.ClassFile.Decoder.instr pc = Jvm.ClassFile.Reader.u1 >>= _ := rfl
  refine dec_of ?_
  rw [e, run_bind _ _ _ _ (u1_run h0)]
  rfl
theorem dc109 (h0 : c[pc]? = some 109) : decode c pc = .ok (.ldiv, 1) := by
  have e : Jvm.ClassFile.Decoder.instr pc = Jvm.ClassFile.Reader.u1 >>= _ := rfl
  refine dec_of ?_
  rw [e, run_bind _ _ _ _ (u1_run h0)]
  rfl
theorem dc112 (h0 : c[pc]? = some 112) : decode c pc = .ok (.irem, 1) := by
  have e : Jvm.ClassFile.Decoder.instr pc = Jvm.ClassFile.Reader.u1 >>= _ := rfl
  refine dec_of ?_
  rw [e, run_bind _ _ _ _ (u1_run h0)]
  rfl
theorem dc113 (h0 : c[pc]? = some 113) : decode c pc = .ok (.lrem, 1) := by
  have e : Jvm.ClassFile.Decoder.instr pc = Jvm.ClassFile.Reader.u1 >>= _ := rfl
  refine dec_of ?_
  rw [e, run_bind _ _ _ _ (u1_run h0)]
  rfl
theorem dc116 (h0 : c[pc]? = some 116) : decode c pc = .ok (.ineg, 1) := by
  have e : Jvm.ClassFile.Decoder.instr pc = Jvm.ClassFile.Reader.u1 >>= _ := rfl
  refine dec_of ?_
  rw [e, run_bind _ _ _ _ (u1_run h0)]
  rfl
theorem dc117 (h0 : c[pc]? = some 117) : decode c pc = .ok (.lneg, 1) := by
  have e : Jvm.ClassFile.Decoder.instr pc = Jvm.ClassFile.Reader.u1 >>= _ := rfl
  refine dec_of ?_
  rw [e, run_bind _ _ _ _ (u1_run h0)]
  rfl
theorem dc120 (h0 : c[pc]? = some 120) : decode c pc = .ok (.ishl, 1) := by
  have e : Jvm.ClassFile.Decoder.instr pc = Jvm.ClassFile.Reader.u1 >>= _ := rfl
  refine dec_of ?_
  rw [e, run_bind _ _ _ _ (u1_run h0)]
  rfl
theorem dc121 (h0 : c[pc]? = some 121) : decode c pc = .ok (.lshl, 1) := by
  have e : Jvm.ClassFile.Decoder.instr pc = Jvm.ClassFile.Reader.u1 >>= _ := rfl
  refine dec_of ?_
  rw [e, run_bind _ _ _ _ (u1_run h0)]
  rfl
theorem dc122 (h0 : c[pc]? = some 122) : decode c pc = .ok (.ishr, 1) := by
  have e : Jvm.ClassFile.Decoder.instr pc = Jvm.ClassFile.Reader.u1 >>= _ := rfl
  refine dec_of ?_
  rw [e, run_bind _ _ _ _ (u1_run h0)]
  rfl
theorem dc123 (h0 : c[pc]? = some 123) : decode c pc = .ok (.lshr, 1) := by
  have e : Jvm.ClassFile.Decoder.instr pc = Jvm.ClassFile.Reader.u1 >>= _ := rfl
  refine dec_of ?_
  rw [e, run_bind _ _ _ _ (u1_run h0)]
  rfl
theorem dc126 (h0 : c[pc]? = some 126) : decode c pc = .ok (.iand, 1) := by
  have e : Jvm.ClassFile.Decoder.instr pc = Jvm.ClassFile.Reader.u1 >>= _ := rfl
  refine dec_of ?_
  rw [e, run_bind _ _ _ _ (u1_run h0)]
  rfl
theorem dc127 (h0 : c[pc]? = some 127) : decode c pc = .ok (.land, 1) := by
  have e : Jvm.ClassFile.Decoder.instr pc = Jvm.ClassFile.Reader.u1 >>= _ := rfl
  refine dec_of ?_
  rw [e, run_bind _ _ _ _ (u1_run h0)]
  rfl
theorem dc128 (h0 : c[pc]? = some 128) : decode c pc = .ok (.ior, 1) := by
  have e : Jvm.ClassFile.Decoder.instr pc = Jvm.ClassFile.Reader.u1 >>= _ := rfl
  refine dec_of ?_
  rw [e, run_bind _ _ _ _ (u1_run h0)]
  rfl
theorem dc129 (h0 : c[pc]? = some 129) : decode c pc = .ok (.lor, 1) := by
  have e : Jvm.ClassFile.Decoder.instr pc = Jvm.ClassFile.Reader.u1 >>= _ := rfl
  refine dec_of ?_
  rw [e, run_bind _ _ _ _ (u1_run h0)]
  rfl
theorem dc130 (h0 : c[pc]? = some 130) : decode c pc = .ok (.ixor, 1) := by
  have e : Jvm.ClassFile.Decoder.instr pc = Jvm.ClassFile.Reader.u1 >>= _ := rfl
  refine dec_of ?_
  rw [e, run_bind _ _ _ _ (u1_run h0)]
  rfl
theorem dc131 (h0 : c[pc]? = some 131) : decode c pc = .ok (.lxor, 1) := by
  have e : Jvm.ClassFile.Decoder.instr pc = Jvm.ClassFile.Reader.u1 >>= _ := rfl
  refine dec_of ?_
  rw [e, run_bind _ _ _ _ (u1_run h0)]
  rfl
theorem dc132 (h0 : c[pc]? = some 132) (h1 : c[pc + 1]? = some b1) (h2 : c[pc + 2]? = some b2) : decode c pc = .ok (.iinc b1.toNat (Jvm.ClassFile.Reader.signed 8 b2.toNat), 3) := by
  have e : Jvm.ClassFile.Decoder.instr pc = Jvm.ClassFile.Reader.u1 >>= _ := rfl
  refine dec_of ?_
  rw [e, run_bind _ _ _ _ (u1_run h0)]
  exact (run_bind _ _ _ _ (u1_run h1)).trans (run_bind _ _ _ _ (s1_run h2))
theorem dc133 (h0 : c[pc]? = some 133) : decode c pc = .ok (.i2l, 1) := by
  have e : Jvm.ClassFile.Decoder.instr pc = Jvm.ClassFile.Reader.u1 >>= _ := rfl
  refine dec_of ?_
  rw [e, run_bind _ _ _ _ (u1_run h0)]
  rfl
theorem dc136 (h0 : c[pc]? = some 136) : decode c pc = .ok (.l2i, 1) := by
  have e : Jvm.ClassFile.Decoder.instr pc = Jvm.ClassFile.Reader.u1 >>= _ := rfl
  refine dec_of ?_
  rw [e, run_bind _ _ _ _ (u1_run h0)]
  rfl
theorem dc145 (h0 : c[pc]? = some 145) : decode c pc = .ok (.i2b, 1) := by
  have e : Jvm.ClassFile.Decoder.instr pc = Jvm.ClassFile.Reader.u1 >>= _ := rfl
  refine dec_of ?_
  rw [e, run_bind _ _ _ _ (u1_run h0)]
  rfl
theorem dc146 (h0 : c[pc]? = some 146) : decode c pc = .ok (.i2c, 1) := by
  have e : Jvm.ClassFile.Decoder.instr pc = Jvm.ClassFile.Reader.u1 >>= _ := rfl
  refine dec_of ?_
  rw [e, run_bind _ _ _ _ (u1_run h0)]
  rfl
theorem dc148 (h0 : c[pc]? = some 148) : decode c pc = .ok (.lcmp, 1) := by
  have e : Jvm.ClassFile.Decoder.instr pc = Jvm.ClassFile.Reader.u1 >>= _ := rfl
  refine dec_of ?_
  rw [e, run_bind _ _ _ _ (u1_run h0)]
  rfl
theorem dc153 (h0 : c[pc]? = some 153) (h1 : c[pc + 1]? = some b1) (h2 : c[pc + 2]? = some b2) : decode c pc = .ok (.ifCond .eq (Jvm.ClassFile.Reader.signed 16 (b1.toNat * 256 + b2.toNat)), 3) := by
  have e : Jvm.ClassFile.Decoder.instr pc = Jvm.ClassFile.Reader.u1 >>= _ := rfl
  refine dec_of ?_
  rw [e, run_bind _ _ _ _ (u1_run h0)]
  exact run_bind _ _ _ _ (s2_run h1 h2)
theorem dc154 (h0 : c[pc]? = some 154) (h1 : c[pc + 1]? = some b1) (h2 : c[pc + 2]? = some b2) : decode c pc = .ok (.ifCond .ne (Jvm.ClassFile.Reader.signed 16 (b1.toNat * 256 + b2.toNat)), 3) := by
  have e : Jvm.ClassFile.Decoder.instr pc = Jvm.ClassFile.Reader.u1 >>= _ := rfl
  refine dec_of ?_
  rw [e, run_bind _ _ _ _ (u1_run h0)]
  exact run_bind _ _ _ _ (s2_run h1 h2)
theorem dc155 (h0 : c[pc]? = some 155) (h1 : c[pc + 1]? = some b1) (h2 : c[pc + 2]? = some b2) : decode c pc = .ok (.ifCond .lt (Jvm.ClassFile.Reader.signed 16 (b1.toNat * 256 + b2.toNat)), 3) := by
  have e : Jvm.ClassFile.Decoder.instr pc = Jvm.ClassFile.Reader.u1 >>= _ := rfl
  refine dec_of ?_
  rw [e, run_bind _ _ _ _ (u1_run h0)]
  exact run_bind _ _ _ _ (s2_run h1 h2)
theorem dc156 (h0 : c[pc]? = some 156) (h1 : c[pc + 1]? = some b1) (h2 : c[pc + 2]? = some b2) : decode c pc = .ok (.ifCond .ge (Jvm.ClassFile.Reader.signed 16 (b1.toNat * 256 + b2.toNat)), 3) := by
  have e : Jvm.ClassFile.Decoder.instr pc = Jvm.ClassFile.Reader.u1 >>= _ := rfl
  refine dec_of ?_
  rw [e, run_bind _ _ _ _ (u1_run h0)]
  exact run_bind _ _ _ _ (s2_run h1 h2)
theorem dc157 (h0 : c[pc]? = some 157) (h1 : c[pc + 1]? = some b1) (h2 : c[pc + 2]? = some b2) : decode c pc = .ok (.ifCond .gt (Jvm.ClassFile.Reader.signed 16 (b1.toNat * 256 + b2.toNat)), 3) := by
  have e : Jvm.ClassFile.Decoder.instr pc = Jvm.ClassFile.Reader.u1 >>= _ := rfl
  refine dec_of ?_
  rw [e, run_bind _ _ _ _ (u1_run h0)]
  exact run_bind _ _ _ _ (s2_run h1 h2)
theorem dc158 (h0 : c[pc]? = some 158) (h1 : c[pc + 1]? = some b1) (h2 : c[pc + 2]? = some b2) : decode c pc = .ok (.ifCond .le (Jvm.ClassFile.Reader.signed 16 (b1.toNat * 256 + b2.toNat)), 3) := by
  have e : Jvm.ClassFile.Decoder.instr pc = Jvm.ClassFile.Reader.u1 >>= _ := rfl
  refine dec_of ?_
  rw [e, run_bind _ _ _ _ (u1_run h0)]
  exact run_bind _ _ _ _ (s2_run h1 h2)
theorem dc159 (h0 : c[pc]? = some 159) (h1 : c[pc + 1]? = some b1) (h2 : c[pc + 2]? = some b2) : decode c pc = .ok (.if_icmp .eq (Jvm.ClassFile.Reader.signed 16 (b1.toNat * 256 + b2.toNat)), 3) := by
  have e : Jvm.ClassFile.Decoder.instr pc = Jvm.ClassFile.Reader.u1 >>= _ := rfl
  refine dec_of ?_
  rw [e, run_bind _ _ _ _ (u1_run h0)]
  exact run_bind _ _ _ _ (s2_run h1 h2)
theorem dc160 (h0 : c[pc]? = some 160) (h1 : c[pc + 1]? = some b1) (h2 : c[pc + 2]? = some b2) : decode c pc = .ok (.if_icmp .ne (Jvm.ClassFile.Reader.signed 16 (b1.toNat * 256 + b2.toNat)), 3) := by
  have e : Jvm.ClassFile.Decoder.instr pc = Jvm.ClassFile.Reader.u1 >>= _ := rfl
  refine dec_of ?_
  rw [e, run_bind _ _ _ _ (u1_run h0)]
  exact run_bind _ _ _ _ (s2_run h1 h2)
theorem dc161 (h0 : c[pc]? = some 161) (h1 : c[pc + 1]? = some b1) (h2 : c[pc + 2]? = some b2) : decode c pc = .ok (.if_icmp .lt (Jvm.ClassFile.Reader.signed 16 (b1.toNat * 256 + b2.toNat)), 3) := by
  have e : Jvm.ClassFile.Decoder.instr pc = Jvm.ClassFile.Reader.u1 >>= _ := rfl
  refine dec_of ?_
  rw [e, run_bind _ _ _ _ (u1_run h0)]
  exact run_bind _ _ _ _ (s2_run h1 h2)
theorem dc162 (h0 : c[pc]? = some 162) (h1 : c[pc + 1]? = some b1) (h2 : c[pc + 2]? = some b2) : decode c pc = .ok (.if_icmp .ge (Jvm.ClassFile.Reader.signed 16 (b1.toNat * 256 + b2.toNat)), 3) := by
  have e : Jvm.ClassFile.Decoder.instr pc = Jvm.ClassFile.Reader.u1 >>= _ := rfl
  refine dec_of ?_
  rw [e, run_bind _ _ _ _ (u1_run h0)]
  exact run_bind _ _ _ _ (s2_run h1 h2)
theorem dc163 (h0 : c[pc]? = some 163) (h1 : c[pc + 1]? = some b1) (h2 : c[pc + 2]? = some b2) : decode c pc = .ok (.if_icmp .gt (Jvm.ClassFile.Reader.signed 16 (b1.toNat * 256 + b2.toNat)), 3) := by
  have e : Jvm.ClassFile.Decoder.instr pc = Jvm.ClassFile.Reader.u1 >>= _ := rfl
  refine dec_of ?_
  rw [e, run_bind _ _ _ _ (u1_run h0)]
  exact run_bind _ _ _ _ (s2_run h1 h2)
theorem dc164 (h0 : c[pc]? = some 164) (h1 : c[pc + 1]? = some b1) (h2 : c[pc + 2]? = some b2) : decode c pc = .ok (.if_icmp .le (Jvm.ClassFile.Reader.signed 16 (b1.toNat * 256 + b2.toNat)), 3) := by
  have e : Jvm.ClassFile.Decoder.instr pc = Jvm.ClassFile.Reader.u1 >>= _ := rfl
  refine dec_of ?_
  rw [e, run_bind _ _ _ _ (u1_run h0)]
  exact run_bind _ _ _ _ (s2_run h1 h2)
theorem dc165 (h0 : c[pc]? = some 165) (h1 : c[pc + 1]? = some b1) (h2 : c[pc + 2]? = some b2) : decode c pc = .ok (.if_acmp .eq (Jvm.ClassFile.Reader.signed 16 (b1.toNat * 256 + b2.toNat)), 3) := by
  have e : Jvm.ClassFile.Decoder.instr pc = Jvm.ClassFile.Reader.u1 >>= _ := rfl
  refine dec_of ?_
  rw [e, run_bind _ _ _ _ (u1_run h0)]
  exact run_bind _ _ _ _ (s2_run h1 h2)
theorem dc166 (h0 : c[pc]? = some 166) (h1 : c[pc + 1]? = some b1) (h2 : c[pc + 2]? = some b2) : decode c pc = .ok (.if_acmp .ne (Jvm.ClassFile.Reader.signed 16 (b1.toNat * 256 + b2.toNat)), 3) := by
  have e : Jvm.ClassFile.Decoder.instr pc = Jvm.ClassFile.Reader.u1 >>= _ := rfl
  refine dec_of ?_
  rw [e, run_bind _ _ _ _ (u1_run h0)]
  exact run_bind _ _ _ _ (s2_run h1 h2)
theorem dc167 (h0 : c[pc]? = some 167) (h1 : c[pc + 1]? = some b1) (h2 : c[pc + 2]? = some b2) : decode c pc = .ok (.goto (Jvm.ClassFile.Reader.signed 16 (b1.toNat * 256 + b2.toNat)), 3) := by
  have e : Jvm.ClassFile.Decoder.instr pc = Jvm.ClassFile.Reader.u1 >>= _ := rfl
  refine dec_of ?_
  rw [e, run_bind _ _ _ _ (u1_run h0)]
  exact run_bind _ _ _ _ (s2_run h1 h2)
theorem dc172 (h0 : c[pc]? = some 172) : decode c pc = .ok (.ireturn, 1) := by
  have e : Jvm.ClassFile.Decoder.instr pc = Jvm.ClassFile.Reader.u1 >>= _ := rfl
  refine dec_of ?_
  rw [e, run_bind _ _ _ _ (u1_run h0)]
  rfl
theorem dc173 (h0 : c[pc]? = some 173) : decode c pc = .ok (.lreturn, 1) := by
  have e : Jvm.ClassFile.Decoder.instr pc = Jvm.ClassFile.Reader.u1 >>= _ := rfl
  refine dec_of ?_
  rw [e, run_bind _ _ _ _ (u1_run h0)]
  rfl
theorem dc176 (h0 : c[pc]? = some 176) : decode c pc = .ok (.areturn, 1) := by
  have e : Jvm.ClassFile.Decoder.instr pc = Jvm.ClassFile.Reader.u1 >>= _ := rfl
  refine dec_of ?_
  rw [e, run_bind _ _ _ _ (u1_run h0)]
  rfl
theorem dc177 (h0 : c[pc]? = some 177) : decode c pc = .ok (.return_, 1) := by
  have e : Jvm.ClassFile.Decoder.instr pc = Jvm.ClassFile.Reader.u1 >>= _ := rfl
  refine dec_of ?_
  rw [e, run_bind _ _ _ _ (u1_run h0)]
  rfl
theorem dc178 (h0 : c[pc]? = some 178) (h1 : c[pc + 1]? = some b1) (h2 : c[pc + 2]? = some b2) : decode c pc = .ok (.getstatic (b1.toNat * 256 + b2.toNat), 3) := by
  have e : Jvm.ClassFile.Decoder.instr pc = Jvm.ClassFile.Reader.u1 >>= _ := rfl
  refine dec_of ?_
  rw [e, run_bind _ _ _ _ (u1_run h0)]
  exact run_bind _ _ _ _ (u2_run h1 h2)
theorem dc180 (h0 : c[pc]? = some 180) (h1 : c[pc + 1]? = some b1) (h2 : c[pc + 2]? = some b2) : decode c pc = .ok (.getfield (b1.toNat * 256 + b2.toNat), 3) := by
  have e : Jvm.ClassFile.Decoder.instr pc = Jvm.ClassFile.Reader.u1 >>= _ := rfl
  refine dec_of ?_
  rw [e, run_bind _ _ _ _ (u1_run h0)]
  exact run_bind _ _ _ _ (u2_run h1 h2)
theorem dc181 (h0 : c[pc]? = some 181) (h1 : c[pc + 1]? = some b1) (h2 : c[pc + 2]? = some b2) : decode c pc = .ok (.putfield (b1.toNat * 256 + b2.toNat), 3) := by
  have e : Jvm.ClassFile.Decoder.instr pc = Jvm.ClassFile.Reader.u1 >>= _ := rfl
  refine dec_of ?_
  rw [e, run_bind _ _ _ _ (u1_run h0)]
  exact run_bind _ _ _ _ (u2_run h1 h2)
theorem dc182 (h0 : c[pc]? = some 182) (h1 : c[pc + 1]? = some b1) (h2 : c[pc + 2]? = some b2) : decode c pc = .ok (.invokevirtual (b1.toNat * 256 + b2.toNat), 3) := by
  have e : Jvm.ClassFile.Decoder.instr pc = Jvm.ClassFile.Reader.u1 >>= _ := rfl
  refine dec_of ?_
  rw [e, run_bind _ _ _ _ (u1_run h0)]
  exact run_bind _ _ _ _ (u2_run h1 h2)
theorem dc183 (h0 : c[pc]? = some 183) (h1 : c[pc + 1]? = some b1) (h2 : c[pc + 2]? = some b2) : decode c pc = .ok (.invokespecial (b1.toNat * 256 + b2.toNat), 3) := by
  have e : Jvm.ClassFile.Decoder.instr pc = Jvm.ClassFile.Reader.u1 >>= _ := rfl
  refine dec_of ?_
  rw [e, run_bind _ _ _ _ (u1_run h0)]
  exact run_bind _ _ _ _ (u2_run h1 h2)
theorem dc184 (h0 : c[pc]? = some 184) (h1 : c[pc + 1]? = some b1) (h2 : c[pc + 2]? = some b2) : decode c pc = .ok (.invokestatic (b1.toNat * 256 + b2.toNat), 3) := by
  have e : Jvm.ClassFile.Decoder.instr pc = Jvm.ClassFile.Reader.u1 >>= _ := rfl
  refine dec_of ?_
  rw [e, run_bind _ _ _ _ (u1_run h0)]
  exact run_bind _ _ _ _ (u2_run h1 h2)
theorem dc187 (h0 : c[pc]? = some 187) (h1 : c[pc + 1]? = some b1) (h2 : c[pc + 2]? = some b2) : decode c pc = .ok (.new (b1.toNat * 256 + b2.toNat), 3) := by
  have e : Jvm.ClassFile.Decoder.instr pc = Jvm.ClassFile.Reader.u1 >>= _ := rfl
  refine dec_of ?_
  rw [e, run_bind _ _ _ _ (u1_run h0)]
  exact run_bind _ _ _ _ (u2_run h1 h2)
theorem dc188_4 (h0 : c[pc]? = some 188) (h1 : c[pc + 1]? = some 4) : decode c pc = .ok (.newarray .boolean, 2) := by
  have e : Jvm.ClassFile.Decoder.instr pc = Jvm.ClassFile.Reader.u1 >>= _ := rfl
  refine dec_of ?_
  rw [e, run_bind _ _ _ _ (u1_run h0)]
  exact run_bind _ _ _ _ (u1_run h1)
theorem dc188_8 (h0 : c[pc]? = some 188) (h1 : c[pc + 1]? = some 8) : decode c pc = .ok (.newarray .byte, 2) := by
  have e : Jvm.ClassFile.Decoder.instr pc = Jvm.ClassFile.Reader.u1 >>= _ := rfl
  refine dec_of ?_
  rw [e, run_bind _ _ _ _ (u1_run h0)]
  exact run_bind _ _ _ _ (u1_run h1)
theorem dc188_10 (h0 : c[pc]? = some 188) (h1 : c[pc + 1]? = some 10) : decode c pc = .ok (.newarray .int, 2) := by
  have e : Jvm.ClassFile.Decoder.instr pc = Jvm.ClassFile.Reader.u1 >>= _ := rfl
  refine dec_of ?_
  rw [e, run_bind _ _ _ _ (u1_run h0)]
  exact run_bind _ _ _ _ (u1_run h1)
theorem dc188_11 (h0 : c[pc]? = some 188) (h1 : c[pc + 1]? = some 11) : decode c pc = .ok (.newarray .long, 2) := by
  have e : Jvm.ClassFile.Decoder.instr pc = Jvm.ClassFile.Reader.u1 >>= _ := rfl
  refine dec_of ?_
  rw [e, run_bind _ _ _ _ (u1_run h0)]
  exact run_bind _ _ _ _ (u1_run h1)
theorem dc189 (h0 : c[pc]? = some 189) (h1 : c[pc + 1]? = some b1) (h2 : c[pc + 2]? = some b2) : decode c pc = .ok (.anewarray (b1.toNat * 256 + b2.toNat), 3) := by
  have e : Jvm.ClassFile.Decoder.instr pc = Jvm.ClassFile.Reader.u1 >>= _ := rfl
  refine dec_of ?_
  rw [e, run_bind _ _ _ _ (u1_run h0)]
  exact run_bind _ _ _ _ (u2_run h1 h2)
theorem dc190 (h0 : c[pc]? = some 190) : decode c pc = .ok (.arraylength, 1) := by
  have e : Jvm.ClassFile.Decoder.instr pc = Jvm.ClassFile.Reader.u1 >>= _ := rfl
  refine dec_of ?_
  rw [e, run_bind _ _ _ _ (u1_run h0)]
  rfl
theorem dc191 (h0 : c[pc]? = some 191) : decode c pc = .ok (.athrow, 1) := by
  have e : Jvm.ClassFile.Decoder.instr pc = Jvm.ClassFile.Reader.u1 >>= _ := rfl
  refine dec_of ?_
  rw [e, run_bind _ _ _ _ (u1_run h0)]
  rfl
theorem dc192 (h0 : c[pc]? = some 192) (h1 : c[pc + 1]? = some b1) (h2 : c[pc + 2]? = some b2) : decode c pc = .ok (.checkcast (b1.toNat * 256 + b2.toNat), 3) := by
  have e : Jvm.ClassFile.Decoder.instr pc = Jvm.ClassFile.Reader.u1 >>= _ := rfl
  refine dec_of ?_
  rw [e, run_bind _ _ _ _ (u1_run h0)]
  exact run_bind _ _ _ _ (u2_run h1 h2)
theorem dc198 (h0 : c[pc]? = some 198) (h1 : c[pc + 1]? = some b1) (h2 : c[pc + 2]? = some b2) : decode c pc = .ok (.ifnull (Jvm.ClassFile.Reader.signed 16 (b1.toNat * 256 + b2.toNat)), 3) := by
  have e : Jvm.ClassFile.Decoder.instr pc = Jvm.ClassFile.Reader.u1 >>= _ := rfl
  refine dec_of ?_
  rw [e, run_bind _ _ _ _ (u1_run h0)]
  exact run_bind _ _ _ _ (s2_run h1 h2)
theorem dc199 (h0 : c[pc]? = some 199) (h1 : c[pc + 1]? = some b1) (h2 : c[pc + 2]? = some b2) : decode c pc = .ok (.ifnonnull (Jvm.ClassFile.Reader.signed 16 (b1.toNat * 256 + b2.toNat)), 3) := by
  have e : Jvm.ClassFile.Decoder.instr pc = Jvm.ClassFile.Reader.u1 >>= _ := rfl
  refine dec_of ?_
  rw [e, run_bind _ _ _ _ (u1_run h0)]
  exact run_bind _ _ _ _ (s2_run h1 h2)
end DEC
/-- do the bytes say this instruction? -/
def ckI (i : Instr) (len : Nat) (b : List UInt8) : Bool := match i with
  | .iconst n => (match b with | b0 :: _ => Nat.ble 2 b0.toNat && Nat.ble b0.toNat 8 && decide (n = (b0.toNat : Int) - 3) && Nat.beq len 1 | _ => false)
  | .aconst_null => (match b with | b0 :: _ => Nat.beq b0.toNat 1 && Nat.beq len 1 | _ => false)
  | .lconst n => (match b with | b0 :: _ => Nat.beq (n.val + 9) b0.toNat && Nat.beq len 1 | _ => false)
  | .bipush n => (match b with | b0 :: b1 :: _ => Nat.beq b0.toNat 16 && decide (n = Jvm.ClassFile.Reader.signed 8 b1.toNat) && Nat.beq len 2 | _ => false)
  | .sipush n => (match b with | b0 :: b1 :: b2 :: _ => Nat.beq b0.toNat 17 && decide (n = Jvm.ClassFile.Reader.signed 16 (b1.toNat * 256 + b2.toNat)) && Nat.beq len 3 | _ => false)
  | .ldc n => (match b with | b0 :: b1 :: _ => Nat.beq b0.toNat 18 && Nat.beq n b1.toNat && Nat.beq len 2 | _ => false)
  | .ldc_w n => (match b with | b0 :: b1 :: b2 :: _ => Nat.beq b0.toNat 19 && Nat.beq n (b1.toNat * 256 + b2.toNat) && Nat.beq len 3 | _ => false)
  | .ldc2_w n => (match b with | b0 :: b1 :: b2 :: _ => Nat.beq b0.toNat 20 && Nat.beq n (b1.toNat * 256 + b2.toNat) && Nat.beq len 3 | _ => false)
  | .iload n => (match b with | b0 :: b1 :: _ => Nat.beq b0.toNat 21 && Nat.beq n b1.toNat && Nat.beq len 2 | _ => false)
  | .lload n => (match b with | b0 :: b1 :: _ => Nat.beq b0.toNat 22 && Nat.beq n b1.toNat && Nat.beq len 2 | _ => false)
  | .aload n => (match b with | b0 :: b1 :: _ => Nat.beq b0.toNat 25 && Nat.beq n b1.toNat && Nat.beq len 2 | _ => false)
  | .iload_n n => (match b with | b0 :: _ => Nat.beq (n.val + 26) b0.toNat && Nat.beq len 1 | _ => false)
  | .lload_n n => (match b with | b0 :: _ => Nat.beq (n.val + 30) b0.toNat && Nat.beq len 1 | _ => false)
  | .aload_n n => (match b with | b0 :: _ => Nat.beq (n.val + 42) b0.toNat && Nat.beq len 1 | _ => false)
  | .istore_n n => (match b with | b0 :: _ => Nat.beq (n.val + 59) b0.toNat && Nat.beq len 1 | _ => false)
  | .lstore_n n => (match b with | b0 :: _ => Nat.beq (n.val + 63) b0.toNat && Nat.beq len 1 | _ => false)
  | .astore_n n => (match b with | b0 :: _ => Nat.beq (n.val + 75) b0.toNat && Nat.beq len 1 | _ => false)
  | .iaload => (match b with | b0 :: _ => Nat.beq b0.toNat 46 && Nat.beq len 1 | _ => false)
  | .laload => (match b with | b0 :: _ => Nat.beq b0.toNat 47 && Nat.beq len 1 | _ => false)
  | .aaload => (match b with | b0 :: _ => Nat.beq b0.toNat 50 && Nat.beq len 1 | _ => false)
  | .baload => (match b with | b0 :: _ => Nat.beq b0.toNat 51 && Nat.beq len 1 | _ => false)
  | .iastore => (match b with | b0 :: _ => Nat.beq b0.toNat 79 && Nat.beq len 1 | _ => false)
  | .lastore => (match b with | b0 :: _ => Nat.beq b0.toNat 80 && Nat.beq len 1 | _ => false)
  | .aastore => (match b with | b0 :: _ => Nat.beq b0.toNat 83 && Nat.beq len 1 | _ => false)
  | .bastore => (match b with | b0 :: _ => Nat.beq b0.toNat 84 && Nat.beq len 1 | _ => false)
  | .pop => (match b with | b0 :: _ => Nat.beq b0.toNat 87 && Nat.beq len 1 | _ => false)
  | .dup => (match b with | b0 :: _ => Nat.beq b0.toNat 89 && Nat.beq len 1 | _ => false)
  | .dup_x1 => (match b with | b0 :: _ => Nat.beq b0.toNat 90 && Nat.beq len 1 | _ => false)
  | .dup2 => (match b with | b0 :: _ => Nat.beq b0.toNat 92 && Nat.beq len 1 | _ => false)
  | .iadd => (match b with | b0 :: _ => Nat.beq b0.toNat 96 && Nat.beq len 1 | _ => false)
  | .ladd => (match b with | b0 :: _ => Nat.beq b0.toNat 97 && Nat.beq len 1 | _ => false)
  | .isub => (match b with | b0 :: _ => Nat.beq b0.toNat 100 && Nat.beq len 1 | _ => false)
  | .lsub => (match b with | b0 :: _ => Nat.beq b0.toNat 101 && Nat.beq len 1 | _ => false)
  | .imul => (match b with | b0 :: _ => Nat.beq b0.toNat 104 && Nat.beq len 1 | _ => false)
  | .lmul => (match b with | b0 :: _ => Nat.beq b0.toNat 105 && Nat.beq len 1 | _ => false)
  | .idiv => (match b with | b0 :: _ => Nat.beq b0.toNat 108 && Nat.beq len 1 | _ => false)
  | .ldiv => (match b with | b0 :: _ => Nat.beq b0.toNat 109 && Nat.beq len 1 | _ => false)
  | .irem => (match b with | b0 :: _ => Nat.beq b0.toNat 112 && Nat.beq len 1 | _ => false)
  | .lrem => (match b with | b0 :: _ => Nat.beq b0.toNat 113 && Nat.beq len 1 | _ => false)
  | .ineg => (match b with | b0 :: _ => Nat.beq b0.toNat 116 && Nat.beq len 1 | _ => false)
  | .lneg => (match b with | b0 :: _ => Nat.beq b0.toNat 117 && Nat.beq len 1 | _ => false)
  | .ishl => (match b with | b0 :: _ => Nat.beq b0.toNat 120 && Nat.beq len 1 | _ => false)
  | .lshl => (match b with | b0 :: _ => Nat.beq b0.toNat 121 && Nat.beq len 1 | _ => false)
  | .ishr => (match b with | b0 :: _ => Nat.beq b0.toNat 122 && Nat.beq len 1 | _ => false)
  | .lshr => (match b with | b0 :: _ => Nat.beq b0.toNat 123 && Nat.beq len 1 | _ => false)
  | .iand => (match b with | b0 :: _ => Nat.beq b0.toNat 126 && Nat.beq len 1 | _ => false)
  | .land => (match b with | b0 :: _ => Nat.beq b0.toNat 127 && Nat.beq len 1 | _ => false)
  | .ior => (match b with | b0 :: _ => Nat.beq b0.toNat 128 && Nat.beq len 1 | _ => false)
  | .lor => (match b with | b0 :: _ => Nat.beq b0.toNat 129 && Nat.beq len 1 | _ => false)
  | .ixor => (match b with | b0 :: _ => Nat.beq b0.toNat 130 && Nat.beq len 1 | _ => false)
  | .lxor => (match b with | b0 :: _ => Nat.beq b0.toNat 131 && Nat.beq len 1 | _ => false)
  | .i2l => (match b with | b0 :: _ => Nat.beq b0.toNat 133 && Nat.beq len 1 | _ => false)
  | .l2i => (match b with | b0 :: _ => Nat.beq b0.toNat 136 && Nat.beq len 1 | _ => false)
  | .i2b => (match b with | b0 :: _ => Nat.beq b0.toNat 145 && Nat.beq len 1 | _ => false)
  | .i2c => (match b with | b0 :: _ => Nat.beq b0.toNat 146 && Nat.beq len 1 | _ => false)
  | .lcmp => (match b with | b0 :: _ => Nat.beq b0.toNat 148 && Nat.beq len 1 | _ => false)
  | .ireturn => (match b with | b0 :: _ => Nat.beq b0.toNat 172 && Nat.beq len 1 | _ => false)
  | .lreturn => (match b with | b0 :: _ => Nat.beq b0.toNat 173 && Nat.beq len 1 | _ => false)
  | .areturn => (match b with | b0 :: _ => Nat.beq b0.toNat 176 && Nat.beq len 1 | _ => false)
  | .return_ => (match b with | b0 :: _ => Nat.beq b0.toNat 177 && Nat.beq len 1 | _ => false)
  | .arraylength => (match b with | b0 :: _ => Nat.beq b0.toNat 190 && Nat.beq len 1 | _ => false)
  | .athrow => (match b with | b0 :: _ => Nat.beq b0.toNat 191 && Nat.beq len 1 | _ => false)
  | .istore n => (match b with | b0 :: b1 :: _ => Nat.beq b0.toNat 54 && Nat.beq n b1.toNat && Nat.beq len 2 | _ => false)
  | .lstore n => (match b with | b0 :: b1 :: _ => Nat.beq b0.toNat 55 && Nat.beq n b1.toNat && Nat.beq len 2 | _ => false)
  | .astore n => (match b with | b0 :: b1 :: _ => Nat.beq b0.toNat 58 && Nat.beq n b1.toNat && Nat.beq len 2 | _ => false)
  | .ifCond q n => (match b with | b0 :: b1 :: b2 :: _ => Nat.beq b0.toNat (match q with | .eq => 153 | .ne => 154 | .lt => 155 | .ge => 156 | .gt => 157 | .le => 158) && decide (n = Jvm.ClassFile.Reader.signed 16 (b1.toNat * 256 + b2.toNat)) && Nat.beq len 3 | _ => false)
  | .if_icmp q n => (match b with | b0 :: b1 :: b2 :: _ => Nat.beq b0.toNat (match q with | .eq => 159 | .ne => 160 | .lt => 161 | .ge => 162 | .gt => 163 | .le => 164) && decide (n = Jvm.ClassFile.Reader.signed 16 (b1.toNat * 256 + b2.toNat)) && Nat.beq len 3 | _ => false)
  | .if_acmp q n => (match b with | b0 :: b1 :: b2 :: _ => Nat.beq b0.toNat (match q with | .eq => 165 | .ne => 166) && decide (n = Jvm.ClassFile.Reader.signed 16 (b1.toNat * 256 + b2.toNat)) && Nat.beq len 3 | _ => false)
  | .goto n => (match b with | b0 :: b1 :: b2 :: _ => Nat.beq b0.toNat 167 && decide (n = Jvm.ClassFile.Reader.signed 16 (b1.toNat * 256 + b2.toNat)) && Nat.beq len 3 | _ => false)
  | .getstatic n => (match b with | b0 :: b1 :: b2 :: _ => Nat.beq b0.toNat 178 && Nat.beq n (b1.toNat * 256 + b2.toNat) && Nat.beq len 3 | _ => false)
  | .getfield n => (match b with | b0 :: b1 :: b2 :: _ => Nat.beq b0.toNat 180 && Nat.beq n (b1.toNat * 256 + b2.toNat) && Nat.beq len 3 | _ => false)
  | .putfield n => (match b with | b0 :: b1 :: b2 :: _ => Nat.beq b0.toNat 181 && Nat.beq n (b1.toNat * 256 + b2.toNat) && Nat.beq len 3 | _ => false)
  | .invokevirtual n => (match b with | b0 :: b1 :: b2 :: _ => Nat.beq b0.toNat 182 && Nat.beq n (b1.toNat * 256 + b2.toNat) && Nat.beq len 3 | _ => false)
  | .invokespecial n => (match b with | b0 :: b1 :: b2 :: _ => Nat.beq b0.toNat 183 && Nat.beq n (b1.toNat * 256 + b2.toNat) && Nat.beq len 3 | _ => false)
  | .invokestatic n => (match b with | b0 :: b1 :: b2 :: _ => Nat.beq b0.toNat 184 && Nat.beq n (b1.toNat * 256 + b2.toNat) && Nat.beq len 3 | _ => false)
  | .new n => (match b with | b0 :: b1 :: b2 :: _ => Nat.beq b0.toNat 187 && Nat.beq n (b1.toNat * 256 + b2.toNat) && Nat.beq len 3 | _ => false)
  | .anewarray n => (match b with | b0 :: b1 :: b2 :: _ => Nat.beq b0.toNat 189 && Nat.beq n (b1.toNat * 256 + b2.toNat) && Nat.beq len 3 | _ => false)
  | .checkcast n => (match b with | b0 :: b1 :: b2 :: _ => Nat.beq b0.toNat 192 && Nat.beq n (b1.toNat * 256 + b2.toNat) && Nat.beq len 3 | _ => false)
  | .ifnull n => (match b with | b0 :: b1 :: b2 :: _ => Nat.beq b0.toNat 198 && decide (n = Jvm.ClassFile.Reader.signed 16 (b1.toNat * 256 + b2.toNat)) && Nat.beq len 3 | _ => false)
  | .ifnonnull n => (match b with | b0 :: b1 :: b2 :: _ => Nat.beq b0.toNat 199 && decide (n = Jvm.ClassFile.Reader.signed 16 (b1.toNat * 256 + b2.toNat)) && Nat.beq len 3 | _ => false)
  | .iinc n k => (match b with | b0 :: b1 :: b2 :: _ => Nat.beq b0.toNat 132 && Nat.beq n b1.toNat && decide (k = Jvm.ClassFile.Reader.signed 8 b2.toNat) && Nat.beq len 3 | _ => false)
  | .newarray t => (match b with | b0 :: b1 :: _ => Nat.beq b0.toNat 188 && Nat.beq len 2 && (match t with | .boolean => Nat.beq b1.toNat 4 | .byte => Nat.beq b1.toNat 8 | .int => Nat.beq b1.toNat 10 | .long => Nat.beq b1.toNat 11 | _ => false) | _ => false)
  | _ => false
theorem u8eq {b : UInt8} {n : Nat} (h : Nat.beq b.toNat n = true) : b = UInt8.ofNat n := by
  rw [← Nat.eq_of_beq_eq_true h]; simp
theorem sgl {c : ByteArray} {pc k : Nat} {b : UInt8} {l r : List UInt8} (h : ∀ j, c[pc + j]? = (l ++ b :: r)[j]?) (hk : l.length = k) : c[pc + k]? = some b := by
  rw [h k, ← hk]; simp
section CKI
variable {c : ByteArray} {pc len : Nat} {i : Instr} {b : List UInt8}
set_option maxHeartbeats 4000000 in
theorem ckI_ok (hb : ∀ j, c[pc + j]? = b[j]?) (h : ckI i len b = true) : decode c pc = .ok (i, len) := by
  unfold ckI at h
  cases i <;> first | cases h | skip
  case iconst n =>
    rcases b with _ | ⟨b0, r⟩
    · cases h
    · simp only [Bool.and_eq_true, decide_eq_true_eq] at h
      obtain ⟨⟨⟨g1, g2⟩, g3⟩, g4⟩ := h
      have h0 : c[pc]? = some b0 := hb 0
      have g1 := Nat.le_of_ble_eq_true g1
      have g2 := Nat.le_of_ble_eq_true g2
      cases Nat.eq_of_beq_eq_true g4
      have hv : b0.toNat = 2 ∨ b0.toNat = 3 ∨ b0.toNat = 4 ∨ b0.toNat = 5 ∨ b0.toNat = 6 ∨ b0.toNat = 7 ∨ b0.toNat = 8 := by omega
      rcases hv with hv | hv | hv | hv | hv | hv | hv
      · rw [hv] at g3; subst g3; have : b0 = 2 := by rw [u8eq (Nat.beq_eq ▸ hv : Nat.beq b0.toNat 2 = true)]; rfl
        subst this; exact dc2 h0
      · rw [hv] at g3; subst g3; have : b0 = 3 := by rw [u8eq (Nat.beq_eq ▸ hv : Nat.beq b0.toNat 3 = true)]; rfl
        subst this; exact dc3 h0
      · rw [hv] at g3; subst g3; have : b0 = 4 := by rw [u8eq (Nat.beq_eq ▸ hv : Nat.beq b0.toNat 4 = true)]; rfl
        subst this; exact dc4 h0
      · rw [hv] at g3; subst g3; have : b0 = 5 := by rw [u8eq (Nat.beq_eq ▸ hv : Nat.beq b0.toNat 5 = true)]; rfl
        subst this; exact dc5 h0
      · rw [hv] at g3; subst g3; have : b0 = 6 := by rw [u8eq (Nat.beq_eq ▸ hv : Nat.beq b0.toNat 6 = true)]; rfl
        subst this; exact dc6 h0
      · rw [hv] at g3; subst g3; have : b0 = 7 := by rw [u8eq (Nat.beq_eq ▸ hv : Nat.beq b0.toNat 7 = true)]; rfl
        subst this; exact dc7 h0
      · rw [hv] at g3; subst g3; have : b0 = 8 := by rw [u8eq (Nat.beq_eq ▸ hv : Nat.beq b0.toNat 8 = true)]; rfl
        subst this; exact dc8 h0
  case aconst_null =>
    rcases b with _ | ⟨b0, r⟩
    · cases h
    · simp only [Bool.and_eq_true] at h
      obtain ⟨g1, g2⟩ := h
      have h0 : c[pc]? = some b0 := hb 0
      cases Nat.eq_of_beq_eq_true g2
      cases u8eq g1
      exact dc1 h0
  case lconst n =>
    rcases b with _ | ⟨b0, r⟩
    · cases h
    · simp only [Bool.and_eq_true] at h
      obtain ⟨g1, g2⟩ := h
      have h0 : c[pc]? = some b0 := hb 0
      cases Nat.eq_of_beq_eq_true g2
      have g1 := Nat.eq_of_beq_eq_true g1
      have hb0 : b0 = UInt8.ofNat (n.val + 9) := by rw [g1]; simp
      obtain ⟨v, hv⟩ := n
      have hv2 : v = 0 ∨ v = 1 := by omega
      rcases hv2 with rfl | rfl
      · subst hb0; exact dc9 h0
      · subst hb0; exact dc10 h0
  case bipush n =>
    rcases b with _ | ⟨b0, _ | ⟨b1, r⟩⟩
    · cases h
    · cases h
    · simp only [Bool.and_eq_true, decide_eq_true_eq] at h
      obtain ⟨⟨g1, g2⟩, g3⟩ := h
      have h0 : c[pc]? = some b0 := hb 0
      have h1 : c[pc + 1]? = some b1 := hb 1
      cases Nat.eq_of_beq_eq_true g3
      cases u8eq g1
      subst g2
      exact dc16 h0 h1
  case sipush n =>
    rcases b with _ | ⟨b0, _ | ⟨b1, _ | ⟨b2, r⟩⟩⟩
    · cases h
    · cases h
    · cases h
    · simp only [Bool.and_eq_true, decide_eq_true_eq] at h
      obtain ⟨⟨g1, g2⟩, g3⟩ := h
      have h0 : c[pc]? = some b0 := hb 0
      have h1 : c[pc + 1]? = some b1 := hb 1
      have h2 : c[pc + 2]? = some b2 := hb 2
      cases Nat.eq_of_beq_eq_true g3
      cases u8eq g1
      subst g2
      exact dc17 h0 h1 h2
  case ldc n =>
    rcases b with _ | ⟨b0, _ | ⟨b1, r⟩⟩
    · cases h
    · cases h
    · simp only [Bool.and_eq_true, decide_eq_true_eq] at h
      obtain ⟨⟨g1, g2⟩, g3⟩ := h
      have h0 : c[pc]? = some b0 := hb 0
      have h1 : c[pc + 1]? = some b1 := hb 1
      cases Nat.eq_of_beq_eq_true g3
      cases u8eq g1
      cases Nat.eq_of_beq_eq_true g2
      exact dc18 h0 h1
  case ldc_w n =>
    rcases b with _ | ⟨b0, _ | ⟨b1, _ | ⟨b2, r⟩⟩⟩
    · cases h
    · cases h
    · cases h
    · simp only [Bool.and_eq_true, decide_eq_true_eq] at h
      obtain ⟨⟨g1, g2⟩, g3⟩ := h
      have h0 : c[pc]? = some b0 := hb 0
      have h1 : c[pc + 1]? = some b1 := hb 1
      have h2 : c[pc + 2]? = some b2 := hb 2
      cases Nat.eq_of_beq_eq_true g3
      cases u8eq g1
      cases Nat.eq_of_beq_eq_true g2
      exact dc19 h0 h1 h2
  case ldc2_w n =>
    rcases b with _ | ⟨b0, _ | ⟨b1, _ | ⟨b2, r⟩⟩⟩
    · cases h
    · cases h
    · cases h
    · simp only [Bool.and_eq_true, decide_eq_true_eq] at h
      obtain ⟨⟨g1, g2⟩, g3⟩ := h
      have h0 : c[pc]? = some b0 := hb 0
      have h1 : c[pc + 1]? = some b1 := hb 1
      have h2 : c[pc + 2]? = some b2 := hb 2
      cases Nat.eq_of_beq_eq_true g3
      cases u8eq g1
      cases Nat.eq_of_beq_eq_true g2
      exact dc20 h0 h1 h2
  case iload n =>
    rcases b with _ | ⟨b0, _ | ⟨b1, r⟩⟩
    · cases h
    · cases h
    · simp only [Bool.and_eq_true, decide_eq_true_eq] at h
      obtain ⟨⟨g1, g2⟩, g3⟩ := h
      have h0 : c[pc]? = some b0 := hb 0
      have h1 : c[pc + 1]? = some b1 := hb 1
      cases Nat.eq_of_beq_eq_true g3
      cases u8eq g1
      cases Nat.eq_of_beq_eq_true g2
      exact dc21 h0 h1
  case lload n =>
    rcases b with _ | ⟨b0, _ | ⟨b1, r⟩⟩
    · cases h
    · cases h
    · simp only [Bool.and_eq_true, decide_eq_true_eq] at h
      obtain ⟨⟨g1, g2⟩, g3⟩ := h
      have h0 : c[pc]? = some b0 := hb 0
      have h1 : c[pc + 1]? = some b1 := hb 1
      cases Nat.eq_of_beq_eq_true g3
      cases u8eq g1
      cases Nat.eq_of_beq_eq_true g2
      exact dc22 h0 h1
  case aload n =>
    rcases b with _ | ⟨b0, _ | ⟨b1, r⟩⟩
    · cases h
    · cases h
    · simp only [Bool.and_eq_true, decide_eq_true_eq] at h
      obtain ⟨⟨g1, g2⟩, g3⟩ := h
      have h0 : c[pc]? = some b0 := hb 0
      have h1 : c[pc + 1]? = some b1 := hb 1
      cases Nat.eq_of_beq_eq_true g3
      cases u8eq g1
      cases Nat.eq_of_beq_eq_true g2
      exact dc25 h0 h1
  case iload_n n =>
    rcases b with _ | ⟨b0, r⟩
    · cases h
    · simp only [Bool.and_eq_true] at h
      obtain ⟨g1, g2⟩ := h
      have h0 : c[pc]? = some b0 := hb 0
      cases Nat.eq_of_beq_eq_true g2
      have g1 := Nat.eq_of_beq_eq_true g1
      have hb0 : b0 = UInt8.ofNat (n.val + 26) := by rw [g1]; simp
      obtain ⟨v, hv⟩ := n
      have hv2 : v = 0 ∨ v = 1 ∨ v = 2 ∨ v = 3 := by omega
      rcases hv2 with rfl | rfl | rfl | rfl
      · subst hb0; exact dc26 h0
      · subst hb0; exact dc27 h0
      · subst hb0; exact dc28 h0
      · subst hb0; exact dc29 h0
  case lload_n n =>
    rcases b with _ | ⟨b0, r⟩
    · cases h
    · simp only [Bool.and_eq_true] at h
      obtain ⟨g1, g2⟩ := h
      have h0 : c[pc]? = some b0 := hb 0
      cases Nat.eq_of_beq_eq_true g2
      have g1 := Nat.eq_of_beq_eq_true g1
      have hb0 : b0 = UInt8.ofNat (n.val + 30) := by rw [g1]; simp
      obtain ⟨v, hv⟩ := n
      have hv2 : v = 0 ∨ v = 1 ∨ v = 2 ∨ v = 3 := by omega
      rcases hv2 with rfl | rfl | rfl | rfl
      · subst hb0; exact dc30 h0
      · subst hb0; exact dc31 h0
      · subst hb0; exact dc32 h0
      · subst hb0; exact dc33 h0
  case aload_n n =>
    rcases b with _ | ⟨b0, r⟩
    · cases h
    · simp only [Bool.and_eq_true] at h
      obtain ⟨g1, g2⟩ := h
      have h0 : c[pc]? = some b0 := hb 0
      cases Nat.eq_of_beq_eq_true g2
      have g1 := Nat.eq_of_beq_eq_true g1
      have hb0 : b0 = UInt8.ofNat (n.val + 42) := by rw [g1]; simp
      obtain ⟨v, hv⟩ := n
      have hv2 : v = 0 ∨ v = 1 ∨ v = 2 ∨ v = 3 := by omega
      rcases hv2 with rfl | rfl | rfl | rfl
      · subst hb0; exact dc42 h0
      · subst hb0; exact dc43 h0
      · subst hb0; exact dc44 h0
      · subst hb0; exact dc45 h0
  case istore_n n =>
    rcases b with _ | ⟨b0, r⟩
    · cases h
    · simp only [Bool.and_eq_true] at h
      obtain ⟨g1, g2⟩ := h
      have h0 : c[pc]? = some b0 := hb 0
      cases Nat.eq_of_beq_eq_true g2
      have g1 := Nat.eq_of_beq_eq_true g1
      have hb0 : b0 = UInt8.ofNat (n.val + 59) := by rw [g1]; simp
      obtain ⟨v, hv⟩ := n
      have hv2 : v = 0 ∨ v = 1 ∨ v = 2 ∨ v = 3 := by omega
      rcases hv2 with rfl | rfl | rfl | rfl
      · subst hb0; exact dc59 h0
      · subst hb0; exact dc60 h0
      · subst hb0; exact dc61 h0
      · subst hb0; exact dc62 h0
  case lstore_n n =>
    rcases b with _ | ⟨b0, r⟩
    · cases h
    · simp only [Bool.and_eq_true] at h
      obtain ⟨g1, g2⟩ := h
      have h0 : c[pc]? = some b0 := hb 0
      cases Nat.eq_of_beq_eq_true g2
      have g1 := Nat.eq_of_beq_eq_true g1
      have hb0 : b0 = UInt8.ofNat (n.val + 63) := by rw [g1]; simp
      obtain ⟨v, hv⟩ := n
      have hv2 : v = 0 ∨ v = 1 ∨ v = 2 ∨ v = 3 := by omega
      rcases hv2 with rfl | rfl | rfl | rfl
      · subst hb0; exact dc63 h0
      · subst hb0; exact dc64 h0
      · subst hb0; exact dc65 h0
      · subst hb0; exact dc66 h0
  case astore_n n =>
    rcases b with _ | ⟨b0, r⟩
    · cases h
    · simp only [Bool.and_eq_true] at h
      obtain ⟨g1, g2⟩ := h
      have h0 : c[pc]? = some b0 := hb 0
      cases Nat.eq_of_beq_eq_true g2
      have g1 := Nat.eq_of_beq_eq_true g1
      have hb0 : b0 = UInt8.ofNat (n.val + 75) := by rw [g1]; simp
      obtain ⟨v, hv⟩ := n
      have hv2 : v = 0 ∨ v = 1 ∨ v = 2 ∨ v = 3 := by omega
      rcases hv2 with rfl | rfl | rfl | rfl
      · subst hb0; exact dc75 h0
      · subst hb0; exact dc76 h0
      · subst hb0; exact dc77 h0
      · subst hb0; exact dc78 h0
  case iaload =>
    rcases b with _ | ⟨b0, r⟩
    · cases h
    · simp only [Bool.and_eq_true] at h
      obtain ⟨g1, g2⟩ := h
      have h0 : c[pc]? = some b0 := hb 0
      cases Nat.eq_of_beq_eq_true g2
      cases u8eq g1
      exact dc46 h0
  case laload =>
    rcases b with _ | ⟨b0, r⟩
    · cases h
    · simp only [Bool.and_eq_true] at h
      obtain ⟨g1, g2⟩ := h
      have h0 : c[pc]? = some b0 := hb 0
      cases Nat.eq_of_beq_eq_true g2
      cases u8eq g1
      exact dc47 h0
  case aaload =>
    rcases b with _ | ⟨b0, r⟩
    · cases h
    · simp only [Bool.and_eq_true] at h
      obtain ⟨g1, g2⟩ := h
      have h0 : c[pc]? = some b0 := hb 0
      cases Nat.eq_of_beq_eq_true g2
      cases u8eq g1
      exact dc50 h0
  case baload =>
    rcases b with _ | ⟨b0, r⟩
    · cases h
    · simp only [Bool.and_eq_true] at h
      obtain ⟨g1, g2⟩ := h
      have h0 : c[pc]? = some b0 := hb 0
      cases Nat.eq_of_beq_eq_true g2
      cases u8eq g1
      exact dc51 h0
  case iastore =>
    rcases b with _ | ⟨b0, r⟩
    · cases h
    · simp only [Bool.and_eq_true] at h
      obtain ⟨g1, g2⟩ := h
      have h0 : c[pc]? = some b0 := hb 0
      cases Nat.eq_of_beq_eq_true g2
      cases u8eq g1
      exact dc79 h0
  case lastore =>
    rcases b with _ | ⟨b0, r⟩
    · cases h
    · simp only [Bool.and_eq_true] at h
      obtain ⟨g1, g2⟩ := h
      have h0 : c[pc]? = some b0 := hb 0
      cases Nat.eq_of_beq_eq_true g2
      cases u8eq g1
      exact dc80 h0
  case aastore =>
    rcases b with _ | ⟨b0, r⟩
    · cases h
    · simp only [Bool.and_eq_true] at h
      obtain ⟨g1, g2⟩ := h
      have h0 : c[pc]? = some b0 := hb 0
      cases Nat.eq_of_beq_eq_true g2
      cases u8eq g1
      exact dc83 h0
  case bastore =>
    rcases b with _ | ⟨b0, r⟩
    · cases h
    · simp only [Bool.and_eq_true] at h
      obtain ⟨g1, g2⟩ := h
      have h0 : c[pc]? = some b0 := hb 0
      cases Nat.eq_of_beq_eq_true g2
      cases u8eq g1
      exact dc84 h0
  case pop =>
    rcases b with _ | ⟨b0, r⟩
    · cases h
    · simp only [Bool.and_eq_true] at h
      obtain ⟨g1, g2⟩ := h
      have h0 : c[pc]? = some b0 := hb 0
      cases Nat.eq_of_beq_eq_true g2
      cases u8eq g1
      exact dc87 h0
  case dup =>
    rcases b with _ | ⟨b0, r⟩
    · cases h
    · simp only [Bool.and_eq_true] at h
      obtain ⟨g1, g2⟩ := h
      have h0 : c[pc]? = some b0 := hb 0
      cases Nat.eq_of_beq_eq_true g2
      cases u8eq g1
      exact dc89 h0
  case dup_x1 =>
    rcases b with _ | ⟨b0, r⟩
    · cases h
    · simp only [Bool.and_eq_true] at h
      obtain ⟨g1, g2⟩ := h
      have h0 : c[pc]? = some b0 := hb 0
      cases Nat.eq_of_beq_eq_true g2
      cases u8eq g1
      exact dc90 h0
  case dup2 =>
    rcases b with _ | ⟨b0, r⟩
    · cases h
    · simp only [Bool.and_eq_true] at h
      obtain ⟨g1, g2⟩ := h
      have h0 : c[pc]? = some b0 := hb 0
      cases Nat.eq_of_beq_eq_true g2
      cases u8eq g1
      exact dc92 h0
  case iadd =>
    rcases b with _ | ⟨b0, r⟩
    · cases h
    · simp only [Bool.and_eq_true] at h
      obtain ⟨g1, g2⟩ := h
      have h0 : c[pc]? = some b0 := hb 0
      cases Nat.eq_of_beq_eq_true g2
      cases u8eq g1
      exact dc96 h0
  case ladd =>
    rcases b with _ | ⟨b0, r⟩
    · cases h
    · simp only [Bool.and_eq_true] at h
      obtain ⟨g1, g2⟩ := h
      have h0 : c[pc]? = some b0 := hb 0
      cases Nat.eq_of_beq_eq_true g2
      cases u8eq g1
      exact dc97 h0
  case isub =>
    rcases b with _ | ⟨b0, r⟩
    · cases h
    · simp only [Bool.and_eq_true] at h
      obtain ⟨g1, g2⟩ := h
      have h0 : c[pc]? = some b0 := hb 0
      cases Nat.eq_of_beq_eq_true g2
      cases u8eq g1
      exact dc100 h0
  case lsub =>
    rcases b with _ | ⟨b0, r⟩
    · cases h
    · simp only [Bool.and_eq_true] at h
      obtain ⟨g1, g2⟩ := h
      have h0 : c[pc]? = some b0 := hb 0
      cases Nat.eq_of_beq_eq_true g2
      cases u8eq g1
      exact dc101 h0
  case imul =>
    rcases b with _ | ⟨b0, r⟩
    · cases h
    · simp only [Bool.and_eq_true] at h
      obtain ⟨g1, g2⟩ := h
      have h0 : c[pc]? = some b0 := hb 0
      cases Nat.eq_of_beq_eq_true g2
      cases u8eq g1
      exact dc104 h0
  case lmul =>
    rcases b with _ | ⟨b0, r⟩
    · cases h
    · simp only [Bool.and_eq_true] at h
      obtain ⟨g1, g2⟩ := h
      have h0 : c[pc]? = some b0 := hb 0
      cases Nat.eq_of_beq_eq_true g2
      cases u8eq g1
      exact dc105 h0
  case idiv =>
    rcases b with _ | ⟨b0, r⟩
    · cases h
    · simp only [Bool.and_eq_true] at h
      obtain ⟨g1, g2⟩ := h
      have h0 : c[pc]? = some b0 := hb 0
      cases Nat.eq_of_beq_eq_true g2
      cases u8eq g1
      exact dc108 h0
  case ldiv =>
    rcases b with _ | ⟨b0, r⟩
    · cases h
    · simp only [Bool.and_eq_true] at h
      obtain ⟨g1, g2⟩ := h
      have h0 : c[pc]? = some b0 := hb 0
      cases Nat.eq_of_beq_eq_true g2
      cases u8eq g1
      exact dc109 h0
  case irem =>
    rcases b with _ | ⟨b0, r⟩
    · cases h
    · simp only [Bool.and_eq_true] at h
      obtain ⟨g1, g2⟩ := h
      have h0 : c[pc]? = some b0 := hb 0
      cases Nat.eq_of_beq_eq_true g2
      cases u8eq g1
      exact dc112 h0
  case lrem =>
    rcases b with _ | ⟨b0, r⟩
    · cases h
    · simp only [Bool.and_eq_true] at h
      obtain ⟨g1, g2⟩ := h
      have h0 : c[pc]? = some b0 := hb 0
      cases Nat.eq_of_beq_eq_true g2
      cases u8eq g1
      exact dc113 h0
  case ineg =>
    rcases b with _ | ⟨b0, r⟩
    · cases h
    · simp only [Bool.and_eq_true] at h
      obtain ⟨g1, g2⟩ := h
      have h0 : c[pc]? = some b0 := hb 0
      cases Nat.eq_of_beq_eq_true g2
      cases u8eq g1
      exact dc116 h0
  case lneg =>
    rcases b with _ | ⟨b0, r⟩
    · cases h
    · simp only [Bool.and_eq_true] at h
      obtain ⟨g1, g2⟩ := h
      have h0 : c[pc]? = some b0 := hb 0
      cases Nat.eq_of_beq_eq_true g2
      cases u8eq g1
      exact dc117 h0
  case ishl =>
    rcases b with _ | ⟨b0, r⟩
    · cases h
    · simp only [Bool.and_eq_true] at h
      obtain ⟨g1, g2⟩ := h
      have h0 : c[pc]? = some b0 := hb 0
      cases Nat.eq_of_beq_eq_true g2
      cases u8eq g1
      exact dc120 h0
  case lshl =>
    rcases b with _ | ⟨b0, r⟩
    · cases h
    · simp only [Bool.and_eq_true] at h
      obtain ⟨g1, g2⟩ := h
      have h0 : c[pc]? = some b0 := hb 0
      cases Nat.eq_of_beq_eq_true g2
      cases u8eq g1
      exact dc121 h0
  case ishr =>
    rcases b with _ | ⟨b0, r⟩
    · cases h
    · simp only [Bool.and_eq_true] at h
      obtain ⟨g1, g2⟩ := h
      have h0 : c[pc]? = some b0 := hb 0
      cases Nat.eq_of_beq_eq_true g2
      cases u8eq g1
      exact dc122 h0
  case lshr =>
    rcases b with _ | ⟨b0, r⟩
    · cases h
    · simp only [Bool.and_eq_true] at h
      obtain ⟨g1, g2⟩ := h
      have h0 : c[pc]? = some b0 := hb 0
      cases Nat.eq_of_beq_eq_true g2
      cases u8eq g1
      exact dc123 h0
  case iand =>
    rcases b with _ | ⟨b0, r⟩
    · cases h
    · simp only [Bool.and_eq_true] at h
      obtain ⟨g1, g2⟩ := h
      have h0 : c[pc]? = some b0 := hb 0
      cases Nat.eq_of_beq_eq_true g2
      cases u8eq g1
      exact dc126 h0
  case land =>
    rcases b with _ | ⟨b0, r⟩
    · cases h
    · simp only [Bool.and_eq_true] at h
      obtain ⟨g1, g2⟩ := h
      have h0 : c[pc]? = some b0 := hb 0
      cases Nat.eq_of_beq_eq_true g2
      cases u8eq g1
      exact dc127 h0
  case ior =>
    rcases b with _ | ⟨b0, r⟩
    · cases h
    · simp only [Bool.and_eq_true] at h
      obtain ⟨g1, g2⟩ := h
      have h0 : c[pc]? = some b0 := hb 0
      cases Nat.eq_of_beq_eq_true g2
      cases u8eq g1
      exact dc128 h0
  case lor =>
    rcases b with _ | ⟨b0, r⟩
    · cases h
    · simp only [Bool.and_eq_true] at h
      obtain ⟨g1, g2⟩ := h
      have h0 : c[pc]? = some b0 := hb 0
      cases Nat.eq_of_beq_eq_true g2
      cases u8eq g1
      exact dc129 h0
  case ixor =>
    rcases b with _ | ⟨b0, r⟩
    · cases h
    · simp only [Bool.and_eq_true] at h
      obtain ⟨g1, g2⟩ := h
      have h0 : c[pc]? = some b0 := hb 0
      cases Nat.eq_of_beq_eq_true g2
      cases u8eq g1
      exact dc130 h0
  case lxor =>
    rcases b with _ | ⟨b0, r⟩
    · cases h
    · simp only [Bool.and_eq_true] at h
      obtain ⟨g1, g2⟩ := h
      have h0 : c[pc]? = some b0 := hb 0
      cases Nat.eq_of_beq_eq_true g2
      cases u8eq g1
      exact dc131 h0
  case i2l =>
    rcases b with _ | ⟨b0, r⟩
    · cases h
    · simp only [Bool.and_eq_true] at h
      obtain ⟨g1, g2⟩ := h
      have h0 : c[pc]? = some b0 := hb 0
      cases Nat.eq_of_beq_eq_true g2
      cases u8eq g1
      exact dc133 h0
  case l2i =>
    rcases b with _ | ⟨b0, r⟩
    · cases h
    · simp only [Bool.and_eq_true] at h
      obtain ⟨g1, g2⟩ := h
      have h0 : c[pc]? = some b0 := hb 0
      cases Nat.eq_of_beq_eq_true g2
      cases u8eq g1
      exact dc136 h0
  case i2b =>
    rcases b with _ | ⟨b0, r⟩
    · cases h
    · simp only [Bool.and_eq_true] at h
      obtain ⟨g1, g2⟩ := h
      have h0 : c[pc]? = some b0 := hb 0
      cases Nat.eq_of_beq_eq_true g2
      cases u8eq g1
      exact dc145 h0
  case i2c =>
    rcases b with _ | ⟨b0, r⟩
    · cases h
    · simp only [Bool.and_eq_true] at h
      obtain ⟨g1, g2⟩ := h
      have h0 : c[pc]? = some b0 := hb 0
      cases Nat.eq_of_beq_eq_true g2
      cases u8eq g1
      exact dc146 h0
  case lcmp =>
    rcases b with _ | ⟨b0, r⟩
    · cases h
    · simp only [Bool.and_eq_true] at h
      obtain ⟨g1, g2⟩ := h
      have h0 : c[pc]? = some b0 := hb 0
      cases Nat.eq_of_beq_eq_true g2
      cases u8eq g1
      exact dc148 h0
  case ireturn =>
    rcases b with _ | ⟨b0, r⟩
    · cases h
    · simp only [Bool.and_eq_true] at h
      obtain ⟨g1, g2⟩ := h
      have h0 : c[pc]? = some b0 := hb 0
      cases Nat.eq_of_beq_eq_true g2
      cases u8eq g1
      exact dc172 h0
  case lreturn =>
    rcases b with _ | ⟨b0, r⟩
    · cases h
    · simp only [Bool.and_eq_true] at h
      obtain ⟨g1, g2⟩ := h
      have h0 : c[pc]? = some b0 := hb 0
      cases Nat.eq_of_beq_eq_true g2
      cases u8eq g1
      exact dc173 h0
  case areturn =>
    rcases b with _ | ⟨b0, r⟩
    · cases h
    · simp only [Bool.and_eq_true] at h
      obtain ⟨g1, g2⟩ := h
      have h0 : c[pc]? = some b0 := hb 0
      cases Nat.eq_of_beq_eq_true g2
      cases u8eq g1
      exact dc176 h0
  case return_ =>
    rcases b with _ | ⟨b0, r⟩
    · cases h
    · simp only [Bool.and_eq_true] at h
      obtain ⟨g1, g2⟩ := h
      have h0 : c[pc]? = some b0 := hb 0
      cases Nat.eq_of_beq_eq_true g2
      cases u8eq g1
      exact dc177 h0
  case arraylength =>
    rcases b with _ | ⟨b0, r⟩
    · cases h
    · simp only [Bool.and_eq_true] at h
      obtain ⟨g1, g2⟩ := h
      have h0 : c[pc]? = some b0 := hb 0
      cases Nat.eq_of_beq_eq_true g2
      cases u8eq g1
      exact dc190 h0
  case athrow =>
    rcases b with _ | ⟨b0, r⟩
    · cases h
    · simp only [Bool.and_eq_true] at h
      obtain ⟨g1, g2⟩ := h
      have h0 : c[pc]? = some b0 := hb 0
      cases Nat.eq_of_beq_eq_true g2
      cases u8eq g1
      exact dc191 h0
  case istore n =>
    rcases b with _ | ⟨b0, _ | ⟨b1, r⟩⟩
    · cases h
    · cases h
    · simp only [Bool.and_eq_true, decide_eq_true_eq] at h
      obtain ⟨⟨g1, g2⟩, g3⟩ := h
      have h0 : c[pc]? = some b0 := hb 0
      have h1 : c[pc + 1]? = some b1 := hb 1
      cases Nat.eq_of_beq_eq_true g3
      cases u8eq g1
      cases Nat.eq_of_beq_eq_true g2
      exact dc54 h0 h1
  case lstore n =>
    rcases b with _ | ⟨b0, _ | ⟨b1, r⟩⟩
    · cases h
    · cases h
    · simp only [Bool.and_eq_true, decide_eq_true_eq] at h
      obtain ⟨⟨g1, g2⟩, g3⟩ := h
      have h0 : c[pc]? = some b0 := hb 0
      have h1 : c[pc + 1]? = some b1 := hb 1
      cases Nat.eq_of_beq_eq_true g3
      cases u8eq g1
      cases Nat.eq_of_beq_eq_true g2
      exact dc55 h0 h1
  case astore n =>
    rcases b with _ | ⟨b0, _ | ⟨b1, r⟩⟩
    · cases h
    · cases h
    · simp only [Bool.and_eq_true, decide_eq_true_eq] at h
      obtain ⟨⟨g1, g2⟩, g3⟩ := h
      have h0 : c[pc]? = some b0 := hb 0
      have h1 : c[pc + 1]? = some b1 := hb 1
      cases Nat.eq_of_beq_eq_true g3
      cases u8eq g1
      cases Nat.eq_of_beq_eq_true g2
      exact dc58 h0 h1
  case ifCond q n =>
    rcases b with _ | ⟨b0, _ | ⟨b1, _ | ⟨b2, r⟩⟩⟩
    · cases h
    · cases h
    · cases h
    · simp only [Bool.and_eq_true, decide_eq_true_eq] at h
      obtain ⟨⟨g1, g2⟩, g3⟩ := h
      have h0 : c[pc]? = some b0 := hb 0
      have h1 : c[pc + 1]? = some b1 := hb 1
      have h2 : c[pc + 2]? = some b2 := hb 2
      cases Nat.eq_of_beq_eq_true g3
      subst g2
      cases q
      case eq => cases u8eq g1; exact dc153 h0 h1 h2
      case ne => cases u8eq g1; exact dc154 h0 h1 h2
      case lt => cases u8eq g1; exact dc155 h0 h1 h2
      case ge => cases u8eq g1; exact dc156 h0 h1 h2
      case gt => cases u8eq g1; exact dc157 h0 h1 h2
      case le => cases u8eq g1; exact dc158 h0 h1 h2
  case if_icmp q n =>
    rcases b with _ | ⟨b0, _ | ⟨b1, _ | ⟨b2, r⟩⟩⟩
    · cases h
    · cases h
    · cases h
    · simp only [Bool.and_eq_true, decide_eq_true_eq] at h
      obtain ⟨⟨g1, g2⟩, g3⟩ := h
      have h0 : c[pc]? = some b0 := hb 0
      have h1 : c[pc + 1]? = some b1 := hb 1
      have h2 : c[pc + 2]? = some b2 := hb 2
      cases Nat.eq_of_beq_eq_true g3
      subst g2
      cases q
      case eq => cases u8eq g1; exact dc159 h0 h1 h2
      case ne => cases u8eq g1; exact dc160 h0 h1 h2
      case lt => cases u8eq g1; exact dc161 h0 h1 h2
      case ge => cases u8eq g1; exact dc162 h0 h1 h2
      case gt => cases u8eq g1; exact dc163 h0 h1 h2
      case le => cases u8eq g1; exact dc164 h0 h1 h2
  case if_acmp q n =>
    rcases b with _ | ⟨b0, _ | ⟨b1, _ | ⟨b2, r⟩⟩⟩
    · cases h
    · cases h
    · cases h
    · simp only [Bool.and_eq_true, decide_eq_true_eq] at h
      obtain ⟨⟨g1, g2⟩, g3⟩ := h
      have h0 : c[pc]? = some b0 := hb 0
      have h1 : c[pc + 1]? = some b1 := hb 1
      have h2 : c[pc + 2]? = some b2 := hb 2
      cases Nat.eq_of_beq_eq_true g3
      subst g2
      cases q
      case eq => cases u8eq g1; exact dc165 h0 h1 h2
      case ne => cases u8eq g1; exact dc166 h0 h1 h2
  case goto n =>
    rcases b with _ | ⟨b0, _ | ⟨b1, _ | ⟨b2, r⟩⟩⟩
    · cases h
    · cases h
    · cases h
    · simp only [Bool.and_eq_true, decide_eq_true_eq] at h
      obtain ⟨⟨g1, g2⟩, g3⟩ := h
      have h0 : c[pc]? = some b0 := hb 0
      have h1 : c[pc + 1]? = some b1 := hb 1
      have h2 : c[pc + 2]? = some b2 := hb 2
      cases Nat.eq_of_beq_eq_true g3
      cases u8eq g1
      subst g2
      exact dc167 h0 h1 h2
  case getstatic n =>
    rcases b with _ | ⟨b0, _ | ⟨b1, _ | ⟨b2, r⟩⟩⟩
    · cases h
    · cases h
    · cases h
    · simp only [Bool.and_eq_true, decide_eq_true_eq] at h
      obtain ⟨⟨g1, g2⟩, g3⟩ := h
      have h0 : c[pc]? = some b0 := hb 0
      have h1 : c[pc + 1]? = some b1 := hb 1
      have h2 : c[pc + 2]? = some b2 := hb 2
      cases Nat.eq_of_beq_eq_true g3
      cases u8eq g1
      cases Nat.eq_of_beq_eq_true g2
      exact dc178 h0 h1 h2
  case getfield n =>
    rcases b with _ | ⟨b0, _ | ⟨b1, _ | ⟨b2, r⟩⟩⟩
    · cases h
    · cases h
    · cases h
    · simp only [Bool.and_eq_true, decide_eq_true_eq] at h
      obtain ⟨⟨g1, g2⟩, g3⟩ := h
      have h0 : c[pc]? = some b0 := hb 0
      have h1 : c[pc + 1]? = some b1 := hb 1
      have h2 : c[pc + 2]? = some b2 := hb 2
      cases Nat.eq_of_beq_eq_true g3
      cases u8eq g1
      cases Nat.eq_of_beq_eq_true g2
      exact dc180 h0 h1 h2
  case putfield n =>
    rcases b with _ | ⟨b0, _ | ⟨b1, _ | ⟨b2, r⟩⟩⟩
    · cases h
    · cases h
    · cases h
    · simp only [Bool.and_eq_true, decide_eq_true_eq] at h
      obtain ⟨⟨g1, g2⟩, g3⟩ := h
      have h0 : c[pc]? = some b0 := hb 0
      have h1 : c[pc + 1]? = some b1 := hb 1
      have h2 : c[pc + 2]? = some b2 := hb 2
      cases Nat.eq_of_beq_eq_true g3
      cases u8eq g1
      cases Nat.eq_of_beq_eq_true g2
      exact dc181 h0 h1 h2
  case invokevirtual n =>
    rcases b with _ | ⟨b0, _ | ⟨b1, _ | ⟨b2, r⟩⟩⟩
    · cases h
    · cases h
    · cases h
    · simp only [Bool.and_eq_true, decide_eq_true_eq] at h
      obtain ⟨⟨g1, g2⟩, g3⟩ := h
      have h0 : c[pc]? = some b0 := hb 0
      have h1 : c[pc + 1]? = some b1 := hb 1
      have h2 : c[pc + 2]? = some b2 := hb 2
      cases Nat.eq_of_beq_eq_true g3
      cases u8eq g1
      cases Nat.eq_of_beq_eq_true g2
      exact dc182 h0 h1 h2
  case invokespecial n =>
    rcases b with _ | ⟨b0, _ | ⟨b1, _ | ⟨b2, r⟩⟩⟩
    · cases h
    · cases h
    · cases h
    · simp only [Bool.and_eq_true, decide_eq_true_eq] at h
      obtain ⟨⟨g1, g2⟩, g3⟩ := h
      have h0 : c[pc]? = some b0 := hb 0
      have h1 : c[pc + 1]? = some b1 := hb 1
      have h2 : c[pc + 2]? = some b2 := hb 2
      cases Nat.eq_of_beq_eq_true g3
      cases u8eq g1
      cases Nat.eq_of_beq_eq_true g2
      exact dc183 h0 h1 h2
  case invokestatic n =>
    rcases b with _ | ⟨b0, _ | ⟨b1, _ | ⟨b2, r⟩⟩⟩
    · cases h
    · cases h
    · cases h
    · simp only [Bool.and_eq_true, decide_eq_true_eq] at h
      obtain ⟨⟨g1, g2⟩, g3⟩ := h
      have h0 : c[pc]? = some b0 := hb 0
      have h1 : c[pc + 1]? = some b1 := hb 1
      have h2 : c[pc + 2]? = some b2 := hb 2
      cases Nat.eq_of_beq_eq_true g3
      cases u8eq g1
      cases Nat.eq_of_beq_eq_true g2
      exact dc184 h0 h1 h2
  case new n =>
    rcases b with _ | ⟨b0, _ | ⟨b1, _ | ⟨b2, r⟩⟩⟩
    · cases h
    · cases h
    · cases h
    · simp only [Bool.and_eq_true, decide_eq_true_eq] at h
      obtain ⟨⟨g1, g2⟩, g3⟩ := h
      have h0 : c[pc]? = some b0 := hb 0
      have h1 : c[pc + 1]? = some b1 := hb 1
      have h2 : c[pc + 2]? = some b2 := hb 2
      cases Nat.eq_of_beq_eq_true g3
      cases u8eq g1
      cases Nat.eq_of_beq_eq_true g2
      exact dc187 h0 h1 h2
  case anewarray n =>
    rcases b with _ | ⟨b0, _ | ⟨b1, _ | ⟨b2, r⟩⟩⟩
    · cases h
    · cases h
    · cases h
    · simp only [Bool.and_eq_true, decide_eq_true_eq] at h
      obtain ⟨⟨g1, g2⟩, g3⟩ := h
      have h0 : c[pc]? = some b0 := hb 0
      have h1 : c[pc + 1]? = some b1 := hb 1
      have h2 : c[pc + 2]? = some b2 := hb 2
      cases Nat.eq_of_beq_eq_true g3
      cases u8eq g1
      cases Nat.eq_of_beq_eq_true g2
      exact dc189 h0 h1 h2
  case checkcast n =>
    rcases b with _ | ⟨b0, _ | ⟨b1, _ | ⟨b2, r⟩⟩⟩
    · cases h
    · cases h
    · cases h
    · simp only [Bool.and_eq_true, decide_eq_true_eq] at h
      obtain ⟨⟨g1, g2⟩, g3⟩ := h
      have h0 : c[pc]? = some b0 := hb 0
      have h1 : c[pc + 1]? = some b1 := hb 1
      have h2 : c[pc + 2]? = some b2 := hb 2
      cases Nat.eq_of_beq_eq_true g3
      cases u8eq g1
      cases Nat.eq_of_beq_eq_true g2
      exact dc192 h0 h1 h2
  case ifnull n =>
    rcases b with _ | ⟨b0, _ | ⟨b1, _ | ⟨b2, r⟩⟩⟩
    · cases h
    · cases h
    · cases h
    · simp only [Bool.and_eq_true, decide_eq_true_eq] at h
      obtain ⟨⟨g1, g2⟩, g3⟩ := h
      have h0 : c[pc]? = some b0 := hb 0
      have h1 : c[pc + 1]? = some b1 := hb 1
      have h2 : c[pc + 2]? = some b2 := hb 2
      cases Nat.eq_of_beq_eq_true g3
      cases u8eq g1
      subst g2
      exact dc198 h0 h1 h2
  case ifnonnull n =>
    rcases b with _ | ⟨b0, _ | ⟨b1, _ | ⟨b2, r⟩⟩⟩
    · cases h
    · cases h
    · cases h
    · simp only [Bool.and_eq_true, decide_eq_true_eq] at h
      obtain ⟨⟨g1, g2⟩, g3⟩ := h
      have h0 : c[pc]? = some b0 := hb 0
      have h1 : c[pc + 1]? = some b1 := hb 1
      have h2 : c[pc + 2]? = some b2 := hb 2
      cases Nat.eq_of_beq_eq_true g3
      cases u8eq g1
      subst g2
      exact dc199 h0 h1 h2
  case iinc n k =>
    rcases b with _ | ⟨b0, _ | ⟨b1, _ | ⟨b2, r⟩⟩⟩
    · cases h
    · cases h
    · cases h
    · simp only [Bool.and_eq_true, decide_eq_true_eq] at h
      obtain ⟨⟨⟨g1, g2⟩, g3⟩, g4⟩ := h
      have h0 : c[pc]? = some b0 := hb 0
      have h1 : c[pc + 1]? = some b1 := hb 1
      have h2 : c[pc + 2]? = some b2 := hb 2
      cases Nat.eq_of_beq_eq_true g4
      cases u8eq g1
      cases Nat.eq_of_beq_eq_true g2
      subst g3
      exact dc132 h0 h1 h2
  case newarray t =>
    rcases b with _ | ⟨b0, _ | ⟨b1, r⟩⟩
    · cases h
    · cases h
    · simp only [Bool.and_eq_true] at h
      obtain ⟨⟨g1, g2⟩, g3⟩ := h
      have h0 : c[pc]? = some b0 := hb 0
      have h1 : c[pc + 1]? = some b1 := hb 1
      cases Nat.eq_of_beq_eq_true g2
      cases u8eq g1
      cases t <;> first | cases g3 | skip
      case boolean => cases u8eq g3; exact dc188_4 h0 h1
      case byte => cases u8eq g3; exact dc188_8 h0 h1
      case int => cases u8eq g3; exact dc188_10 h0 h1
      case long => cases u8eq g3; exact dc188_11 h0 h1
end CKI
/-- the code, instruction by instruction: e: the rest of the table, p: the place, b: the bytes from there on; a switch is left to others -/
def ckL : List Ent → Nat → List UInt8 → Bool
  | [], _, _ => true
  | e :: t, p, b => bif Nat.beq e.1 p then (bif (match e.2.1 with | .tableswitch _ _ _ _ => true | _ => false) || ckI e.2.1 e.2.2.1 b then ckL t (p + e.2.2.1) (b.drop e.2.2.1) else false) else
      bif Nat.blt p e.1 then (bif (match e.2.1 with | .tableswitch _ _ _ _ => true | _ => false) || ckI e.2.1 e.2.2.1 (b.drop (e.1 - p)) then ckL t (e.1 + e.2.2.1) (b.drop (e.1 - p + e.2.2.1)) else false) else false
def isTab (e : Ent) : Bool := match e.2.1 with | .tableswitch _ _ _ _ => true | _ => false
theorem ckL_ok {c : ByteArray} : ∀ (L : List Ent) (p : Nat) (b : List UInt8), (∀ j, c[p + j]? = b[j]?) → ckL L p b = true → ∀ e ∈ L, isTab e = true ∨ decode c e.1 = .ok (e.2.1, e.2.2.1) := by
  intro L
  induction L with
  | nil => intro p b _ _ e he; exact absurd he List.not_mem_nil
  | cons a t ih =>
    intro p b hb h e he
    unfold ckL at h
    have hdrop : ∀ k j, c[p + k + j]? = (b.drop k)[j]? := by
      intro k j
      rw [List.getElem?_drop, ← hb (k + j)]
      congr 1
      omega
    cases h1 : Nat.beq a.1 p with
    | true =>
      rw [h1, cond_true] at h
      have e1 := Nat.eq_of_beq_eq_true h1
      cases h2 : ((match a.2.1 with | .tableswitch _ _ _ _ => true | _ => false) || ckI a.2.1 a.2.2.1 b) with
      | false => rw [h2] at h; cases h
      | true =>
        rw [h2, cond_true] at h
        rcases List.mem_cons.mp he with rfl | he
        · rw [Bool.or_eq_true] at h2
          rcases h2 with h2 | h2
          · exact Or.inl h2
          · rw [e1]
            exact Or.inr (ckI_ok hb h2)
        · exact ih _ _ (hdrop _) h e he
    | false =>
      rw [h1, cond_false] at h
      cases h3 : Nat.blt p a.1 with
      | false => rw [h3] at h; cases h
      | true =>
        rw [h3, cond_true] at h
        have e3 := (Nat.blt_eq).mp h3
        cases h2 : ((match a.2.1 with | .tableswitch _ _ _ _ => true | _ => false) || ckI a.2.1 a.2.2.1 (b.drop (a.1 - p))) with
        | false => rw [h2] at h; cases h
        | true =>
          rw [h2, cond_true] at h
          have hb2 : ∀ j, c[a.1 + j]? = (b.drop (a.1 - p))[j]? := by
            intro j
            have := hdrop (a.1 - p) j
            rw [show p + (a.1 - p) + j = a.1 + j by omega] at this
            exact this
          rcases List.mem_cons.mp he with rfl | he
          · rw [Bool.or_eq_true] at h2
            rcases h2 with h2 | h2
            · exact Or.inl h2
            · exact Or.inr (ckI_ok hb2 h2)
          · refine ih _ _ ?_ h e he
            intro j
            have := hdrop (a.1 - p + a.2.2.1) j
            rw [show p + (a.1 - p + a.2.2.1) + j = a.1 + a.2.2.1 + j by omega] at this
            exact this
theorem ck_all {c : ByteArray} {L : List Ent} (h : ckL L 0 c.data.toList = true) (ht : ∀ e ∈ L.filter isTab, decode c e.1 = .ok (e.2.1, e.2.2.1)) : ∀ e ∈ L, decode c e.1 = .ok (e.2.1, e.2.2.1) := by
  intro e he
  have hg : ∀ j, c[0 + j]? = c.data.toList[j]? := by
    intro j
    rw [Nat.zero_add, Array.getElem?_toList]
    by_cases hj : j < c.size
    · rw [getElem?_pos c j hj, getElem?_pos c.data j hj]; rfl
    · rw [getElem?_neg c j hj, getElem?_neg c.data j hj]
  rcases ckL_ok L 0 c.data.toList hg h e he with h1 | h1
  · exact ht e (List.mem_filter.mpr ⟨he, h1⟩)
  · exact h1
