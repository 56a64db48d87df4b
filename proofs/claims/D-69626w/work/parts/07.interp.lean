/-! ===== the abstract machine: all instructions, runs ===== -/
def splA : Nat → List Value → List Value → Option (List Value × List Value)
  | 0, st, acc => some (acc, st)
  | n + 1, st, acc => match st with
    | [] => none
    | v :: r => splA n r (v :: acc)
def cats : List Value → Nat
  | [] => 0
  | v :: t => v.category + cats t
def noninit (vs : List Value) : Bool := vs.all fun v => match v with
  | .int _ | .long _ | .null | .ref _ => true
  | _ => false
/-- the references of a stretch are null or solids -/
def okEls (F : Fx) (σ : St) (a sp n : Nat) : Bool := (List.range n).all fun i => match rR F σ a (sp + i) with
  | none => true
  | some y => Nat.ble 11 (tg F σ y) && Nat.ble (tg F σ y) 17
/-- the callee runs, then it goes on behind the call -/
def doCall (F : Fx) (M : MI) (go : Go) (cl : Cl) (e : Ent) (t : List Ent) (ls : Lcs) (rk : Nat) (q : Nat × Nat) (vs rest : List Value) (σ : St) : Res :=
  bif Nat.ble (cats rest + q.2 + 11) 64 then
    (match rk with
      | 0 => aV (cl q.1 vs σ) (fun σ => go (e.1 + 3) t ls rest σ) (hnd F M go e.1 ls)
      | 1 => aI (cl q.1 vs σ) (fun x σ => go (e.1 + 3) t ls (.int x :: rest) σ) (hnd F M go e.1 ls)
      | 2 => aJ (cl q.1 vs σ) (fun x σ => go (e.1 + 3) t ls (.long x :: rest) σ) (hnd F M go e.1 ls)
      | 3 => aA (cl q.1 vs σ) (fun x σ => go (e.1 + 3) t ls (.ref x :: rest) σ) (hnd F M go e.1 ls)
      | _ => none) else none
def stepS (F : Fx) (M : MI) (go : Go) (cl : Cl) (e : Ent) (t : List Ent) (ls : Lcs) (st : List Value) (σ : St) (i : Nat) : Res :=
  ob (lkN i (mK M).2.2.1) fun q => match q.1 with
    | 0 => ob (splA q.2.1 st []) fun z => ob (lkN 0 q.2.2.2) fun w => doCall F M go cl e t ls q.2.2.1 w z.1 z.2 σ
    | 4 => pI st fun n r => pI r fun dp r => pA r fun b r => pI r fun sp r => pA r fun a r =>
        bif decide (0 ≤ n) && decide (0 ≤ sp) && decide (0 ≤ dp) && Nat.ble (sp.toNatClampNeg + n.toNatClampNeg) (ln F σ a) && Nat.ble (dp.toNatClampNeg + n.toNatClampNeg) (ln F σ b) && !(Nat.beq a b) && Nat.beq (tg F σ a) (tg F σ b) && Nat.ble (cats r + 20) 64 then
          (bif Nat.beq (tg F σ a) 64 || Nat.beq (tg F σ a) 66 then go (e.1 + 3) t ls r (cpI σ a sp.toNatClampNeg b dp.toNatClampNeg n.toNatClampNeg) else
           bif Nat.beq (tg F σ a) 68 && Nat.ble F.1 a && Nat.ble F.1 b && okEls F σ a sp.toNatClampNeg n.toNatClampNeg then go (e.1 + 3) t ls r (cpR σ a sp.toNatClampNeg b dp.toNatClampNeg n.toNatClampNeg) else none) else none
    | 7 => pII st fun x y r => bif Nat.ble (cats r + 20) 64 then go (e.1 + 3) t ls (.int (if x < y then y else x) :: r) σ else none
    | 8 => pII st fun x y r => bif Nat.ble (cats r + 20) 64 then go (e.1 + 3) t ls (.int (if y < x then y else x) :: r) σ else none
    | 9 => pJJ st fun x y r => bif Nat.ble (cats r + 20) 64 then go (e.1 + 3) t ls (.long (if y < x then x else y) :: r) σ else none
    | 10 => pJJ st fun x y r => bif Nat.ble (cats r + 20) 64 then go (e.1 + 3) t ls (.long (if y < x then y else x) :: r) σ else none
    | 11 => pI st fun x r => bif Nat.ble (cats r + 20) 64 then go (e.1 + 3) t ls (.int (if 0 ≤ x then x else 0 - x) :: r) σ else none
    | 12 => pJ st fun x r => bif Nat.ble (cats r + 20) 64 then go (e.1 + 3) t ls (.long (if 0 < x then x else -x) :: r) σ else none
    | _ => none
def stepN (F : Fx) (M : MI) (go : Go) (cl : Cl) (e : Ent) (t : List Ent) (ls : Lcs) (st : List Value) (σ : St) (i : Nat) : Res :=
  ob (lkN i (mK M).2.2.1) fun q => match q.1 with
    | 1 => ob (splA q.2.1 st []) fun z => pA z.2 fun a r => bif !(Nat.beq (tg F σ a) 255) then ob (lkN 0 q.2.2.2) fun w => doCall F M go cl e t ls q.2.2.1 w (.ref a :: z.1) r σ else none
    | 3 => pA st fun a r => bif !(Nat.beq (tg F σ a) 255) && Nat.ble (cats r + 12) 64 then go (e.1 + 3) t ls r σ else none
    | 5 => pA st fun a r => bif Nat.beq (tg F σ a) 21 && Nat.ble F.1 a && rI σ a 0 == 0 && Nat.ble (cats r + 200) 240 then go (e.1 + 3) t ls r (wI σ a 0 1) else none
    | _ => none
def stepV (F : Fx) (M : MI) (go : Go) (cl : Cl) (e : Ent) (t : List Ent) (ls : Lcs) (st : List Value) (σ : St) (i : Nat) : Res :=
  ob (lkN i (mK M).2.2.1) fun q => match q.1 with
    | 2 => ob (splA q.2.1 st []) fun z => pA z.2 fun a r => ob (lkN (tg F σ a) q.2.2.2) fun w => doCall F M go cl e t ls q.2.2.1 w (.ref a :: z.1) r σ
    | 6 => pA st fun a r => bif Nat.beq (tg F σ a) 68 && Nat.ble (cats r + 20) 64 then go (e.1 + 3) t ls (.ref 4 :: r) σ else none
    | _ => none
def emp (st : List Value) (k : Res) : Res := match st with
  | [] => k
  | _ => none
def ldl (k : Nat) (i : Nat) (ls : Lcs) (f : Value → Res) : Res := ob (lkN i ls) fun v => match k, v with
  | 0, .int x => f (.int x)
  | 1, .long x => f (.long x)
  | 2, .ref a => f (.ref a)
  | 2, .null => f .null
  | _, _ => none
def stepI (F : Fx) (M : MI) (go : Go) (cl : Cl) (e : Ent) (t : List Ent) (ls : Lcs) (st : List Value) (σ : St) : Res :=
  match e.2.1 with
  | .aconst_null => go (e.1 + 1) t ls (.null :: st) σ
  | .iconst i => go (e.1 + 1) t ls (.int (Int32.ofInt i) :: st) σ
  | .bipush i => go (e.1 + 2) t ls (.int (Int8.ofInt i).toInt32 :: st) σ
  | .sipush i => go (e.1 + 3) t ls (.int (Int16.ofInt i).toInt32 :: st) σ
  | .lconst i => go (e.1 + 1) t ls (.long (Int64.ofNat i.val) :: st) σ
  | .ldc i => ob (lkN i (mK M).2.2.2.2.2.2) fun v => (match v with | .int x => bif Nat.blt i 100000 then go (e.1 + 2) t ls (.int x :: st) σ else none | .ref x => bif Nat.blt i 100000 then go (e.1 + 2) t ls (.ref x :: st) σ else none | _ => none)
  | .ldc_w i => ob (lkN i (mK M).2.2.2.2.2.2) fun v => (match v with | .int x => bif Nat.blt i 100000 then go (e.1 + 3) t ls (.int x :: st) σ else none | .ref x => bif Nat.blt i 100000 && Nat.beq x 2 then go (e.1 + 3) t ls (.ref x :: st) σ else none | _ => none)
  | .ldc2_w i => ob (lkN i (mK M).2.2.2.2.2.2) fun v => (match v with | .long x => bif Nat.blt i 100000 then go (e.1 + 3) t ls (.long x :: st) σ else none | _ => none)
  | .iload_n n => ldl 0 n.val ls fun v => go (e.1 + 1) t ls (v :: st) σ
  | .iload n => ldl 0 n ls fun v => go (e.1 + 2) t ls (v :: st) σ
  | .lload_n n => ldl 1 n.val ls fun v => go (e.1 + 1) t ls (v :: st) σ
  | .lload n => ldl 1 n ls fun v => go (e.1 + 2) t ls (v :: st) σ
  | .aload_n n => ldl 2 n.val ls fun v => go (e.1 + 1) t ls (v :: st) σ
  | .aload n => ldl 2 n ls fun v => go (e.1 + 2) t ls (v :: st) σ
  | .istore_n n => pI st fun x r => bif Nat.blt n.val (mL M) then go (e.1 + 1) t (sto1 n.val (.int x) ls) r σ else none
  | .istore n => pI st fun x r => bif Nat.blt n (mL M) then go (e.1 + 2) t (sto1 n (.int x) ls) r σ else none
  | .lstore_n n => pJ st fun x r => bif Nat.blt (n.val + 1) (mL M) then go (e.1 + 1) t (sto2 n.val (.long x) ls) r σ else none
  | .lstore n => pJ st fun x r => bif Nat.blt (n + 1) (mL M) then go (e.1 + 2) t (sto2 n (.long x) ls) r σ else none
  | .astore_n n => pN st (fun a r => bif Nat.blt n.val (mL M) then go (e.1 + 1) t (sto1 n.val (.ref a) ls) r σ else none) (fun r => bif Nat.blt n.val (mL M) then go (e.1 + 1) t (sto1 n.val .null ls) r σ else none)
  | .astore n => pN st (fun a r => bif Nat.blt n (mL M) then go (e.1 + 2) t (sto1 n (.ref a) ls) r σ else none) (fun r => bif Nat.blt n (mL M) then go (e.1 + 2) t (sto1 n .null ls) r σ else none)
  | .iinc n k => ob (lkN n ls) fun v => (match v with | .int x => bif Nat.blt n (mL M) then go (e.1 + 3) t (sto1 n (.int (x + Int32.ofInt k)) ls) st σ else none | _ => none)
  | .iadd => pII st fun x y r => go (e.1 + 1) t ls (.int (x + y) :: r) σ
  | .isub => pII st fun x y r => go (e.1 + 1) t ls (.int (x - y) :: r) σ
  | .imul => pII st fun x y r => go (e.1 + 1) t ls (.int (x * y) :: r) σ
  | .idiv => pII st fun x y r => if y = 0 then none else go (e.1 + 1) t ls (.int (x / y) :: r) σ
  | .irem => pII st fun x y r => if y = 0 then none else go (e.1 + 1) t ls (.int (x - x / y * y) :: r) σ
  | .iand => pII st fun x y r => go (e.1 + 1) t ls (.int (x &&& y) :: r) σ
  | .ior => pII st fun x y r => go (e.1 + 1) t ls (.int (x ||| y) :: r) σ
  | .ixor => pII st fun x y r => go (e.1 + 1) t ls (.int (x ^^^ y) :: r) σ
  | .ishl => pII st fun x y r => go (e.1 + 1) t ls (.int (x <<< (y &&& 31)) :: r) σ
  | .ishr => pII st fun x y r => go (e.1 + 1) t ls (.int (x >>> (y &&& 31)) :: r) σ
  | .ineg => pI st fun x r => go (e.1 + 1) t ls (.int (-x) :: r) σ
  | .ladd => pJJ st fun x y r => go (e.1 + 1) t ls (.long (x + y) :: r) σ
  | .lsub => pJJ st fun x y r => go (e.1 + 1) t ls (.long (x - y) :: r) σ
  | .lmul => pJJ st fun x y r => go (e.1 + 1) t ls (.long (x * y) :: r) σ
  | .ldiv => pJJ st fun x y r => if y = 0 then none else go (e.1 + 1) t ls (.long (x / y) :: r) σ
  | .lrem => pJJ st fun x y r => if y = 0 then none else go (e.1 + 1) t ls (.long (x - x / y * y) :: r) σ
  | .land => pJJ st fun x y r => go (e.1 + 1) t ls (.long (x &&& y) :: r) σ
  | .lor => pJJ st fun x y r => go (e.1 + 1) t ls (.long (x ||| y) :: r) σ
  | .lxor => pJJ st fun x y r => go (e.1 + 1) t ls (.long (x ^^^ y) :: r) σ
  | .lneg => pJ st fun x r => go (e.1 + 1) t ls (.long (-x) :: r) σ
  | .lshl => pJI st fun x y r => go (e.1 + 1) t ls (.long (x <<< (y.toInt64 &&& 63)) :: r) σ
  | .lshr => pJI st fun x y r => go (e.1 + 1) t ls (.long (x >>> (y.toInt64 &&& 63)) :: r) σ
  | .i2l => pI st fun x r => go (e.1 + 1) t ls (.long x.toInt64 :: r) σ
  | .l2i => pJ st fun x r => go (e.1 + 1) t ls (.int x.toInt32 :: r) σ
  | .i2b => pI st fun x r => go (e.1 + 1) t ls (.int x.toInt8.toInt32 :: r) σ
  | .i2c => pI st fun x r => go (e.1 + 1) t ls (.int (x.toUInt32 % 65536).toInt32 :: r) σ
  | .lcmp => pJJ st fun x y r => go (e.1 + 1) t ls (.int (lg_cmp x y) :: r) σ
  | .dup => pV st fun v r => bif Nat.beq v.category 1 then go (e.1 + 1) t ls (v :: v :: r) σ else none
  | .pop => pV st fun v r => bif Nat.beq v.category 1 then go (e.1 + 1) t ls r σ else none
  | .dup_x1 => pVV st fun v w r => bif Nat.beq v.category 1 && Nat.beq w.category 1 then go (e.1 + 1) t ls (v :: w :: v :: r) σ else none
  | .dup2 => pVV st fun v w r => bif Nat.beq v.category 1 && Nat.beq w.category 1 then go (e.1 + 1) t ls (v :: w :: v :: w :: r) σ else none
  | .goto o => go (tgt e.1 o) (seek (tgt e.1 o) (mC M)) ls st σ
  | .ifCond c o => pI st fun x r => (match c with
      | .eq => if x = 0 then go (tgt e.1 o) (seek (tgt e.1 o) (mC M)) ls r σ else go (e.1 + 3) t ls r σ
      | .ne => if x = 0 then go (e.1 + 3) t ls r σ else go (tgt e.1 o) (seek (tgt e.1 o) (mC M)) ls r σ
      | .lt => if x < 0 then go (tgt e.1 o) (seek (tgt e.1 o) (mC M)) ls r σ else go (e.1 + 3) t ls r σ
      | .ge => if x < 0 then go (e.1 + 3) t ls r σ else go (tgt e.1 o) (seek (tgt e.1 o) (mC M)) ls r σ
      | .gt => if 0 < x then go (tgt e.1 o) (seek (tgt e.1 o) (mC M)) ls r σ else go (e.1 + 3) t ls r σ
      | .le => if 0 < x then go (e.1 + 3) t ls r σ else go (tgt e.1 o) (seek (tgt e.1 o) (mC M)) ls r σ)
  | .if_icmp c o => pII st fun x y r => (match c with
      | .eq => if x = y then go (tgt e.1 o) (seek (tgt e.1 o) (mC M)) ls r σ else go (e.1 + 3) t ls r σ
      | .ne => if x = y then go (e.1 + 3) t ls r σ else go (tgt e.1 o) (seek (tgt e.1 o) (mC M)) ls r σ
      | .lt => if x < y then go (tgt e.1 o) (seek (tgt e.1 o) (mC M)) ls r σ else go (e.1 + 3) t ls r σ
      | .ge => if x < y then go (e.1 + 3) t ls r σ else go (tgt e.1 o) (seek (tgt e.1 o) (mC M)) ls r σ
      | .gt => if y < x then go (tgt e.1 o) (seek (tgt e.1 o) (mC M)) ls r σ else go (e.1 + 3) t ls r σ
      | .le => if y < x then go (e.1 + 3) t ls r σ else go (tgt e.1 o) (seek (tgt e.1 o) (mC M)) ls r σ)
  | .tableswitch dflt lo hi offs => pI st fun x r => bif decide (lo + offs.toList.length = hi + 1) && decide (-1000 ≤ lo) && decide (hi ≤ 1000) then swT x lo offs.toList (fun o => go (tgt e.1 o) (seek (tgt e.1 o) (mC M)) ls r σ) (go (tgt e.1 dflt) (seek (tgt e.1 dflt) (mC M)) ls r σ) else none
  | .invokestatic i => stepS F M go cl e t ls st σ i
  | .invokespecial i => stepN F M go cl e t ls st σ i
  | .invokevirtual i => stepV F M go cl e t ls st σ i
  | .ireturn => pI st fun x r => emp r (bif retok (mR M) x then ok (some (.int x)) σ else none)
  | .lreturn => pJ st fun x r => emp r (match mR M with | some .long => ok (some (.long x)) σ | _ => none)
  | .areturn => pA st fun a r => emp r (match mR M with | some (.object _) => ok (some (.ref a)) σ | some (.array _) => ok (some (.ref a)) σ | _ => none)
  | .return_ => emp st (match mR M with | none => ok none σ | _ => none)
  | .athrow => pA st fun a _ => bif Nat.beq (tg F σ a) 21 then hnd F M go e.1 ls a σ else none
  | _ => stepH F M go e t ls st σ
/-- go on at a place: a cut is asked of rec -/
def goA (rec : Rec) (d j : Nat) (nxt : Nxt) : Go := fun p c ls st σ => match c with
  | [] => none
  | e :: t => bif Nat.beq e.1 p then (match e.2.2.2 with
      | none => nxt (e :: t) ls st σ
      | some lv => ob (gath lv ls) fun vs => rec d j p (vs ++ st) σ) else none
def callD (rec : Rec) (d : Nat) : Cl := fun j vs σ => match d with
  | 0 => none
  | d + 1 => rec d j 0 vs σ
def step1 (F : Fx) (rec : Rec) (d j : Nat) (M : MI) (nxt : Nxt) : Nxt := fun c ls st σ => match c with
  | [] => none
  | e :: t => bif lenok e then stepI F M (goA rec d j nxt) (callD rec d) e t ls st σ else none
def interp (F : Fx) (rec : Rec) (d j : Nat) (M : MI) : Nat → Nxt := fun k => Nat.rec (fun _ _ _ _ => none) (fun _ ih => step1 F rec d j M ih) k
def enter (F : Fx) (mt : Nat → Option MI) (rec : Rec) : Rec := fun d j pc vs σ => ob (mt j) fun M => match seek pc (mC M) with
  | [] => none
  | e :: t => match e.2.2.2 with
    | none => bif Nat.beq pc 0 && Nat.ble (cats vs) (mL M) then interp F rec d j M (mC M).length (e :: t) (lv_args 0 vs) [] σ else none
    | some lv => bif Nat.beq pc 0 then none else interp F rec d j M (mC M).length (e :: t) (lv.zip vs) (vs.drop lv.length) σ
def Sem (F : Fx) (mt : Nat → Option MI) : Nat → Rec
  | 0 => fun _ _ _ _ _ => none
  | n + 1 => enter F mt (Sem F mt n)
