/-! ===== the abstract machine: states, instructions ===== -/
abbrev St : Type := (Nat → Nat) × (Nat → Nat) × (Nat → Nat → Int32) × (Nat → Nat → Int64) × (Nat → Nat → Option Nat) × Nat × Nat
abbrev Out : Type := Option Value ⊕ Nat
abbrev Res : Type := Option (Out × St)
/-- what is fixed: of so many cells the tags, the lengths, some references -/
abbrev Fx : Type := Nat × (Nat → Nat) × (Nat → Nat) × (Nat → Nat → Option Nat)
def tg (F : Fx) (σ : St) (a : Nat) : Nat := bif Nat.blt a F.1 then F.2.1 a else σ.1 a
def ln (F : Fx) (σ : St) (a : Nat) : Nat := bif Nat.blt a F.1 then F.2.2.1 a else σ.2.1 a
def fR (F : Fx) (a k : Nat) : Option Nat := bif Nat.blt a F.1 then F.2.2.2 a k else none
def rI (σ : St) (a k : Nat) : Int32 := σ.2.2.1 a k
def rJ (σ : St) (a k : Nat) : Int64 := σ.2.2.2.1 a k
def oR (f r : Option Nat) : Option Nat := match f with
  | some b => some b
  | none => r
def rR (F : Fx) (σ : St) (a k : Nat) : Option Nat := oR (fR F a k) (σ.2.2.2.2.1 a k)
def nx (σ : St) : Nat := σ.2.2.2.2.2.1
def sl (σ : St) : Nat := σ.2.2.2.2.2.2
def up1 {α : Type} (f : Nat → α) (a : Nat) (v : α) : Nat → α := fun b => bif Nat.beq b a then v else f b
def up2 {α : Type} (f : Nat → Nat → α) (a k : Nat) (v : α) : Nat → Nat → α := fun b j => bif Nat.beq b a && Nat.beq j k then v else f b j
def wI (σ : St) (a k : Nat) (v : Int32) : St := (σ.1, σ.2.1, up2 σ.2.2.1 a k v, σ.2.2.2)
def wJ (σ : St) (a k : Nat) (v : Int64) : St := (σ.1, σ.2.1, σ.2.2.1, up2 σ.2.2.2.1 a k v, σ.2.2.2.2)
def wR (σ : St) (a k : Nat) (v : Option Nat) : St := (σ.1, σ.2.1, σ.2.2.1, σ.2.2.2.1, up2 σ.2.2.2.2.1 a k v, σ.2.2.2.2.2)
/-- a new cell: tag t, length n, so many slots -/
def nw (σ : St) (t n k : Nat) : St := (up1 σ.1 (nx σ) t, up1 σ.2.1 (nx σ) n, up1 σ.2.2.1 (nx σ) (fun _ => 0), up1 σ.2.2.2.1 (nx σ) (fun _ => 0), up1 σ.2.2.2.2.1 (nx σ) (fun _ => none), nx σ + 1, sl σ + k)
/-- a stretch copied -/
def cp1 {α : Type} (f g : Nat → α) (sp dp n : Nat) : Nat → α := fun j => bif Nat.ble dp j && Nat.blt j (dp + n) then f (sp + (j - dp)) else g j
def cpI (σ : St) (a sp b dp n : Nat) : St := (σ.1, σ.2.1, up1 σ.2.2.1 b (cp1 (σ.2.2.1 a) (σ.2.2.1 b) sp dp n), σ.2.2.2)
def cpR (σ : St) (a sp b dp n : Nat) : St := (σ.1, σ.2.1, σ.2.2.1, σ.2.2.2.1, up1 σ.2.2.2.2.1 b (cp1 (σ.2.2.2.2.1 a) (σ.2.2.2.2.1 b) sp dp n), σ.2.2.2.2.2)
abbrev Lcs : Type := List (Nat × Value)
/-- an instruction at its place: pc, instruction, length; at a cut the locals that live there -/
abbrev Ent : Type := Nat × Instr × Nat × Option (List Nat)
/-- fields: the tags of the objects, the place of the field, its kind (0 int, 1 long, 2 reference, 3 reference or null, 4 boolean), whether it may be written (0 no, 1 yes, 2 in a constructor) -/
abbrev FInf : Type := List Nat × Nat × Nat × Nat
/-- calls: kind, arguments, answer (0 none, 1 int, 2 long, 3 reference), targets: by tag, the method's number and its words -/
abbrev MInf : Type := Nat × Nat × Nat × List (Nat × Nat × Nat)
/-- a class's constant pool: its name; fields; methods; new; anewarray; checkcast; constants and statics -/
abbrev CP : Type := String × List (Nat × FInf) × List (Nat × MInf) × List (Nat × Nat × Nat) × List (Nat × Nat) × List (Nat × List Nat) × List (Nat × Value)
abbrev MI : Type := MethodName × ByteArray × Nat × Option FieldType × List (Nat × Nat × Nat × Nat) × List Ent × CP
def mY (M : MI) : MethodName := M.1
def mB (M : MI) : ByteArray := M.2.1
def mL (M : MI) : Nat := M.2.2.1
def mR (M : MI) : Option FieldType := M.2.2.2.1
def mH (M : MI) : List (Nat × Nat × Nat × Nat) := M.2.2.2.2.1
def mC (M : MI) : List Ent := M.2.2.2.2.2.1
def mK (M : MI) : CP := M.2.2.2.2.2.2
def lkN {α : Type} (i : Nat) : List (Nat × α) → Option α
  | [] => none
  | q :: t => bif Nat.beq q.1 i then some q.2 else lkN i t
def memN (i : Nat) : List Nat → Bool
  | [] => false
  | q :: t => Nat.beq q i || memN i t
def sto1 (i : Nat) (v : Value) (l : Lcs) : Lcs := (i, v) :: l.filter (fun q => !(q.1 == i) && !(q.1 + 1 == i && q.2.category == 2))
def sto2 (i : Nat) (v : Value) (l : Lcs) : Lcs := (i, v) :: l.filter (fun q => !(q.1 == i) && (!(q.1 == i + 1) && !(q.1 + 1 == i && q.2.category == 2)))
def gath : List Nat → Lcs → Option (List Value)
  | [], _ => some []
  | i :: t, l => match lkN i l with
    | none => none
    | some v => match gath t l with
      | none => none
      | some r => some (v :: r)
def seek (p : Nat) : List Ent → List Ent
  | [] => []
  | e :: t => bif Nat.beq e.1 p then e :: t else seek p t
def tgt (pc : Nat) (o : Int) : Nat := ((pc : Int) + o).toNat
abbrev Rec : Type := Nat → Nat → Nat → List Value → St → Res
abbrev Nxt : Type := List Ent → Lcs → List Value → St → Res
abbrev Go : Type := Nat → List Ent → Lcs → List Value → St → Res
abbrev Cl : Type := Nat → List Value → St → Res
-- what is popped
def ob {α : Type} (o : Option α) (k : α → Res) : Res := match o with
  | none => none
  | some x => k x
def pI (st : List Value) (k : Int32 → List Value → Res) : Res := match st with
  | .int x :: r => k x r
  | _ => none
def pII (st : List Value) (k : Int32 → Int32 → List Value → Res) : Res := match st with
  | .int y :: .int x :: r => k x y r
  | _ => none
def pJ (st : List Value) (k : Int64 → List Value → Res) : Res := match st with
  | .long x :: r => k x r
  | _ => none
def pJJ (st : List Value) (k : Int64 → Int64 → List Value → Res) : Res := match st with
  | .long y :: .long x :: r => k x y r
  | _ => none
def pJI (st : List Value) (k : Int64 → Int32 → List Value → Res) : Res := match st with
  | .int y :: .long x :: r => k x y r
  | _ => none
def pA (st : List Value) (k : Nat → List Value → Res) : Res := match st with
  | .ref a :: r => k a r
  | _ => none
/-- a reference or null -/
def pN (st : List Value) (k : Nat → List Value → Res) (n : List Value → Res) : Res := match st with
  | .ref a :: r => k a r
  | .null :: r => n r
  | _ => none
def pAA (st : List Value) (k : Nat → Nat → List Value → Res) : Res := match st with
  | .ref b :: .ref a :: r => k a b r
  | _ => none
def pV (st : List Value) (k : Value → List Value → Res) : Res := match st with
  | v :: r => k v r
  | _ => none
def pVV (st : List Value) (k : Value → Value → List Value → Res) : Res := match st with
  | v :: w :: r => k v w r
  | _ => none
def on (o : Option Nat) (k : Nat → Res) (n : Res) : Res := match o with
  | some a => k a
  | none => n
-- a call has come back
def aV (r : Res) (k : St → Res) (h : Nat → St → Res) : Res := match r with
  | some (.inl none, σ) => k σ
  | some (.inr a, σ) => h a σ
  | _ => none
def aI (r : Res) (k : Int32 → St → Res) (h : Nat → St → Res) : Res := match r with
  | some (.inl (some (.int x)), σ) => k x σ
  | some (.inr a, σ) => h a σ
  | _ => none
def aJ (r : Res) (k : Int64 → St → Res) (h : Nat → St → Res) : Res := match r with
  | some (.inl (some (.long x)), σ) => k x σ
  | some (.inr a, σ) => h a σ
  | _ => none
def aA (r : Res) (k : Nat → St → Res) (h : Nat → St → Res) : Res := match r with
  | some (.inl (some (.ref x)), σ) => k x σ
  | some (.inr a, σ) => h a σ
  | _ => none
def ok (v : Option Value) (σ : St) : Res := some (.inl v, σ)
def thr (a : Nat) (σ : St) : Res := some (.inr a, σ)
def inb (i : Int32) (n : Nat) : Bool := decide (0 ≤ i) && Nat.blt i.toNatClampNeg n
def retok (t : Option FieldType) (v : Int32) : Bool := match t with
  | some .int => true
  | some .boolean => v == 0 || v == 1
  | some .char => decide (narrow .char (.int v) = .int v)
  | some .byte => decide (narrow .byte (.int v) = .int v)
  | _ => false
def swT (x : Int32) (v : Int) (os : List Int) (k : Int → Res) (d : Res) : Res := match os with
  | [] => d
  | o :: t => if x = Int32.ofInt v then k o else swT x (v + 1) t k d
/-- the lengths that the rows know -/
def ilen (i : Instr) : Nat := match i with
  | .iload _ | .lload _ | .aload _ | .istore _ | .lstore _ | .astore _ | .bipush _ | .ldc _ | .newarray _ => 2
  | .sipush _ | .ldc_w _ | .ldc2_w _ | .iinc _ _ | .ifCond _ _ | .if_icmp _ _ | .if_acmp _ _ | .ifnull _ | .ifnonnull _ | .goto _ | .getfield _ | .putfield _ | .getstatic _ | .invokevirtual _ | .invokespecial _ | .invokestatic _ | .new _ | .anewarray _ | .checkcast _ => 3
  | .tableswitch _ _ _ _ => 0
  | _ => 1
def offs (i : Instr) : List Int := match i with
  | .goto o | .ifCond _ o | .if_icmp _ o | .if_acmp _ o | .ifnull o | .ifnonnull o => [o]
  | .tableswitch d _ _ os => d :: os.toList
  | _ => []
def lenok (e : Ent) : Bool := (Nat.beq (ilen e.2.1) 0 || Nat.beq (ilen e.2.1) e.2.2.1) && (offs e.2.1).all fun o => decide (0 ≤ (e.1 : Int) + o)
/-- where an exception goes -/
def hnd (F : Fx) (M : MI) (go : Go) (pc : Nat) (ls : Lcs) (a : Nat) (σ : St) : Res := match mH M with
  | [] => thr a σ
  | q :: _ => bif Nat.ble q.1 pc && Nat.blt pc q.2.1 then bif Nat.beq (tg F σ a) 21 then go q.2.2.1 (seek q.2.2.1 (mC M)) ls [.ref a] σ else none else thr a σ
/-- objects: 0 to 20, 21 the exception; arrays: 64 int, 65 long, 66 byte, 67 boolean, 68 Object, 69 Spans, 70 Tool, 71 the script, 72 a text's bytes, 73 the empty Object array; 255: no cell -/
def stepH (F : Fx) (M : MI) (go : Go) (e : Ent) (t : List Ent) (ls : Lcs) (st : List Value) (σ : St) : Res :=
  match e.2.1 with
  | .getfield i => ob (lkN i (mK M).2.1) fun f => pA st fun a r => bif memN (tg F σ a) f.1 then
      (match f.2.2.1 with
        | 0 => go (e.1 + 3) t ls (.int (rI σ a f.2.1) :: r) σ
        | 1 => go (e.1 + 3) t ls (.long (rJ σ a f.2.1) :: r) σ
        | 2 => ob (rR F σ a f.2.1) fun b => go (e.1 + 3) t ls (.ref b :: r) σ
        | 3 => on (rR F σ a f.2.1) (fun b => go (e.1 + 3) t ls (.ref b :: r) σ) (go (e.1 + 3) t ls (.null :: r) σ)
        | 4 => go (e.1 + 3) t ls (.int (rI σ a f.2.1) :: r) σ
        | _ => none) else none
  | .putfield i => ob (lkN i (mK M).2.1) fun f => bif Nat.beq f.2.2.2 1 || (Nat.beq f.2.2.2 2 && (mY M).name == "<init>") then
      (match f.2.2.1 with
        | 0 => pI st fun v r => pA r fun a r => bif memN (tg F σ a) f.1 then go (e.1 + 3) t ls r (wI σ a f.2.1 v) else none
        | 1 => pJ st fun v r => pA r fun a r => bif memN (tg F σ a) f.1 then go (e.1 + 3) t ls r (wJ σ a f.2.1 v) else none
        | 4 => pI st fun v r => pA r fun a r => bif memN (tg F σ a) f.1 && (v == 0 || v == 1) then go (e.1 + 3) t ls r (wI σ a f.2.1 v) else none
        | _ => pN st (fun v r => pA r fun a r => bif memN (tg F σ a) f.1 && (fR F a f.2.1).isNone then go (e.1 + 3) t ls r (wR σ a f.2.1 (some v)) else none)
            (fun r => pA r fun a r => bif memN (tg F σ a) f.1 && (fR F a f.2.1).isNone then go (e.1 + 3) t ls r (wR σ a f.2.1 none) else none)) else none
  | .getstatic i => ob (lkN (i + 100000) (mK M).2.2.2.2.2.2) fun v => go (e.1 + 3) t ls (v :: st) σ
  | .iaload => pI st fun i r => pA r fun a r => bif (Nat.beq (tg F σ a) 64 || Nat.beq (tg F σ a) 71) && inb i (ln F σ a) then go (e.1 + 1) t ls (.int (rI σ a i.toNatClampNeg) :: r) σ else none
  | .laload => pI st fun i r => pA r fun a r => bif Nat.beq (tg F σ a) 65 && inb i (ln F σ a) then go (e.1 + 1) t ls (.long (rJ σ a i.toNatClampNeg) :: r) σ else none
  | .baload => pI st fun i r => pA r fun a r => bif (Nat.beq (tg F σ a) 66 || Nat.beq (tg F σ a) 67 || Nat.beq (tg F σ a) 72) && inb i (ln F σ a) then go (e.1 + 1) t ls (.int (rI σ a i.toNatClampNeg) :: r) σ else none
  | .aaload => pI st fun i r => pA r fun a r => bif inb i (ln F σ a) then
      (bif Nat.beq (tg F σ a) 68 || Nat.beq (tg F σ a) 69 then ob (rR F σ a i.toNatClampNeg) fun b => go (e.1 + 1) t ls (.ref b :: r) σ else
       bif Nat.beq (tg F σ a) 70 then on (rR F σ a i.toNatClampNeg) (fun b => go (e.1 + 1) t ls (.ref b :: r) σ) (go (e.1 + 1) t ls (.null :: r) σ) else none) else none
  | .iastore => pI st fun v r => pI r fun i r => pA r fun a r => bif Nat.beq (tg F σ a) 64 && inb i (ln F σ a) then go (e.1 + 1) t ls r (wI σ a i.toNatClampNeg v) else none
  | .lastore => pJ st fun v r => pI r fun i r => pA r fun a r => bif Nat.beq (tg F σ a) 65 && inb i (ln F σ a) then go (e.1 + 1) t ls r (wJ σ a i.toNatClampNeg v) else none
  | .bastore => pI st fun v r => pI r fun i r => pA r fun a r => bif inb i (ln F σ a) then
      (bif Nat.beq (tg F σ a) 66 then go (e.1 + 1) t ls r (wI σ a i.toNatClampNeg v.toInt8.toInt32) else
       bif Nat.beq (tg F σ a) 67 && (v == 0 || v == 1) then go (e.1 + 1) t ls r (wI σ a i.toNatClampNeg v) else none) else none
  | .aastore => pA st fun b r => pI r fun i r => pA r fun a r => bif inb i (ln F σ a) && (fR F a i.toNatClampNeg).isNone && ((Nat.beq (tg F σ a) 68 && Nat.ble 11 (tg F σ b) && Nat.ble (tg F σ b) 17) || (Nat.beq (tg F σ a) 69 && Nat.beq (tg F σ b) 1) || (Nat.beq (tg F σ a) 70 && Nat.beq (tg F σ b) 18)) then
      go (e.1 + 1) t ls r (wR σ a i.toNatClampNeg (some b)) else none
  | .arraylength => pA st fun a r => bif Nat.ble 64 (tg F σ a) && Nat.ble (tg F σ a) 73 then go (e.1 + 1) t ls (.int (Int32.ofNat (ln F σ a)) :: r) σ else none
  | .newarray ty => pI st fun n r => bif decide (0 ≤ n) && Nat.ble n.toNatClampNeg 100000 && Nat.ble F.1 (nx σ) then
      (match ty with
        | .int => go (e.1 + 2) t ls (.ref (nx σ) :: r) (nw σ 64 n.toNatClampNeg n.toNatClampNeg)
        | .long => go (e.1 + 2) t ls (.ref (nx σ) :: r) (nw σ 65 n.toNatClampNeg n.toNatClampNeg)
        | .byte => go (e.1 + 2) t ls (.ref (nx σ) :: r) (nw σ 66 n.toNatClampNeg n.toNatClampNeg)
        | .boolean => go (e.1 + 2) t ls (.ref (nx σ) :: r) (nw σ 67 n.toNatClampNeg n.toNatClampNeg)
        | _ => none) else none
  | .anewarray i => ob (lkN i (mK M).2.2.2.2.1) fun tag => pI st fun n r => bif decide (0 ≤ n) && Nat.ble n.toNatClampNeg 100000 && Nat.ble F.1 (nx σ) then go (e.1 + 3) t ls (.ref (nx σ) :: r) (nw σ tag n.toNatClampNeg n.toNatClampNeg) else none
  | .new i => ob (lkN i (mK M).2.2.2.1) fun q => bif Nat.ble F.1 (nx σ) then go (e.1 + 3) t ls (.ref (nx σ) :: st) (nw σ q.1 0 q.2) else none
  | .checkcast i => ob (lkN i (mK M).2.2.2.2.2.1) fun q => pA st fun a r => bif memN (tg F σ a) q then go (e.1 + 3) t ls (.ref a :: r) σ else none
  | .if_acmp cnd o => pAA st fun a b r => bif Nat.beq (tg F σ a) 255 || Nat.beq (tg F σ b) 255 then none else
      (match cnd with
        | .eq => if a = b then go (tgt e.1 o) (seek (tgt e.1 o) (mC M)) ls r σ else bif (Nat.ble 16 a || Nat.ble 16 b) && Nat.ble (tg F σ a) 73 && Nat.ble (tg F σ b) 73 then go (e.1 + 3) t ls r σ else none
        | .ne => if a = b then go (e.1 + 3) t ls r σ else bif (Nat.ble 16 a || Nat.ble 16 b) && Nat.ble (tg F σ a) 73 && Nat.ble (tg F σ b) 73 then go (tgt e.1 o) (seek (tgt e.1 o) (mC M)) ls r σ else none)
  | .ifnull o => pN st (fun a r => bif Nat.beq (tg F σ a) 255 then none else go (e.1 + 3) t ls r σ) (fun r => go (tgt e.1 o) (seek (tgt e.1 o) (mC M)) ls r σ)
  | .ifnonnull o => pN st (fun a r => bif Nat.beq (tg F σ a) 255 then none else go (tgt e.1 o) (seek (tgt e.1 o) (mC M)) ls r σ) (fun r => go (e.1 + 3) t ls r σ)
  | _ => none
