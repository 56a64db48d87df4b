/-! ===== the world of an abstract state in the machine's heap ===== -/
/-- class numbers and slots; array classes by tag; the unknown reference; addresses of the cells that were there; the heap's size at the start; the classes; the exception's slots -/
abbrev Cx : Type := va_G × (Nat → ClassId) × Value × (Nat → Nat) × Nat × List vw_C × Array FieldType
def xG (X : Cx) : va_G := X.1
def xA (X : Cx) : Nat → ClassId := X.2.1
def xV (X : Cx) : Value := X.2.2.1
def xS (X : Cx) : Nat → Nat := X.2.2.2.1
def xB (X : Cx) : Nat := X.2.2.2.2.1
def xC (X : Cx) : List vw_C := X.2.2.2.2.2.1
def xK (X : Cx) : Array FieldType := X.2.2.2.2.2.2
def adr (X : Cx) (a : Nat) : Nat := bif Nat.blt a 16 then xS X a else xB X + (a - 16)
def cv (X : Cx) (v : Value) : Value := match v with
  | .ref a => bif Nat.beq a 5 then xV X else .ref (adr X a)
  | v => v
def cvo (X : Cx) (o : Option Nat) : Value := match o with
  | none => .null
  | some a => cv X (.ref a)
def cvl (X : Cx) (l : Lcs) : Lcs := l.map fun q => (q.1, cv X q.2)
def fval (X : Cx) (F : Fx) (σ : St) (ty : Option FieldType) (a k : Nat) : Value := match ty with
  | some .long => .long (rJ σ a k)
  | some (.object _) => cvo X (rR F σ a k)
  | some (.array _) => cvo X (rR F σ a k)
  | _ => .int (rI σ a k)
def fty (cl : List vw_C) (t k : Nat) : Option FieldType := match cl[t]? with
  | some q => parseFieldDescriptor (q.2.1 k).2.2.1
  | none => none
def aval (X : Cx) (F : Fx) (σ : St) (t a j : Nat) : Value :=
  if t = 65 then .long (rJ σ a j) else if 68 ≤ t then cvo X (rR F σ a j) else .int (rI σ a j)
def RepC (X : Cx) (F : Fx) (σ : St) (H : Heap) (a : Nat) : Prop :=
  (tg F σ a < 20 → ∃ r, (xC X)[tg F σ a]? = some r ∧ t_OB (adr X a) ((xG X).1 (tg F σ a)) r.2.2 ((xG X).2 (tg F σ a)) H (fun k => fval X F σ (fty (xC X) (tg F σ a) k) a k)) ∧
  (tg F σ a = 20 → a = 2 ∧ rR F σ a 0 = some 3 ∧ rI σ a 1 = 0) ∧
  (tg F σ a = 21 → ∃ cell : Cell, H[adr X a]? = some cell ∧ cell.cls = (xG X).1 21 ∧ cell.vm = .none ∧ (rI σ a 0 = 0 → cell = { cls := (xG X).1 21, slots := (xK X).map defaultValue, vm := .none })) ∧
  (64 ≤ tg F σ a → tg F σ a ≤ 70 → H[adr X a]? = some (arrV (xA X (tg F σ a)) (ln F σ a) (aval X F σ (tg F σ a) a))) ∧
  (71 ≤ tg F σ a → tg F σ a ≤ 73 → ∃ cell : Cell, H[adr X a]? = some cell ∧ cell.cls = xA X (tg F σ a) ∧ cell.vm ≠ .unknown ∧ (∀ k, cell.vm ≠ .statics k) ∧ (ln F σ a ≤ cell.slots.size ∧ cell.slots.size.toInt32 = Int32.ofNat (ln F σ a)) ∧ (tg F σ a ≠ 73 → ∀ j, j < ln F σ a → cell.slots[j]? = some (.int (rI σ a j)))) ∧
  (tg F σ a = 66 → ∀ j, fits .byte (.int (rI σ a j)) = true)
/-- the abstract state stands in the heap -/
def Wd (X : Cx) (F : Fx) (σ : St) (H : Heap) : Prop :=
  H.size + 16 = xB X + nx σ ∧ 16 ≤ nx σ ∧ F.1 ≤ nx σ ∧ (∀ a, a < 16 → tg F σ a = 20 ∨ 71 ≤ tg F σ a) ∧ (∀ a, a < 16 → tg F σ a ≤ 73 → xS X a < xB X) ∧ (∀ a, nx σ ≤ a → tg F σ a = 255) ∧ ∀ a, RepC X F σ H a
theorem adr_hi (X : Cx) {a : Nat} (h : 16 ≤ a) : adr X a = xB X + (a - 16) := by
  have : Nat.blt a 16 = false := by
    rw [Bool.eq_false_iff, ne_eq, Nat.blt_eq]; omega
  simp [adr, this]
theorem adr_lo (X : Cx) {a : Nat} (h : a < 16) : adr X a = xS X a := by
  have : Nat.blt a 16 = true := by rw [Nat.blt_eq]; exact h
  simp [adr, this]
theorem Wd.apart {X : Cx} {F : Fx} {σ : St} {H : Heap} (h : Wd X F σ H) {a b : Nat} (ha : 16 ≤ a) (hb : tg F σ b ≤ 73) (hne : b ≠ a) : adr X b ≠ adr X a := by
  obtain ⟨-, -, -, -, h5, -, -⟩ := h
  rw [adr_hi X ha]
  by_cases hb16 : b < 16
  · rw [adr_lo X hb16]
    have := h5 b hb16 hb
    omega
  · rw [adr_hi X (by omega)]
    omega
theorem Wd.hi {X : Cx} {F : Fx} {σ : St} {H : Heap} (h : Wd X F σ H) {a : Nat} (h1 : tg F σ a ≠ 20) (h2 : tg F σ a ≤ 70) : 16 ≤ a := by
  obtain ⟨-, -, -, h4, -⟩ := h
  rcases Nat.lt_or_ge a 16 with q | q
  · rcases h4 a q with e | e
    · exact (h1 e).elim
    · omega
  · exact q
theorem Wd.lt {X : Cx} {F : Fx} {σ : St} {H : Heap} (h : Wd X F σ H) {a : Nat} (h2 : tg F σ a ≠ 255) : a < nx σ := by
  obtain ⟨-, -, -, -, -, h6, -⟩ := h
  rcases Nat.lt_or_ge a (nx σ) with q | q
  · exact q
  · exact (h2 (h6 a q)).elim
theorem fval_eq {X : Cx} {F : Fx} {σ τ : St} {a : Nat} (hI : rI τ a = rI σ a) (hJ : rJ τ a = rJ σ a) (hR : rR F τ a = rR F σ a) (ty : Option FieldType) (k : Nat) : fval X F τ ty a k = fval X F σ ty a k := by
  unfold fval
  rw [hI, hJ, hR]
theorem aval_eq {X : Cx} {F : Fx} {σ τ : St} {a : Nat} (hI : rI τ a = rI σ a) (hJ : rJ τ a = rJ σ a) (hR : rR F τ a = rR F σ a) (t : Nat) : aval X F τ t a = aval X F σ t a := by
  funext j
  unfold aval
  rw [hI, hJ, hR]
theorem RepC.kept {X : Cx} {F : Fx} {σ τ : St} {H H1 : Heap} {a : Nat} (h : RepC X F σ H a) (ht : tg F τ a = tg F σ a) (hl : ln F τ a = ln F σ a) (hI : rI τ a = rI σ a) (hJ : rJ τ a = rJ σ a) (hR : rR F τ a = rR F σ a)
    (hq : tg F σ a ≤ 73 → H1[adr X a]? = H[adr X a]?) : RepC X F τ H1 a := by
  unfold RepC at h ⊢
  rw [ht, hl, hI, hR, aval_eq hI hJ hR]
  obtain ⟨h1, h2, h3, h4, h5, h6⟩ := h
  refine ⟨fun q => ?_, h2, fun q => ?_, fun q1 q2 => ?_, fun q1 q2 => ?_, h6⟩
  · obtain ⟨r, hr, ho⟩ := h1 q
    exact ⟨r, hr, (ho.kept (hq (by omega))).to fun k _ => (fval_eq hI hJ hR _ k).symm⟩
  · rw [hq (by omega)]; exact h3 q
  · rw [hq (by omega)]; exact h4 q1 q2
  · rw [hq (by omega)]; exact h5 q1 q2
theorem Wd.upd {X : Cx} {F : Fx} {σ τ : St} {H H1 : Heap} (h : Wd X F σ H) (hn : nx τ = nx σ) (ht : ∀ b, tg F τ b = tg F σ b) (hl : ∀ b, ln F τ b = ln F σ b) {a : Nat} (ha : 16 ≤ a)
    (ho : ∀ b, b ≠ a → rI τ b = rI σ b ∧ rJ τ b = rJ σ b ∧ rR F τ b = rR F σ b) (hz : H1.size = H.size) (hq : ∀ q, q ≠ adr X a → H1[q]? = H[q]?) (hrep : RepC X F τ H1 a) : Wd X F τ H1 := by
  have hap := fun {b : Nat} => h.apart (b := b) ha
  obtain ⟨h1, h2, h3, h4, h5, h6, h7⟩ := h
  refine ⟨by rw [hz, hn]; exact h1, by rw [hn]; exact h2, by rw [hn]; exact h3, fun b hb => by rw [ht]; exact h4 b hb, fun b hb => by rw [ht]; exact h5 b hb, fun b hb => by rw [ht]; exact h6 b (by rw [← hn]; exact hb), fun b => ?_⟩
  by_cases hb : b = a
  · subst hb; exact hrep
  · obtain ⟨e1, e2, e3⟩ := ho b hb
    exact (h7 b).kept (ht b) (hl b) e1 e2 e3 fun q => hq _ (hap q hb)
theorem tg_hi {F : Fx} {σ : St} {a : Nat} (h : F.1 ≤ a) : tg F σ a = σ.1 a := by
  have : Nat.blt a F.1 = false := by rw [Bool.eq_false_iff, ne_eq, Nat.blt_eq]; omega
  simp [tg, this]
theorem ln_hi {F : Fx} {σ : St} {a : Nat} (h : F.1 ≤ a) : ln F σ a = σ.2.1 a := by
  have : Nat.blt a F.1 = false := by rw [Bool.eq_false_iff, ne_eq, Nat.blt_eq]; omega
  simp [ln, this]
theorem fR_hi {F : Fx} {a : Nat} (h : F.1 ≤ a) (k : Nat) : fR F a k = none := by
  have : Nat.blt a F.1 = false := by rw [Bool.eq_false_iff, ne_eq, Nat.blt_eq]; omega
  simp [fR, this]
theorem rR_hi {F : Fx} {σ : St} {a : Nat} (h : F.1 ≤ a) : rR F σ a = σ.2.2.2.2.1 a := by
  funext k
  simp [rR, fR_hi h, oR]
theorem up1_same {α : Type} (f : Nat → α) (a : Nat) (v : α) : up1 f a v a = v := by simp [up1]
theorem up1_ne {α : Type} (f : Nat → α) {a b : Nat} (v : α) (h : b ≠ a) : up1 f a v b = f b := by
  have : Nat.beq b a = false := by rw [Bool.eq_false_iff, ne_eq, Nat.beq_eq]; exact h
  simp [up1, this]
theorem up2_same {α : Type} (f : Nat → Nat → α) (a k : Nat) (v : α) : up2 f a k v a k = v := by simp [up2]
theorem up2_ne {α : Type} (f : Nat → Nat → α) {a b : Nat} (k : Nat) (v : α) (h : b ≠ a) : up2 f a k v b = f b := by
  have : Nat.beq b a = false := by rw [Bool.eq_false_iff, ne_eq, Nat.beq_eq]; exact h
  funext j
  simp [up2, this]
theorem up2_ne2 {α : Type} (f : Nat → Nat → α) {a b k j : Nat} (v : α) (h : j ≠ k) : up2 f a k v b j = f b j := by
  have : Nat.beq j k = false := by rw [Bool.eq_false_iff, ne_eq, Nat.beq_eq]; exact h
  simp [up2, this]
theorem nw_tg {F : Fx} {σ : St} {t n k a : Nat} (hF : F.1 ≤ nx σ) : tg F (nw σ t n k) a = if a = nx σ then t else tg F σ a := by
  by_cases h : a = nx σ
  · subst h
    rw [if_pos rfl, tg_hi hF]
    exact up1_same _ _ _
  · rw [if_neg h]
    unfold tg
    have : (nw σ t n k).1 a = σ.1 a := up1_ne _ _ h
    rw [this]
theorem nw_ln {F : Fx} {σ : St} {t n k a : Nat} (hF : F.1 ≤ nx σ) : ln F (nw σ t n k) a = if a = nx σ then n else ln F σ a := by
  by_cases h : a = nx σ
  · subst h
    rw [if_pos rfl, ln_hi hF]
    exact up1_same _ _ _
  · rw [if_neg h]
    unfold ln
    have : (nw σ t n k).2.1 a = σ.2.1 a := up1_ne _ _ h
    rw [this]
theorem nw_rI {σ : St} {t n k a : Nat} (h : a ≠ nx σ) : rI (nw σ t n k) a = rI σ a := up1_ne _ _ h
theorem nw_rJ {σ : St} {t n k a : Nat} (h : a ≠ nx σ) : rJ (nw σ t n k) a = rJ σ a := up1_ne _ _ h
theorem nw_rR {F : Fx} {σ : St} {t n k a : Nat} (h : a ≠ nx σ) : rR F (nw σ t n k) a = rR F σ a := by
  funext j
  unfold rR
  have : (nw σ t n k).2.2.2.2.1 a = σ.2.2.2.2.1 a := up1_ne _ _ h
  rw [this]
theorem nw_rI0 {σ : St} {t n k : Nat} : rI (nw σ t n k) (nx σ) = fun _ => 0 := up1_same _ _ _
theorem nw_rJ0 {σ : St} {t n k : Nat} : rJ (nw σ t n k) (nx σ) = fun _ => 0 := up1_same _ _ _
theorem nw_rR0 {F : Fx} {σ : St} {t n k : Nat} (hF : F.1 ≤ nx σ) : rR F (nw σ t n k) (nx σ) = fun _ => none := by
  rw [rR_hi hF]
  exact up1_same _ _ _
theorem Wd.new {X : Cx} {F : Fx} {σ : St} {H : Heap} (h : Wd X F σ H) {t n k : Nat} {cell : Cell} (hrep : RepC X F (nw σ t n k) (H.push cell) (nx σ)) : Wd X F (nw σ t n k) (H.push cell) := by
  obtain ⟨h1, h2, h3, h4, h5, h6, h7⟩ := id h
  have hn : nx (nw σ t n k) = nx σ + 1 := rfl
  refine ⟨by rw [Array.size_push, hn]; omega, by omega, by omega, fun b hb => ?_, fun b hb => ?_, fun b hb => ?_, fun b => ?_⟩
  · rw [nw_tg h3, if_neg (by omega)]; exact h4 b hb
  · rw [nw_tg h3, if_neg (by omega)]; exact h5 b hb
  · rw [hn] at hb
    rw [nw_tg h3, if_neg (by omega)]; exact h6 b (by omega)
  · by_cases hb : b = nx σ
    · subst hb; exact hrep
    · refine (h7 b).kept (by rw [nw_tg h3, if_neg hb]) (by rw [nw_ln h3, if_neg hb]) (nw_rI hb) (nw_rJ hb) (nw_rR hb) fun q => ?_
      have hlt : adr X b < H.size := by
        by_cases hb16 : b < 16
        · rw [adr_lo X hb16]
          have := h5 b hb16 q
          omega
        · have hbn := h.lt (a := b) (by omega)
          rw [adr_hi X (by omega)]
          omega
      rw [Array.getElem?_push, if_neg (by omega)]
theorem Wd.newAdr {X : Cx} {F : Fx} {σ : St} {H : Heap} (h : Wd X F σ H) : adr X (nx σ) = H.size := by
  obtain ⟨h1, h2, -⟩ := h
  rw [adr_hi X h2]
  omega
