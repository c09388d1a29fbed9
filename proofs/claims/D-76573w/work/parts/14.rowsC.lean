set_option maxRecDepth 100000
/-! ===== the class's own world: its object with arrays, facts, people, changes, bodies, shelves, law; what the store z says of it, where it lies (la) =====
 virtual numbers in the store: arrays 100+f: field f of the people; 110: the facts; 120+f: field f of the changes; 130: kinds of bodies; 140: what a shelf holds (-1 nothing, 0..4 a row's sort, 10+b body b), 141: sizes of rows; long arrays 150+s: elements of shelf s; fields 201: changes that count, 202: is there a law -/
abbrev LC : Type := (Nat → Nat) × Nat × (Nat → Nat) × (Nat → Nat → Option Nat) × Option Nat × (Nat → Nat) × (Nat → Option (Nat × (Nat → Value))) × (Nat → Nat)
def lAd (la : LC) : Nat → Nat := la.1
def lFn (la : LC) : Nat := la.2.1
def lPa (la : LC) : Nat → Nat := la.2.2.1
def lQ (la : LC) : Nat → Nat → Option Nat := la.2.2.2.1
def lLw (la : LC) : Option Nat := la.2.2.2.2.1
def lIa (la : LC) : Nat → Nat := la.2.2.2.2.2.1
def lIm (la : LC) : Nat → Option (Nat × (Nat → Value)) := la.2.2.2.2.2.2.1
def lTg (la : LC) : Nat → Nat := la.2.2.2.2.2.2.2
def kdC : Nat → Nat := fun k => match k with
  | 0 => 9 | 4 => 10 | 7 => 2 | 9 => 8 | 10 => 7 | 11 => 1 | 12 => 1 | 13 => 1 | 14 => 1 | 18 => 1 | 19 => 1 | 22 => 1 | 31 => 1 | 32 => 1 | 41 => 2 | 42 => 11 | 44 => 12 | _ => 0
def lnC : Nat → Nat := fun k => match k with
  | 0 => 8 | 4 => 40 | 7 => 120 | 11 => 8 | 12 => 8 | 13 => 8 | 14 => 8 | 18 => 8 | 19 => 8 | 22 => 60 | 31 => 8 | 32 => 8 | 41 => 24 | 42 => 50 | 44 => 6 | _ => 0
def zx (la : LC) (z : GS) : GS := (z.1, z.2.1, z.2.2.1, (fun k => if k = 9 then lLw la else none), lQ la, z.2.2.2.2.2)
/-- the store's part that the picture's shape hangs on -/
abbrev KZ : Type := Int32 × Int32 × Int32 × Int32 × (Nat → Nat → Int32) × ((Nat → Int32) → Int32)
def kz (z : GS) : KZ := (z.1 1, z.1 43, z.1 201, z.1 202, (fun k => if k < 25 then z.2.1 (120 + k) else fun _ => 0), z.2.2.2.2.2)
def kMany (w : KZ) : Nat := w.1.toNatClampNeg
def kBods (w : KZ) : Nat := w.2.1.toNatClampNeg
def kChgs (w : KZ) : Nat := w.2.2.1.toNatClampNeg
def kLaw (w : KZ) : Int32 := w.2.2.2.1
def kA (w : KZ) : Nat → Nat → Int32 := w.2.2.2.2.1
/-- a change's fields -/
def kV (w : KZ) (j : Nat) : Nat → Value := fun f => .int (if f < 4 then kA w f j else 0)
def kD (w : KZ) : (Nat → Int32) → Int32 := w.2.2.2.2.2
def kHold (w : KZ) (s : Nat) : Int32 := kA w 20 s
def kRow (w : KZ) (s : Nat) : Prop := 0 ≤ (kHold w s).toInt ∧ (kHold w s).toInt ≤ 4
/-- a shelf's array -/
def shC (aC : Nat → ClassId) (h n : Nat) (E : Nat → Int64) : Cell :=
  if h = 3 then vp_cell (aC 3) (n, .inr (.inl E)) else vp_cell (aC (if h = 0 then 2 else if h = 1 then 6 else if h = 2 then 1 else 5)) (n, .inl (fun j => (E j).toInt32))
def shFit (h n : Nat) (E : Nat → Int64) : Prop := ∀ j, j < n → fits (if h = 0 then .byte else if h = 1 then .short else if h = 2 then .int else if h = 3 then .int else .boolean) (.int (if h = 3 then 0 else (E j).toInt32)) = true
/-- the law's tree among the cells that don't change: its meaning as a function of the facts -/
def NodeAt (im : Nat → Option (Nat × (Nat → Value))) : Nat → Nat → ((Nat → Int32) → Int32) → Prop
  | 0, _, _ => False
  | n + 1, a, d =>
    (∃ F v, im a = some (10, F) ∧ F 0 = .int v ∧ d = fun _ => v) ∨
    (∃ F v, im a = some (7, F) ∧ F 0 = .int v ∧ okI v 128 ∧ d = fun x => x v.toNatClampNeg) ∨
    (∃ F b d1, im a = some (9, F) ∧ F 0 = .ref b ∧ NodeAt im n b d1 ∧ d = fun x => -(d1 x)) ∨
    (∃ F b d1, im a = some (8, F) ∧ F 0 = .ref b ∧ NodeAt im n b d1 ∧ d = fun x => if d1 x = 0 then 1 else 0) ∨
    (∃ F v b1 b2 d1 d2 g, im a = some (11, F) ∧ F 0 = .int v ∧ F 1 = .ref b1 ∧ F 2 = .ref b2 ∧ NodeAt im n b1 d1 ∧ NodeAt im n b2 d2 ∧ (g = fun (x y : Int32) => (if v = 43 then x + y else if v = 45 then x - y else if v = 42 then x * y else if v = 47 then (if y = 0 then 0 else if y = -1 then -x else x / y) else if v = 37 then (if y = 0 ∨ y = -1 then 0 else jrem x y) else if v = 60 then (if x < y then 1 else 0) else if v = 61 then (if x = y then 1 else 0) else if v = 62 then (if y < x then 1 else 0) else if v = 38 then (if x = 0 ∨ y = 0 then 0 else 1) else (if x = 0 ∧ y = 0 then 0 else 1) : Int32)) ∧ d = fun x => g (d1 x) (d2 x))
def LineAt (im : Nat → Option (Nat × (Nat → Value))) (D : Nat) : Nat → Nat → ((Nat → Int32) → Int32) → Prop
  | 0, _, _ => False
  | n + 1, a, d => ∃ (F : Nat → Value) (t nx : Option Nat) (g : Nat) (dt dg dn : (Nat → Int32) → Int32), im a = some (6, F) ∧ F 0 = va_rf t ∧ F 1 = .ref g ∧ F 2 = va_rf nx ∧ NodeAt im D g dg ∧
      (match t with | none => dt = fun _ => 1 | some b => NodeAt im D b dt) ∧ (match nx with | none => dn = fun _ => 0 | some b => LineAt im D n b dn) ∧ d = fun x => if dt x = 0 then dn x else dg x
def LDEP : Nat := 130
def LLEN : Nat := 130
/-- the class of a body by its kind: its number in vwCl -/
def bCi (k : Nat) : Nat := if k = 1 then 13 else if k = 2 then 14 else if k = 3 then 15 else if k = 4 then 16 else if k = 5 then 17 else if k = 6 then 18 else if k = 7 then 19 else 12
def OCi (o : Nat) (la : LC) (w : KZ) : Prop :=
  lIm la (lAd la 10) = some (1, fun _ => .ref (lFn la)) ∧
  (∀ j, j < kChgs w → ∃ a, lQ la 4 j = some a ∧ lIm la a = some (4, kV w j)) ∧
  (∀ j, j < kBods w → okI (kA w 10 j) 8 ∧ ∃ a, lQ la 42 j = some a ∧ lIm la a = some (bCi (kA w 10 j).toNatClampNeg, fun f => if f = 0 then .int (nI j) else .ref o)) ∧
  (∀ s, s < 6 → (kHold w s = -1 ∧ lQ la 44 s = none) ∨ (kRow w s ∧ okI (kA w 21 s) 61 ∧ ∃ a, lQ la 44 s = some a ∧ lIm la a = some (20 + (kHold w s).toNatClampNeg, fun _ => .ref (lIa la s))) ∨ (∃ b, b < kBods w ∧ kHold w s = 10 + nI b ∧ lQ la 44 s = lQ la 42 b)) ∧
  ((kLaw w = 0 ∧ lLw la = none) ∨ (kLaw w ≠ 0 ∧ ∃ a, lLw la = some a ∧ LineAt (lIm la) LDEP LLEN a (kD w)))
def OCt (A : Nat → Prop) (o : Nat) (la : LC) (w : KZ) : Prop :=
  lTg la o = 1 ∧ (∀ k, k < 45 → oaA (kdC k) = true → lTg la (lAd la k) = 100 + k) ∧ lTg la (lFn la) = 2 ∧ (∀ i, i < kMany w → lTg la (lPa la i) = 200 + i) ∧ (∀ s, s < 6 → kRow w s → lTg la (lIa la s) = 300 + s) ∧ (∀ a e, lIm la a = some e → lTg la a = 0) ∧ (∀ a, lTg la a ≠ 0 → A a)
def OCh (D : va_G) (aC : Nat → ClassId) (la : LC) (z : GS) (H : Heap) : Prop :=
  H[lFn la]? = some (vp_cell (aC 1) (128, .inl (z.2.1 110))) ∧
  (∀ i, i < kMany (kz z) → lQ la 0 i = some (lPa la i) ∧ t_OB (lPa la i) (D.1 3) 5 (D.2 3) H (fun f => .int (z.2.1 (100 + f) i))) ∧
  (∀ s, s < 6 → kRow (kz z) s → H[lIa la s]? = some (shC aC (kHold (kz z) s).toNatClampNeg (kA (kz z) 21 s).toNatClampNeg (z.2.2.1 (150 + s))) ∧ shFit (kHold (kz z) s).toNatClampNeg (kA (kz z) 21 s).toNatClampNeg (z.2.2.1 (150 + s))) ∧
  (∀ a e, lIm la a = some e → ∃ r, vwCl[e.1]? = some r ∧ t_OB a (D.1 e.1) r.2.2 (D.2 e.1) H e.2)
def OC (D : va_G) (aC : Nat → ClassId) (A : Nat → Prop) (o : Nat) (la : LC) (z : GS) (H : Heap) : Prop :=
  OA D aC 0 45 kdC lnC o (lAd la) (zx la z) H ∧ OCh D aC la z H ∧ OCt A o la (kz z) ∧ OCi o la (kz z)
theorem OC_OD {A : Nat → Prop} {o : Nat} {la : LC} {w : KZ} (h : OCt A o la w) : OD A 45 kdC o (lAd la) := by
  obtain ⟨h1, h2, -, -, -, -, h7⟩ := h
  refine ⟨fun i j hi hj ai aj e => ?_, fun i hi ai e => ?_, h7 _ (by rw [h1]; decide), fun i hi ai => h7 _ (by rw [h2 i hi ai]; omega)⟩
  · have e1 := h2 i hi ai
    have e2 := h2 j hj aj
    rw [e] at e1
    omega
  · have e1 := h2 i hi ai
    rw [e, h1] at e1
    omega
/-- a write at one address: what lies elsewhere stays -/
theorem OCh.kept {D : va_G} {aC : Nat → ClassId} {A : Nat → Prop} {o : Nat} {la : LC} {z z1 : GS} {H H1 : Heap} (h : OCh D aC la z H) (ht : OCt A o la (kz z)) (hk : kz z1 = kz z) (h110 : z1.2.1 110 = z.2.1 110) (hp : ∀ f, f < 5 → z1.2.1 (100 + f) = z.2.1 (100 + f)) (he : ∀ s, s < 6 → z1.2.2.1 (150 + s) = z.2.2.1 (150 + s)) {a : Nat} (hta : lTg la a = 1 ∨ (100 ≤ lTg la a ∧ lTg la a < 145)) (oq : ∀ q : Nat, q ≠ a → H1[q]? = H[q]?) : OCh D aC la z1 H1 := by
  obtain ⟨t1, t2, t3, t4, t5, t6, t7⟩ := ht
  obtain ⟨h1, h2, h3, h4⟩ := h
  refine ⟨?_, fun i hi => ?_, fun s hs hr => ?_, fun b e hb => ?_⟩
  · rw [oq _ (fun q => by rw [← q] at hta; omega), h110]
    exact h1
  · rw [hk] at hi
    obtain ⟨g1, g2⟩ := h2 i hi
    have := t4 i hi
    exact ⟨g1, (g2.kept (oq _ (fun q => by rw [← q] at hta; omega))).to (fun f hf => by rw [hp f hf])⟩
  · rw [hk] at hr ⊢
    have := t5 s hs hr
    rw [oq _ (fun q => by rw [← q] at hta; omega), he s hs]
    exact h3 s hs hr
  · obtain ⟨r, g1, g2⟩ := h4 b e hb
    have := t6 b e hb
    exact ⟨r, g1, g2.kept (oq _ (fun q => by rw [← q] at hta; omega))⟩
def isNw : Cond → Bool
  | .fieldLinkNest .. => true
  | .methodLinkNest .. => true
  | .castable .. => true
  | .declares .. => true
  | _ => false
/-- pairs of classes of which one can't be cast to the other -/
def ncTab : List (String × String) := [("java/lang/NullPointerException", "java/lang/ClassCastException"), ("java/lang/ArrayIndexOutOfBoundsException", "java/lang/ClassCastException"), ("java/lang/NegativeArraySizeException", "java/lang/ClassCastException"), ("java/lang/ClassCastException", "java/lang/NullPointerException"), ("java/lang/ArrayIndexOutOfBoundsException", "java/lang/NullPointerException"), ("java/lang/NegativeArraySizeException", "java/lang/NullPointerException"), ("java/lang/ClassCastException", "java/lang/IndexOutOfBoundsException"), ("java/lang/NullPointerException", "java/lang/IndexOutOfBoundsException"), ("java/lang/NegativeArraySizeException", "java/lang/IndexOutOfBoundsException"), ("java/lang/ClassCastException", "java/lang/NegativeArraySizeException"), ("java/lang/NullPointerException", "java/lang/NegativeArraySizeException"), ("java/lang/ArrayIndexOutOfBoundsException", "java/lang/NegativeArraySizeException"), ("ShieldLine$Roof", "ShieldLine$ByteRow"), ("ShieldLine$Lamp", "ShieldLine$ByteRow"), ("ShieldLine$Post", "ShieldLine$ByteRow"), ("ShieldLine$Widow", "ShieldLine$ByteRow"), ("ShieldLine$Can", "ShieldLine$ByteRow"), ("ShieldLine$Kiln", "ShieldLine$ByteRow"), ("ShieldLine$Hill", "ShieldLine$ByteRow"), ("ShieldLine$Shield", "ShieldLine$ByteRow"), ("ShieldLine$ShortRow", "ShieldLine$ByteRow"), ("ShieldLine$IntRow", "ShieldLine$ByteRow"), ("ShieldLine$LongRow", "ShieldLine$ByteRow"), ("ShieldLine$BooleanRow", "ShieldLine$ByteRow"), ("ShieldLine$Roof", "ShieldLine$Row"), ("ShieldLine$Lamp", "ShieldLine$Row"), ("ShieldLine$Post", "ShieldLine$Row"), ("ShieldLine$Widow", "ShieldLine$Row"), ("ShieldLine$Can", "ShieldLine$Row"), ("ShieldLine$Kiln", "ShieldLine$Row"), ("ShieldLine$Hill", "ShieldLine$Row"), ("ShieldLine$Shield", "ShieldLine$Row"), ("ShieldLine$ByteRow", "ShieldLine$Shield"), ("ShieldLine$ShortRow", "ShieldLine$Shield"), ("ShieldLine$IntRow", "ShieldLine$Shield"), ("ShieldLine$LongRow", "ShieldLine$Shield"), ("ShieldLine$BooleanRow", "ShieldLine$Shield"), ("ShieldLine$ByteRow", "ShieldLine$ShortRow"), ("ShieldLine$IntRow", "ShieldLine$ShortRow"), ("ShieldLine$LongRow", "ShieldLine$ShortRow"), ("ShieldLine$BooleanRow", "ShieldLine$ShortRow"), ("ShieldLine$ByteRow", "ShieldLine$IntRow"), ("ShieldLine$ShortRow", "ShieldLine$IntRow"), ("ShieldLine$LongRow", "ShieldLine$IntRow"), ("ShieldLine$BooleanRow", "ShieldLine$IntRow"), ("ShieldLine$ByteRow", "ShieldLine$LongRow"), ("ShieldLine$ShortRow", "ShieldLine$LongRow"), ("ShieldLine$IntRow", "ShieldLine$LongRow"), ("ShieldLine$BooleanRow", "ShieldLine$LongRow"), ("ShieldLine$ByteRow", "ShieldLine$BooleanRow"), ("ShieldLine$ShortRow", "ShieldLine$BooleanRow"), ("ShieldLine$IntRow", "ShieldLine$BooleanRow"), ("ShieldLine$LongRow", "ShieldLine$BooleanRow")]
/-- a bootstrap module that holds the unnamed package is called java.base -/
def modR (vm : Vm) : Prop := ∀ m ∈ vm.modules, m.loader = none → m.packages.contains "" = true → m.name = "java.base"
/-- calls by interface: receiver's class, what is named, what is run -/
def ifTab : List (String × MethodName × MethodName) := [("ShieldLine$Shield", ⟨"ShieldLine$Bears", "bears", "(I)I"⟩, ⟨"ShieldLine$Shield", "bears", "(I)I"⟩), ("ShieldLine$Roof", ⟨"ShieldLine$Bears", "bears", "(I)I"⟩, ⟨"ShieldLine$Roof", "bears", "(I)I"⟩), ("ShieldLine$Lamp", ⟨"ShieldLine$Bears", "bears", "(I)I"⟩, ⟨"ShieldLine$Shield", "bears", "(I)I"⟩), ("ShieldLine$Post", ⟨"ShieldLine$Bears", "bears", "(I)I"⟩, ⟨"ShieldLine$Shield", "bears", "(I)I"⟩), ("ShieldLine$Widow", ⟨"ShieldLine$Bears", "bears", "(I)I"⟩, ⟨"ShieldLine$Roof", "bears", "(I)I"⟩), ("ShieldLine$Can", ⟨"ShieldLine$Bears", "bears", "(I)I"⟩, ⟨"ShieldLine$Shield", "bears", "(I)I"⟩), ("ShieldLine$Kiln", ⟨"ShieldLine$Bears", "bears", "(I)I"⟩, ⟨"ShieldLine$Kiln", "bears", "(I)I"⟩), ("ShieldLine$Hill", ⟨"ShieldLine$Bears", "bears", "(I)I"⟩, ⟨"ShieldLine$Roof", "bears", "(I)I"⟩), ("ShieldLine$Shield", ⟨"ShieldLine$Tells", "tells", "(I)I"⟩, ⟨"ShieldLine$Shield", "tells", "(I)I"⟩), ("ShieldLine$Roof", ⟨"ShieldLine$Tells", "tells", "(I)I"⟩, ⟨"ShieldLine$Shield", "tells", "(I)I"⟩), ("ShieldLine$Lamp", ⟨"ShieldLine$Tells", "tells", "(I)I"⟩, ⟨"ShieldLine$Shield", "tells", "(I)I"⟩), ("ShieldLine$Post", ⟨"ShieldLine$Tells", "tells", "(I)I"⟩, ⟨"ShieldLine$Shield", "tells", "(I)I"⟩), ("ShieldLine$Widow", ⟨"ShieldLine$Tells", "tells", "(I)I"⟩, ⟨"ShieldLine$Shield", "tells", "(I)I"⟩), ("ShieldLine$Can", ⟨"ShieldLine$Tells", "tells", "(I)I"⟩, ⟨"ShieldLine$Can", "tells", "(I)I"⟩), ("ShieldLine$Kiln", ⟨"ShieldLine$Tells", "tells", "(I)I"⟩, ⟨"ShieldLine$Shield", "tells", "(I)I"⟩), ("ShieldLine$Hill", ⟨"ShieldLine$Tells", "tells", "(I)I"⟩, ⟨"ShieldLine$Hill", "tells", "(I)I"⟩)]
def NC (U : State) : Prop := ((∀ w ∈ ncTab, va_Nc w.1 w.2 U) ∧ (∀ w ∈ ifTab, va_Fw w.1 w.2.1 w.2.2 U)) ∧ modR U.vm
theorem ifTab_ok : ∀ w ∈ ifTab, w.2.1.cls ≠ "java/lang/invoke/MethodHandle" ∧ w.2.1.cls ≠ "java/lang/invoke/VarHandle" := by decide +kernel
theorem NC.moved {u U : State} (hvm : u.vm.Alike U.vm) (h : NC u) : NC U := ⟨⟨fun w hw => va_Nc.moved hvm (h.1.1 w hw), fun w hw => va_Fw.moved (ifTab_ok w hw) hvm (h.1.2 w hw)⟩, by
  have := hvm.1
  unfold modR
  rw [this]
  exact h.2⟩
/-- what is known of the classes -/
def KC (D : va_G) (aC : Nat → ClassId) (U : State) : Prop := va_K D vwCl (tysG aC) U ∧ (∀ w ∈ lw_tbl, isNw w = true → va_Nw w U) ∧ NC U
theorem KC.moved {D : va_G} {aC : Nat → ClassId} {u U : State} (hW : u.WarmedH U.vm) (h : KC D aC u) : KC D aC U := by
  refine ⟨va_K.moved hW.alike h.1, fun w hw hn => ?_, h.2.2.moved hW.alike⟩
  have h0 := h.2.1 w hw hn
  cases w <;> first | (exact va_Nw.warmF hW h0) | (exact va_Nw.warmM hW h0) | (exact va_Nw.warmC hW h0) | (exact va_Nw.warmD hW h0) | (cases hn)
theorem KC.same {D : va_G} {aC : Nat → ClassId} {u U : State} (hv : u.vm = U.vm) (h : KC D aC u) : KC D aC U := by
  refine ⟨va_K.moved (by rw [hv]; exact Vm.Alike.refl _) h.1, fun w hw hn => ?_, h.2.2.moved (by rw [hv]; exact Vm.Alike.refl _)⟩
  have h0 := h.2.1 w hw hn
  cases w <;> first | (exact va_Nw.same rfl hv h0) | (cases hn)
theorem KC.nw {D : va_G} {aC : Nat → ClassId} {U : State} (h : KC D aC U) {w : Cond} (hw : w ∈ lw_tbl) (hn : isNw w = true) {args : Array Value} : w.before args U = true := by
  have h0 := h.2.1 w hw hn
  cases w <;> first | (exact va_Nw.use rfl h0) | (cases hn)
def ZX (A : Nat → Prop) (U : State) (H : Heap) : Prop := vx_Zq Bundle.tN "UNASSIGNED_STACK" Bundle.steD A U H ∧ vx_Zq Bundle.tN "SUPPRESSED_SENTINEL" Bundle.listD A U H
theorem ZX.kept {A : Nat → Prop} {U : State} {H0 H : Heap} {locs : List Loc} (h : ZX A U H0) (hS : va_S A H0 H locs) : ZX A U H := ⟨h.1.kept hS.2.1, h.2.kept hS.2.1⟩
theorem ZX.moved {A : Nat → Prop} {u U : State} {H : Heap} (hvm : u.vm.Alike U.vm) (h : ZX A u H) : ZX A U H := ⟨vx_Zq.moved hvm h.1, vx_Zq.moved hvm h.2⟩
def PC (D : va_G) (aC : Nat → ClassId) (A : Nat → Prop) (o : Nat) (la : LC) (z : GS) (U : State) : Prop := OC D aC A o la z U.heap ∧ KC D aC U ∧ (∀ q : Nat, U.heap.size ≤ q → A q) ∧ ZX A U U.heap
theorem PC.blind {D : va_G} {aC : Nat → ClassId} {A : Nat → Prop} {o : Nat} {la : LC} {z : GS} {av : List Value} : FrameBlind (va_Pc av (PC D aC A o la z)) := fun a U g mk q => ⟨q.1, q.2.1, q.2.2.1.same (u := U) (U := U.calling g mk a) rfl, q.2.2.2.1, ZX.moved (u := U) (U := U.calling g mk a) (Vm.Alike.refl U.vm) q.2.2.2.2⟩
theorem PC.at {D : va_G} {aC : Nat → ClassId} {A : Nat → Prop} {o : Nat} {la : LC} {z : GS} {s U : State} {H : Heap} {locs : List Loc} (hO : OC D aC A o la z H) (hK : KC D aC s) (hA : ∀ q : Nat, s.heap.size ≤ q → A q) (hZ : ZX A s s.heap) (hS : va_S A s.heap H locs) (hU : U.heap = H) (hW : s.WarmedH U.vm) : PC D aC A o la z U := by
  refine ⟨by rw [hU]; exact hO, hK.moved hW, fun q hq => hA q ?_, ?_⟩
  · rw [hU] at hq
    exact Nat.le_trans hS.1 hq
  · rw [hU]
    exact (hZ.kept hS).moved hW.alike
theorem OC.recv {D : va_G} {aC : Nat → ClassId} {A : Nat → Prop} {o : Nat} {la : LC} {z : GS} {s : State} {H : Heap} (hK : KC D aC s) (h : OC D aC A o la z H) : ∃ cell : Cell, H[o]? = some cell ∧ cell.vm.isStatics = false ∧ s.vm.findClass RX0 = some cell.cls := OA.recv hK.1 h.1 rfl
theorem TX0_own (k : Nat) : (TX0 k).1 = RX0 := by unfold TX0; split <;> rfl
theorem TX3_own (k : Nat) : (TX3 k).1 = RX3 := by unfold TX3; split <;> rfl
abbrev okP (i : Int32) (z : GS) : Prop := 0 ≤ i.toInt ∧ i.toInt < (z.1 1).toInt ∧ (z.1 1).toInt ≤ 8
theorem okP_lt {i : Int32} {z : GS} (h : okP i z) : i.toNatClampNeg < kMany (kz z) := by
  obtain ⟨h1, h2, -⟩ := h
  show i.toInt.toNat < (z.1 1).toInt.toNat
  omega
theorem kz_sF {z : GS} {k : Nat} {v : Int32} (h1 : k ≠ 1) (h2 : k ≠ 43) (h3 : k ≠ 201) (h4 : k ≠ 202) : kz (sF z k v) = kz z := by
  simp [kz, sF, va_up, h1.symm, h2.symm, h3.symm, h4.symm]
theorem kz_sI {z : GS} {k : Nat} {j v : Int32} (h : k < 120) : kz (sI z k j v) = kz z := by
  have : ∀ q, (120 + q = k) = False := fun q => by simp; omega
  simp [kz, sI, va_up, this]
