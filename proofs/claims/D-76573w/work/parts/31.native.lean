set_option maxRecDepth 100000
/-! ===== what a native throws (its note lies over the native's own frame), no traces kept: after vx_vmAt, vx_vm of the pasted text ===== -/
set_option maxHeartbeats 1000000 in
theorem vx_vmNat {p : Program} {l : Launch} {e : Env} {R : Room} {s : State} {m₀ : MethodId} {args : Array Value} {below : List Frame} {meth : Method} {c : Code} {W : State} {locs : List Loc} {cells slots : Nat}
    (X : Stand p l e R s m₀ args below meth c W locs cells slots) (hexec : p.tables.exec = Jvm.exec) (htr : e.platform.stackTraces = false) {cls : String} {names : List String} {text : String}
    (hcls : Bundle.fit cls = true) (hnames : ∀ n ∈ names, Bundle.fit n = true) (hsoe : (cls == "java/lang/StackOverflowError") = false) (hoom : (cls == "java/lang/OutOfMemoryError") = false)
    (h : ∀ a ∈ Bundle.messageArmAtoms cls names, a.before args s = true)
    (hlocs : ∀ x ∈ locs, ∀ cell, s.heap[x.base]? = some cell → cell.vm.isStatics = false)
    (htext : (text == notModelled) = false) (hlimit : ¬ (stringBytes (stringToUtf16 text)).size > e.platform.arrayLengthLimit) (hheap : ¬ (stringBytes (stringToUtf16 text)).size * componentBytes .byte > e.platform.maxHeapBytes)
    {g : JFrame} (hsize : g.locals.size = c.maxLocals) {nf : NFrame} (hnf : nf.words = 0) (haw : nf.awaiting = false) (hlk : nf.locked = none)
    (hRframes : names.length + 5 < R.frames) (hRlocals : 2 * g.monitorRoom + (g.stack.map fun v => v.category).sum + 10240 ≤ R.locals) (hshort : 13 * names.length + 55 ≤ 10240)
    (hRcells : cells + 3 ≤ R.cells) (hRslots : slots + ((stringBytes (stringToUtf16 text)).size + 4 + 6) ≤ R.slots) (hlocks : meth.locks = false) :
    ∃ (S : State) (q : Addr) (ce : Cell), (∀ target, Steps p.tables e below ((S.setTop g).pushFrame (.throwing q)) target → Steps p.tables e below (W.setFrames (.throwNew cls (some text) none :: .native nf :: .java g :: below)) target) ∧
      Stand p l e R s m₀ args below meth c S locs (cells + 3) (slots + ((stringBytes (stringToUtf16 text)).size + 4 + 6)) ∧ S.heap[q]? = some ce ∧ s.vm.findClass cls = some ce.cls ∧ ce.vm = .none := by
  have howns : e.platform.frameOwnsMonitors = true := by rw [X.admits.platform]
  have hfin : e.platform.finalization = false := by rw [X.admits.platform]
  have hpl : e.platform.magicAccessors = ({} : Platform).magicAccessors := by rw [X.admits.platform]
  have a : ∀ x, x ∈ Bundle.messageArmAtoms cls names → x.holds args s none s [] = true := fun x hx => h x hx
  obtain ⟨T, Z0, L, -, Y⟩ := ThrowableC.of_atoms (args := args) howns hfin hpl (fun x hx => h x (by simp [Bundle.messageArmAtoms, hx]))
  obtain ⟨Z, M, LZ, LM, hnZ⟩ := Init0T.ofS_atoms (args := args) hpl L Y (fun x hx => h x (by simp [Bundle.messageArmAtoms, hx]))
  obtain ⟨P1, Ps, hlen, L1, hL, hP1m, hlink1, hlink⟩ := Bundle.chainS (args := args) hpl hnZ names cls hcls hnames (fun x hx => h x (by simp [Bundle.messageArmAtoms, hx]))
  obtain ⟨Zs, LZs, hn4, hfitv, hfitc⟩ := StringT.of_atoms (args := args) (fun x hx => h x (by simp [Bundle.messageArmAtoms, hx]))
  have hfound : s.vm.findClass cls = some P1.m.cls := findClass_of_methodNamed hP1m
  obtain ⟨c1, kX, hc1, hk, hord, -, -, hn6⟩ := Cond.instantiable_spec (a (.instantiable cls 6) (by simp [Bundle.messageArmAtoms]))
  cases Option.some.inj (hc1.symm.trans hfound)
  have hinit := Cond.initialized_spec hfound hk (a (.initialized cls) (by simp [Bundle.messageArmAtoms]))
  have hctor : kX.findMethod "<init>" "(Ljava/lang/String;)V" = some P1.m.idx := findMethod_of_methodNamed hP1m hk
  have hsel0 : selectMethod e.platform s.vm P1.m.cls T.fill0 = .method T.fill0 := by
    obtain ⟨c2, r2, m2, q1, q2, q3, q4, -⟩ := Cond.selects_spec (a (.selects cls Bundle.tFill0 Bundle.tFill0) (by simp [Bundle.messageArmAtoms]))
    cases Option.some.inj (q1.symm.trans hfound)
    cases Option.some.inj (q2.symm.trans (State.methodFound?_of_named Y.fill0 (by decide)))
    cases Option.some.inj (q3.symm.trans Y.fill0)
    rw [Launch.admits_selectMethod X.admits]; exact q4
  have hselF : selectMethod e.platform s.vm P1.m.cls T.fill = .method T.fill := by
    obtain ⟨c2, r2, m2, q1, q2, q3, q4, -⟩ := Cond.selects_spec (a (.selects cls Bundle.tFill Bundle.tFill) (by simp [Bundle.messageArmAtoms]))
    cases Option.some.inj (q1.symm.trans hfound)
    cases Option.some.inj (q2.symm.trans (State.methodFound?_of_named Y.fill (by decide)))
    cases Option.some.inj (q3.symm.trans Y.fill)
    rw [Launch.admits_selectMethod X.admits]; exact q4
  obtain ⟨cellS0, hcS0, hiss⟩ := Y.statics
  obtain ⟨u0, hu0⟩ := Cond.staticRefV Y.unassigned L.unassignedStatic L.statics hcS0 hiss (a (.isRef (.static Bundle.tN "UNASSIGNED_STACK" Bundle.steD)) (by simp [Bundle.messageArmAtoms]))
  obtain ⟨sen, hsen⟩ := Cond.staticRefV Y.sentinel L.sentinelStatic L.statics hcS0 hiss (a (.isRef (.static Bundle.tN "SUPPRESSED_SENTINEL" Bundle.listD)) (by simp [Bundle.messageArmAtoms]))
  obtain ⟨ci198, i198, fB, hk198, hg198, ha198, hsB, -, hnB, htB, hffB⟩ := Cond.ownField (t := .object "java/lang/Object") Y.found L.cls (by decide +kernel) (a (.fieldLink Bundle.tN 198 Bundle.tN "backtrace" "Ljava/lang/Object;") (by simp [Bundle.messageArmAtoms])) (a (.lays Bundle.tN Bundle.tN "backtrace" "Ljava/lang/Object;") (by simp [Bundle.messageArmAtoms])) e.platform hpl
  obtain ⟨cellS, hcS', heS, -, hkeep⟩ := X.same.2.2.2.2.2 T.aS cellS0 hcS0
  have hcellS : W.heap[T.aS]? = some cellS := hcS'
  have hout' : ∀ i, (⟨T.aS, i⟩ : Loc) ∉ locs := fun i hmem => by
    have := hlocs _ hmem cellS0 hcS0
    rw [hiss] at this; cases this
  have hknownS : cellS.vm ≠ .unknown := by
    rw [heS]; intro hu
    rw [show cellS0.vm = .unknown from hu] at hiss
    cases hiss
  have hvU : cellS.slots[T.fUnassigned.slot]? = some u0.v := by rw [hkeep _ (hout' _)]; exact hu0
  have hvSen : cellS.slots[T.fSentinel.slot]? = some sen.v := by rw [hkeep _ (hout' _)]; exact hsen
  obtain ⟨iM, hffM⟩ := Y.msg
  obtain ⟨tyC, dC, hdC, hdnC⟩ := Cond.laysAt hfound hk Y.cause (a (.lays cls Bundle.tN "cause" "Ljava/lang/Throwable;") (by simp [Bundle.messageArmAtoms]))
  obtain ⟨tyS, dS, hdS, hdnS⟩ := Cond.laysAt hfound hk Y.stack (a (.lays cls Bundle.tN "stackTrace" Bundle.steD) (by simp [Bundle.messageArmAtoms]))
  obtain ⟨tyP, dP, hdP, hdnP⟩ := Cond.laysAt hfound hk Y.supp (a (.lays cls Bundle.tN "suppressedExceptions" Bundle.listD) (by simp [Bundle.messageArmAtoms]))
  obtain ⟨tyM, dM, hdM, hdnM⟩ := Cond.laysAt hfound hk hffM (a (.lays cls Bundle.tN "detailMessage" "Ljava/lang/String;") (by simp [Bundle.messageArmAtoms]))
  obtain ⟨tyB, dB, hdB, hdnB⟩ := Cond.laysAt hfound hk hffB (a (.lays cls Bundle.tN "backtrace" "Ljava/lang/Object;") (by simp [Bundle.messageArmAtoms]))
  have bC := Cond.laysApart hdB hdC hdnB hdnC (by rw [hnB, Y.causeName]; decide)
  have bS := Cond.laysApart hdB hdS hdnB hdnS (by rw [hnB, Y.stackName]; decide)
  have bP := Cond.laysApart hdB hdP hdnB hdnP (by rw [hnB, Y.suppName]; decide)
  have hbk : ((preparedCellV T.toThrowableT (freshCell P1.m.cls kX) (W.heap.size + 2) u0 sen).withEntry W.cur).slots[fB.slot]? = some .null := by
    have := fresh_default (c := P1.m.cls) tyB
    rw [htB] at this
    simpa [preparedCellV, Cell.setSlot, Cell.withEntry, Array.getElem?_setIfInBounds, bC, bS, bP, bC.symm, bS.symm, bP.symm, defaultValue] using this
  have tkC := Takes.of_laid (v := .ref (W.heap.size + 2)) hk hord tyC (by rw [Y.causeType]; rfl)
  have tkS := Takes.of_laid (v := u0.v) hk hord tyS (by rw [Y.stackType]; exact fits_refV_array _ u0)
  have tkP := Takes.of_laid (v := sen.v) hk hord tyP (by rw [Y.suppType]; exact fits_refV_object _ sen)
  have tkM := Takes.of_laid (v := .ref (W.heap.size + 1)) hk hord tyM (by rw [Y.msgType]; rfl)
  have hskip : SkipFacts T e.platform s (fun u => u) u0 ((preparedCellV T.toThrowableT (freshCell P1.m.cls kX) (W.heap.size + 2) u0 sen).withEntry W.cur) := ⟨{ ci198 := ci198, i198 := i198, fBack := fB }, ⟨hk198, hg198, ha198, hsB⟩, hbk, fun _ _ => rfl⟩
  have hsl' : slots + ((stringBytes (stringToUtf16 text)).size + Zs.kS.instanceTypes.size + kX.instanceTypes.size) ≤ R.slots := by
    rw [hn4, hn6]
    omega
  obtain ⟨vm', X5, st, -⟩ := X.nativeThrowsMessageColdBareV hexec (g := g) hsize (nf := nf) hnf T L Z LZ M LM Zs LZs P1 L1 Ps hL hlink1 hlink hsoe hoom hfound hk hinit hord hctor htext hlimit hheap (hfitv _) (hfitc _)
    hsel0 hselF hcellS hknownS hvU hvSen tkC tkS tkP tkM Y.objLocals hskip (fun _ _ hA hW _ hroom _ hrest => L.nativeOff p htr hA hW hroom hrest) (by omega) hRlocals (by omega) hRcells hsl'
  obtain ⟨-, -, w3, w4, -, -, -⟩ := withThrown_facts e.platform W Zs text P1.m.cls kX
  have ha : (W.heap.size + 2) < ((withThrown W Zs text P1.m.cls kX).setVm vm').heap.size := by show _ < (withThrown W Zs text P1.m.cls kX).heap.size; rw [w3]; omega
  obtain ⟨g₁, hfrM⟩ := X5.frames_eq
  have hU : ((((withThrown W Zs text P1.m.cls kX).setVm vm').setCell (W.heap.size + 2) (plainBareV T.toThrowableT (freshCell P1.m.cls kX) (W.heap.size + 2) u0 sen (.ref (W.heap.size + 1)))).setTop g).pushFrame (.throwing (W.heap.size + 2)) = (((withThrown W Zs text P1.m.cls kX).setVm vm').setCell (W.heap.size + 2) (plainBareV T.toThrowableT (freshCell P1.m.cls kX) (W.heap.size + 2) u0 sen (.ref (W.heap.size + 1)))).setFrames (.throwing (W.heap.size + 2) :: .java g :: below) := by
    rw [State.pushFrame, State.frames_setTop _ hfrM, State.setTop_of_frames _ hfrM, State.setFrames_setFrames]
  have st2 : ∀ target, Steps p.tables e below (((((withThrown W Zs text P1.m.cls kX).setVm vm').setCell (W.heap.size + 2) (plainBareV T.toThrowableT (freshCell P1.m.cls kX) (W.heap.size + 2) u0 sen (.ref (W.heap.size + 1)))).setTop g).pushFrame (.throwing (W.heap.size + 2))) target → Steps p.tables e below (W.setFrames (.throwNew cls (some text) none :: .native nf :: .java g :: below)) target := fun target ht => st.trans (Steps.throwingLeavesNative ⟨X5.here.running, X5.here.runnable, X5.here.alone⟩ (State.cur_lt_of_frames hfrM) ⟨[.java g], rfl⟩ haw hlk (by rw [← hU]; exact ht))
  have b1 : (bytesOf Zs.cB (stringToUtf16 text)).slots.size = (stringBytes (stringToUtf16 text)).size := by
    rw [(Cell.writeAll_facts _ _).2.2]; simp [bytes0]
  have b2 : (stringAt Zs.cS Zs.kS Zs.fv Zs.fc (stringToUtf16 text) W.heap.size).slots.size = 4 := by simp [string0, Cell.setSlot, hn4]
  have b3 : (freshCell P1.m.cls kX).slots.size = 6 := by simp [hn6]
  rw [b1, b2, b3] at X5
  have e9 : slots + (stringBytes (stringToUtf16 text)).size + 4 + 6 = slots + ((stringBytes (stringToUtf16 text)).size + 4 + 6) := by omega
  rw [e9] at X5
  refine ⟨((withThrown W Zs text P1.m.cls kX).setVm vm').setCell (W.heap.size + 2) (plainBareV T.toThrowableT (freshCell P1.m.cls kX) (W.heap.size + 2) u0 sen (.ref (W.heap.size + 1))), W.heap.size + 2, _, st2,
    X5.forget (fun y hy => ?_), heapAt_setCell_self _ ha, hfound, rfl⟩
  simp only [List.mem_cons, List.not_mem_nil, or_false] at hy
  have hge : s.heap.size ≤ W.heap.size := X.same.2.1
  rcases hy with rfl | rfl | rfl | rfl | rfl <;> exact Nat.le_trans hge (Nat.le_add_right _ 2)
section NT
variable {p : Program} {l : Launch} {e : Env} {R : Room} {s : State} {m : MethodId} {args : Array Value} {below : List Frame} {meth : Method} {c : Code} {H : Heap} {locs : List Loc} {cells slots : Nat}
/-- from the machine's note that E is thrown here with this text, over a native's frame -/
def vx_NoteA (p : Program) (l : Launch) (e : Env) (R : Room) (s : State) (m : MethodId) (args : Array Value) (below : List Frame) (meth : Method) (c : Code) (H : Heap) (locs : List Loc) (cells slots : Nat) (Q : State → Prop) (nf : NFrame) (g : JFrame) (E text : String) : Prop :=
  ∀ T : State, T.heap = H → Stand p l e R s m args below meth c T locs cells slots → ∃ t, Steps p.tables e below (T.setFrames (.throwNew E (some text) none :: .native nf :: .java g :: below)) t ∧ Q t
theorem vx_vmN {pc : Nat} {ls : Array Slot} {rest : List Value} {Q : State → Prop} (hexec : p.tables.exec = Jvm.exec) (hl : l.stackTraces = false) {cls text : String} {names : List String} {nb : Nat} {A : Nat → Prop}
    (hcls : Bundle.fit cls = true) (hnames : ∀ n ∈ names, Bundle.fit n = true) (hsoe : (cls == "java/lang/StackOverflowError") = false) (hoom : (cls == "java/lang/OutOfMemoryError") = false)
    (hat : ∀ w ∈ vx_atM cls names, w.before args s = true) (hgood : ∀ w ∈ vx_atM cls names, vx_ot w = true)
    (hU : vx_Zq Bundle.tN "UNASSIGNED_STACK" Bundle.steD A s s.heap) (hN : vx_Zq Bundle.tN "SUPPRESSED_SENTINEL" Bundle.listD A s s.heap) (hS : va_S A s.heap H locs) (hsize : ls.size = c.maxLocals)
    (htext : (text == notModelled) = false) (hnb : (stringBytes (stringToUtf16 text)).size ≤ nb) (hnb1 : nb ≤ 1000)
    (hRframes : names.length + 5 < R.frames) (hRlocals : (rest.map fun v => v.category).sum + 10240 ≤ R.locals) (hshort : 13 * names.length + 55 ≤ 10240) (hRcells : cells + 3 ≤ R.cells) (hRslots : slots + (nb + 10) ≤ R.slots) (hlocks : meth.locks = false) {nf : NFrame} (hnf : nf.words = 0) (haw : nf.awaiting = false) (hlk : nf.locked = none)
    (k : ∀ (H1 : Heap) (q9 : Addr) (ce : Cell), H.size ≤ H1.size → (∀ q : Nat, q < H.size → H1[q]? = H[q]?) → va_S A s.heap H1 locs → H1[q9]? = some ce → ce.vm = .none → s.vm.findClass cls = some ce.cls → vx_W p l e R s m args below meth c H1 locs (cells + 3) (slots + (nb + 10)) Q (F0 m pc ls rest) q9) :
    vx_NoteA p l e R s m args below meth c H locs cells slots Q nf (F0 m pc ls rest) cls text := by
  intro T hT X
  have htr : e.platform.stackTraces = false := (show e.platform.stackTraces = l.stackTraces by rw [X.admits.platform]).trans hl
  have Y := vx_rebase X (R' := { frames := R.frames, locals := R.locals, cells := 3, slots := nb + 10 }) (Nat.le_refl _) (Nat.le_refl _) hRcells hRslots
  have hhp : ((T.setVm s.vm).setFrames (.invoking m args :: below)).heap = H := hT
  have hW0 : s.WarmedH ((T.setVm s.vm).setFrames (.invoking m args :: below)).vm := State.WarmedH.refl s
  have hat' : ∀ w ∈ vx_atM cls names, w.before args ((T.setVm s.vm).setFrames (.invoking m args :: below)) = true := fun w hw => vx_ot_at hW0 rfl (hgood w hw) (hat w hw)
  have hU' : vx_Zq Bundle.tN "UNASSIGNED_STACK" Bundle.steD A ((T.setVm s.vm).setFrames (.invoking m args :: below)) ((T.setVm s.vm).setFrames (.invoking m args :: below)).heap := by rw [hhp]; exact vx_Zq.moved hW0.alike (hU.kept hS.2.1)
  have hN' : vx_Zq Bundle.tN "SUPPRESSED_SENTINEL" Bundle.listD A ((T.setVm s.vm).setFrames (.invoking m args :: below)) ((T.setVm s.vm).setFrames (.invoking m args :: below)).heap := by rw [hhp]; exact vx_Zq.moved hW0.alike (hN.kept hS.2.1)
  obtain ⟨S, q, ce, st, Z, hce, hcl', hv⟩ := vx_vmNat Y hexec htr (cls := cls) (names := names) (text := text) hcls hnames hsoe hoom (vx_own hat' (vx_isRefq hU'.1) (vx_isRefq hN'.1) hU'.2.word hN'.2.word) (fun x hx => nomatch hx) htext
    (by rw [Launch.admits_arrayLengthLimit X.admits]; omega) (by rw [Launch.admits_maxHeapBytes X.admits]; simp only [componentBytes]; omega)
    (g := F0 m pc ls rest) hsize hnf haw hlk hRframes (by show 2 * 0 + (rest.map fun v => v.category).sum + 10240 ≤ R.locals; omega) hshort (by show 0 + 3 ≤ 3; omega) (by show 0 + (_ + 4 + 6) ≤ nb + 10; omega) hlocks
  obtain ⟨f1, f2⟩ := vx_frame Z.same
  have f1' : H.size ≤ S.heap.size := by rw [← hT]; exact f1
  have f2' : ∀ q : Nat, q < H.size → S.heap[q]? = H[q]? := fun q hq => by
    rw [← hT]
    exact f2 q (by rw [← hT] at hq; exact hq) (fun z hz => nomatch hz)
  have X5 := vx_back9 X Y Z
  have X6 : Stand p l e R s m args below meth c S locs (cells + 3) (slots + (nb + 10)) := { X5 with same := X5.same.mono (by omega) (by omega) }
  obtain ⟨t, a1, b1⟩ := k S.heap q ce f1' f2' ⟨Nat.le_trans hS.1 f1', fun q h1 h2 => (f2' q (Nat.lt_of_lt_of_le h1 hS.1)).trans (hS.2.1 q h1 h2), hS.2.2⟩ hce hv hcl' S rfl X6
  exact ⟨t, st t a1, b1⟩
theorem int_print (i : Int) (h1 : -(10 ^ 10) < i) (h2 : i < 10 ^ 10) : (toString i).toList.length ≤ 11 := by
  show (Int.repr i).toList.length ≤ 11
  cases h : i with
  | ofNat m =>
    rw [h] at h2
    have h1' : (m : Int) < 10 ^ 10 := h2
    have := nat_print (n := m) (by omega)
    show (toString m).toList.length ≤ 11
    omega
  | negSucc m =>
    rw [h] at h1
    have h2' : -(10 ^ 10 : Int) < -((m : Int) + 1) := by simpa [Int.negSucc_eq] using h1
    have := nat_print (n := m.succ) (by omega)
    show ("-" ++ toString m.succ).toList.length ≤ 11
    rw [String.toList_append, List.length_append]
    have h0 : "-".toList.length = 1 := by decide
    omega
theorem kindName_len (t : FieldType) : (Native.java_lang_System.arraycopy.kindName t).toList.length ≤ 12 := by
  cases t <;> first | decide | exact (show "object array".toList.length ≤ 12 by decide)
theorem arr_print (t : FieldType) {n : Nat} (h : n < 10 ^ 10) : (toString (Native.java_lang_System.arraycopy.kindName t) ++ toString "[" ++ toString n ++ toString "]" : String).toList.length ≤ 24 := by
  simp only [String.toList_append, List.length_append]
  have a1 : "[".toList.length = 1 := by decide
  have a2 : "]".toList.length = 1 := by decide
  have a3 := kindName_len t
  have a4 := nat_print h
  show (Native.java_lang_System.arraycopy.kindName t).toList.length + "[".toList.length + (toString n).toList.length + "]".toList.length ≤ 24
  omega
theorem oob_print {pre : String} (hp : pre.toList.length ≤ 23) {i : String} (hi : i.toList.length ≤ 11) {a : String} (ha : a.toList.length ≤ 24) : (toString pre ++ i ++ toString " out of bounds for " ++ toString a : String).toList.length ≤ 77 := by
  simp only [String.toList_append, List.length_append]
  have a1 : " out of bounds for ".toList.length = 19 := by decide
  show pre.toList.length + i.toList.length + " out of bounds for ".toList.length + a.toList.length ≤ 77
  omega
theorem fault_len {t1 t2 : FieldType} {n1 n2 : Nat} {i j k : Int32} {what : String} (h1 : n1 < 10 ^ 9) (h2 : n2 < 10 ^ 9) (h : copyFault t1 t2 n1 n2 i j k = some what) : what.toList.length ≤ 77 := by
  have b1 := Int32.toInt_lt i
  have b2 := Int32.le_toInt i
  have b3 := Int32.toInt_lt j
  have b4 := Int32.le_toInt j
  have b5 := Int32.toInt_lt k
  have b6 := Int32.le_toInt k
  unfold copyFault at h
  by_cases c1 : i < 0
  · rw [if_pos c1] at h
    cases h
    exact oob_print (pre := "source index ") (by decide) (int32_print i) (arr_print t1 (by omega))
  · rw [if_neg c1] at h
    by_cases c2 : j < 0
    · rw [if_pos c2] at h
      cases h
      exact oob_print (pre := "destination index ") (by decide) (int32_print j) (arr_print t2 (by omega))
    · rw [if_neg c2] at h
      by_cases c3 : k < 0
      · rw [if_pos c3] at h
        cases h
        show (toString "length " ++ toString k ++ toString " is negative" : String).toList.length ≤ 77
        simp only [String.toList_append, List.length_append]
        have a1 : "length ".toList.length = 7 := by decide
        have a2 : " is negative".toList.length = 12 := by decide
        have a3 := int32_print k
        show "length ".toList.length + (toString k).toList.length + " is negative".toList.length ≤ 77
        omega
      · rw [if_neg c3] at h
        by_cases c4 : i.toInt + k.toInt > n1
        · rw [if_pos c4] at h
          cases h
          exact oob_print (pre := "last source index ") (by decide) (int_print _ (by omega) (by omega)) (arr_print t1 (by omega))
        · rw [if_neg c4] at h
          by_cases c5 : j.toInt + k.toInt > n2
          · rw [if_pos c5] at h
            cases h
            exact oob_print (pre := "last destination index ") (by decide) (int_print _ (by omega) (by omega)) (arr_print t2 (by omega))
          · rw [if_neg c5] at h
            cases h
theorem fault_text {t1 t2 : FieldType} {n1 n2 : Nat} {i j k : Int32} {what : String} (h1 : n1 < 10 ^ 9) (h2 : n2 < 10 ^ 9) (h : copyFault t1 t2 n1 n2 i j k = some what) : (("arraycopy: " ++ what) == notModelled) = false ∧ (stringBytes (stringToUtf16 ("arraycopy: " ++ what))).size ≤ 400 := by
  have h9 := fault_len h1 h2 h
  refine ⟨?_, ?_⟩
  · rw [beq_eq_false_iff_ne]
    intro h
    have h2 := congrArg String.toList h
    rw [String.toList_append] at h2
    have h3 : "arraycopy: ".toList = 'a' :: "rraycopy: ".toList := by decide
    have h4 : notModelled.toList = '\u0000' :: " a message that is not modelled".toList := by decide
    rw [h4, h3] at h2
    simp at h2
  · have b1 := stringBytes_size_le (stringToUtf16 ("arraycopy: " ++ what))
    have b2 := utf16_size_le ("arraycopy: " ++ what)
    rw [String.toList_append, List.length_append] at b2
    have h3 : "arraycopy: ".toList.length = 11 := by decide
    omega
variable {cc : ByteArray} {pc index : Nat} {ls : Array Slot} {rest : List Value} {Q : State → Prop} {D : va_G} {aC : Nat → ClassId} {A : Nat → Prop}
/-- System.arraycopy out of bounds, of arrays of one primitive kind -/
theorem g_copyX {own : String} {a a0 : Nat} {cs cd : Cell} {ty : FieldType} {sp dp k : Int32} {what : String} (hx : p.tables.exec = Jvm.exec) (hst : l.stackTraces = false) (hb : c.code = cc) (hml : c.maxLocals = ls.size) (hts : ∀ w ∈ lw_all, w.before args s = true) (hown : s.vm.findClass own = some m.cls) (hK : KC D aC s) (hZ : ZX A s s.heap) (hS : va_S A s.heap H locs)
    (hlink : (Cond.methodLink own index arraycopyName).before args s = true) (hnat : (Cond.native arraycopyName).before args s = true) (hstat : (Cond.static arraycopyName).before args s = true) (hini : (Cond.initialized "java/lang/System").before args s = true)
    (hc0 : H[a0]? = some cs) (hc1 : H[a]? = some cd) (hv0 : cs.vm = .none) (hv1 : cd.vm = .none) {c0 c1 : ClassId} (e0 : cs.cls = c0) (e1 : cd.cls = c1) (hk0 : ∃ k comp, s.vm.classes[c0]? = some k ∧ k.kind = .array comp ty) (hk1 : ∃ k comp, s.vm.classes[c1]? = some k ∧ k.kind = .array comp ty) {N0 N1 : Nat} (n0 : cs.slots.size = N0) (n1 : cd.slots.size = N1) (hN0 : N0 < 1000) (hN1 : N1 < 1000)
    (hf : copyFault ty ty N0 N1 sp dp k = some what) (hrf : ((refKind ty != refKind ty) || (!refKind ty && ty != ty)) = false)
    (hRf : 8 < R.frames) (hRl : (rest.map fun v => v.category).sum + 10240 ≤ R.locals) (hRc : cells + 3 ≤ R.cells ∧ slots + 410 ≤ R.slots) (hlocks : meth.locks = false) (hdg : decode cc pc = .ok (.invokestatic index, 3))
    (kx : Thrown p l e R s m args below meth c H locs (cells + 3) (slots + 410) Q A pc ls rest "java/lang/ArrayIndexOutOfBoundsException") : W p l e R s m args below meth c H locs cells slots Q (F0 m pc ls (.int k :: .int dp :: .ref a :: .int sp :: .ref a0 :: rest)) := by
  subst e0; subst e1; subst n0; subst n1
  intro T hT X
  obtain ⟨ht1, ht2⟩ := fault_text (by omega) (by omega) hf
  have note : ∀ nf : NFrame, nf.words = 0 → nf.awaiting = false → nf.locked = none → vx_NoteA p l e R s m args below meth c H locs cells slots Q nf (F0 m pc ls rest) "java/lang/ArrayIndexOutOfBoundsException" ("arraycopy: " ++ what) := fun nf w1 w2 w3 =>
    vx_vmN hx hst (by decide +kernel) (by decide +kernel) (by decide +kernel) (by decide +kernel) (wpI hts hK).1 (wpI hts hK).2 hZ.1 hZ.2 hS hml.symm ht1 ht2 (by decide) hRf hRl (by decide) hRc.1 hRc.2 hlocks w1 w2 w3 kx
  obtain ⟨r, kS, methS, hnS, hmS, hkS, N⟩ := NativeOf.of_static hnat hstat (ps := [.object "java/lang/Object", .int, .object "java/lang/Object", .int, .int]) (ret := none) (by decide +kernel)
  have hinitS : kS.init = .initialized := Cond.initialized_spec (findClass_of_methodNamed hnS) hkS hini
  obtain ⟨vm', X', step⟩ := X.invokestatic hx hown hlink hnS hmS N.static hkS hinitS (by decide) (g := F0 m pc ls (.int k :: .int dp :: .ref a :: .int sp :: .ref a0 :: rest)) rfl (argsL := [.ref a0, .int sp, .ref a, .int dp, .int k]) (rest := rest) (by rw [N.sig]; rfl) rfl (by rw [hb]; exact hdg)
  have hA' : s.vm.Alike vm' := X'.warmed.alike
  obtain ⟨kS', N'⟩ := N.alike hA'
  have hT' : (T.setVm vm').heap = H := hT
  obtain ⟨t, a1, b1⟩ := note { method := r, args := #[.ref a0, .int sp, .ref a, .int dp, .int k], locked := none } rfl rfl rfl (T.setVm vm') hT' X'
  refine ⟨t, step t fun acts => ?_, b1⟩
  obtain ⟨g₀, hfr⟩ := X'.frames_eq
  have hseen : seenByNative methS #[.ref a0, .int sp, .ref a, .int dp, .int k] = #[.ref a0, .int sp, .ref a, .int dp, .int k] := by
    simp [seenByNative, N.static, N.sig, narrow]
  have hU : ((T.setVm vm').setTop (F0 m pc ls rest)).pushFrame (.native { method := r, args := seenByNative methS #[.ref a0, .int sp, .ref a, .int dp, .int k], locked := none }) = (T.setVm vm').setFrames (.native { method := r, args := seenByNative methS #[.ref a0, .int sp, .ref a, .int dp, .int k], locked := none } :: .java (F0 m pc ls rest) :: below) := by
    rw [State.pushFrame, State.frames_setTop _ hfr, State.setTop_of_frames _ hfr, State.setFrames_setFrames]
  obtain ⟨ka, ca, hka, hkka⟩ := hk0
  obtain ⟨kb, cb, hkb, hkkb⟩ := hk1
  obtain ⟨ka', hka', hea⟩ := hA'.2.2 _ _ hka
  obtain ⟨kb', hkb', heb⟩ := hA'.2.2 _ _ hkb
  refine Steps.nativeThrowsNote (row := arraycopyRow) (cls := "java/lang/ArrayIndexOutOfBoundsException") (msg := some ("arraycopy: " ++ what)) (T := fun u => u) (g := F0 m pc ls rest) X'.here acts N'.cls N'.meth N'.boot N'.native N'.noCode N'.noLock
    (by rw [N'.className, N'.name, N'.desc]; exact arraycopy_row p)
    (by rw [N'.className, N'.name]; exact X'.notFull (g := F0 m pc ls rest) hml.symm (vars := nativeFrameWords "java/lang/System" "arraycopy" 5) (by omega) (by
      have : nativeFrameWords "java/lang/System" "arraycopy" 5 + 11 ≤ 10240 := by decide
      show 2 * 0 + (rest.map fun v => v.category).sum + _ ≤ _
      omega)) ?_ ?_
  · intro E hE
    rw [hU] at hE ⊢
    rw [hseen] at hE ⊢
    rw [arraycopyRow_sem]
    exact Jvm.W.arraycopy_bounds (s := (T.setVm vm').setFrames _) (cs := cs) (cd := cd) (by show T.heap[a0]? = _; rw [hT]; exact hc0) (by show T.heap[a]? = _; rw [hT]; exact hc1) (fun _ h => by rw [hv0] at h; cases h) (fun _ h => by rw [hv1] at h; cases h) hka' hkb' (by rw [hea]; exact hkka) (by rw [heb]; exact hkkb) hrf hf (hE _)
  · rw [hU, hseen]
    have hcurT : (T.setVm vm').cur < (T.setVm vm').threads.size := State.cur_lt_of_frames hfr
    rw [State.pushFrame, State.frames_setFrames _ hcurT, State.setFrames_setFrames]
    exact a1
end NT
