set_option maxRecDepth 100000
/-! ===== bodies with handlers; what the machine throws, up to the frame ===== -/
theorem g_ofWH {l : Launch} {y : MethodName} {ws : List Cond} {rm : Room} {Qc : Array Value → State → Outcome → State → Prop} {mc ms : Nat} {free : Addr → Prop} {cc : ByteArray} {maxL : Nat} {ret : Option FieldType} {own : String} {hh : List (Nat × Nat × Nat × Nat)}
    (hy : plainName y.cls = true) (ho : y.cls = own) (hw : ws = Cond.codeWith y cc maxL ret hh :: lw_all) (As : List Value) (PRE : State → Prop) (hlen : (lg_sl As).length ≤ maxL)
    (body : ∀ (p : Program) (e : Env) (s : State) (m : MethodId) (below : List Frame) (meth : Method) (c : Code) (ls : Array Slot), p.tables.exec = Jvm.exec → c.code = cc → meth.sig.returnType = ret → c.maxLocals = maxL → (∀ w ∈ lw_all, w.before As.toArray s = true) → s.vm.findClass own = some m.cls → meth.locks = false → c.exceptionTable.toList = tableOf hh → PRE s → lv_has ls maxL (lv_args 0 As) →
      W p l e rm s m As.toArray below meth c s.heap [] 0 0 (MQ below Qc As.toArray s mc ms free) (F0 m 0 ls [])) : Met l y ws rm (va_Pc As PRE) Qc mc ms free := by
  subst ho
  refine va_MetW (cc := cc) (maxL := maxL) (ret := ret) (hh := hh) hy hw ?_
  intro p e s m args below meth c s₁ B hml hv
  obtain ⟨rfl, hP⟩ := hv
  have hts := atoms_spec (ws := ws) B.pre
  have hl := lv_entry As (n := maxL) hlen
  rw [lg_entry_eq]
  exact body p e s m below meth c _ B.exec B.bytes B.returns hml (fun w h => hts w (by rw [hw]; exact List.mem_cons_of_mem _ h)) (findClass_of_methodNamed B.named) B.notSynchronized (vx_table (x := y) B (hts _ (by rw [hw]; exact List.mem_cons_self))) hP hl
section TH
variable {p : Program} {l : Launch} {e : Env} {R : Room} {s : State} {m : MethodId} {args : Array Value} {below : List Frame} {meth : Method} {c : Code} {H : Heap} {locs : List Loc} {cells slots : Nat} {Q : State → Prop}
variable {cc : ByteArray} {pc nL : Nat} {ls : Array Slot} {rest : List Value} {D : va_G} {aC : Nat → ClassId} {A : Nat → Prop}
/-- thrown over the frame: what is known of it -/
abbrev Thrown (p : Program) (l : Launch) (e : Env) (R : Room) (s : State) (m : MethodId) (args : Array Value) (below : List Frame) (meth : Method) (c : Code) (H : Heap) (locs : List Loc) (cells slots : Nat) (Q : State → Prop) (A : Nat → Prop) (pc : Nat) (ls : Array Slot) (rest : List Value) (E : String) : Prop :=
  ∀ (H1 : Heap) (q9 : Addr) (ce : Cell), H.size ≤ H1.size → (∀ q : Nat, q < H.size → H1[q]? = H[q]?) → va_S A s.heap H1 locs → H1[q9]? = some ce → ce.vm = .none → s.vm.findClass E = some ce.cls → vx_W p l e R s m args below meth c H1 locs cells slots Q (F0 m pc ls rest) q9
theorem g_vmC (hx : p.tables.exec = Jvm.exec) (hst : l.stackTraces = false) (hts : ∀ w ∈ lw_all, w.before args s = true) (hK : KC D aC s) (hZ : ZX A s s.heap) (hS : va_S A s.heap H locs) (hsz : ls.size = c.maxLocals) {text : String} (ht : (text == notModelled) = false ∧ (stringBytes (stringToUtf16 text)).size ≤ 1000)
    (hRf : 6 < R.frames) (hRl : (rest.map fun v => v.category).sum + 10240 ≤ R.locals) (hRc : cells + 3 ≤ R.cells ∧ slots + 1010 ≤ R.slots) (hlocks : meth.locks = false)
    (k : Thrown p l e R s m args below meth c H locs (cells + 3) (slots + 1010) Q A pc ls rest "java/lang/ClassCastException") : vx_Note p l e R s m args below meth c H locs cells slots Q (F0 m pc ls rest) "java/lang/ClassCastException" text :=
  vx_vm hx hst (by decide +kernel) (by decide +kernel) (by decide +kernel) (by decide +kernel) (wpC hts hK).1 (wpC hts hK).2 hZ.1 hZ.2 hS hsz ht.1 ht.2 (by decide) hRf hRl (by decide) hRc.1 hRc.2 hlocks k
theorem g_vmI (hx : p.tables.exec = Jvm.exec) (hst : l.stackTraces = false) (hts : ∀ w ∈ lw_all, w.before args s = true) (hK : KC D aC s) (hZ : ZX A s s.heap) (hS : va_S A s.heap H locs) (hsz : ls.size = c.maxLocals) {text : String} (ht : (text == notModelled) = false ∧ (stringBytes (stringToUtf16 text)).size ≤ 400)
    (hRf : 7 < R.frames) (hRl : (rest.map fun v => v.category).sum + 10240 ≤ R.locals) (hRc : cells + 3 ≤ R.cells ∧ slots + 410 ≤ R.slots) (hlocks : meth.locks = false)
    (k : Thrown p l e R s m args below meth c H locs (cells + 3) (slots + 410) Q A pc ls rest "java/lang/ArrayIndexOutOfBoundsException") : vx_Note p l e R s m args below meth c H locs cells slots Q (F0 m pc ls rest) "java/lang/ArrayIndexOutOfBoundsException" text :=
  vx_vm hx hst (by decide +kernel) (by decide +kernel) (by decide +kernel) (by decide +kernel) (wpI hts hK).1 (wpI hts hK).2 hZ.1 hZ.2 hS hsz ht.1 ht.2 (by decide) hRf hRl (by decide) hRc.1 hRc.2 hlocks k
theorem g_vmG (hx : p.tables.exec = Jvm.exec) (hst : l.stackTraces = false) (hts : ∀ w ∈ lw_all, w.before args s = true) (hK : KC D aC s) (hZ : ZX A s s.heap) (hS : va_S A s.heap H locs) (hsz : ls.size = c.maxLocals) {text : String} (ht : (text == notModelled) = false ∧ (stringBytes (stringToUtf16 text)).size ≤ 400)
    (hRf : 6 < R.frames) (hRl : (rest.map fun v => v.category).sum + 10240 ≤ R.locals) (hRc : cells + 3 ≤ R.cells ∧ slots + 410 ≤ R.slots) (hlocks : meth.locks = false)
    (k : Thrown p l e R s m args below meth c H locs (cells + 3) (slots + 410) Q A pc ls rest "java/lang/NegativeArraySizeException") : vx_Note p l e R s m args below meth c H locs cells slots Q (F0 m pc ls rest) "java/lang/NegativeArraySizeException" text :=
  vx_vm hx hst (by decide +kernel) (by decide +kernel) (by decide +kernel) (by decide +kernel) (wpG hts hK).1 (wpG hts hK).2 hZ.1 hZ.2 hS hsz ht.1 ht.2 (by decide) hRf hRl (by decide) hRc.1 hRc.2 hlocks k
theorem g_vmN (hx : p.tables.exec = Jvm.exec) (hst : l.stackTraces = false) (hts : ∀ w ∈ lw_all, w.before args s = true) (hK : KC D aC s) (hZ : ZX A s s.heap) (hS : va_S A s.heap H locs) (hsz : ls.size = c.maxLocals)
    (hRf : 7 < R.frames) (hRl : (rest.map fun v => v.category).sum + 10240 ≤ R.locals) (hRc : cells + 1 ≤ R.cells ∧ slots + 8 ≤ R.slots) (hlocks : meth.locks = false)
    (k : Thrown p l e R s m args below meth c H locs (cells + 1) (slots + 8) Q A pc ls rest "java/lang/NullPointerException") : vx_NoteN p l e R s m args below meth c H locs cells slots Q (F0 m pc ls rest) :=
  vx_npe hx hst (wpN hts hK).1 (wpN hts hK).2 hZ.1 hZ.2 hS hsz hRf hRl hRc.1 hRc.2 hlocks k
theorem KC.nc {U : State} (h : KC D aC U) {C T : String} (hw : (C, T) ∈ ncTab) : va_Nc C T U := h.2.2.1.1 (C, T) hw
/-- the throw is caught by the first row -/
theorem g_catch0 {own E T : String} {q : Addr} {ce : Cell} {hh : List (Nat × Nat × Nat × Nat)} (hown : s.vm.findClass own = some m.cls) (hK : KC D aC s) (htab : c.exceptionTable.toList = tableOf hh) (n : Nat) {x : ExceptionTableEntry} (hn : (tableOf hh)[n]? = some x)
    (hpass : ∀ z ∈ (tableOf hh).take n, covers z pc = false ∨ (z.catchType ≠ 0 ∧ ∃ nm : String, (Cond.classLink own z.catchType nm).before args s = true ∧ va_Nc E nm s)) (hx : covers x pc = true) (h0 : x.catchType ≠ 0)
    (hlink : (Cond.classLink own x.catchType T).before args s = true) (hcast : Cond.castable E T ∈ lw_tbl) (hcell : H[q]? = some ce) (hv : ce.vm = .none) (hcl : s.vm.findClass E = some ce.cls)
    (kk : W p l e R s m args below meth c H locs cells slots Q (F0 m x.handlerPc ls [.ref q])) : vx_W p l e R s m args below meth c H locs cells slots Q (F0 m pc ls rest) q := by
  have hsplit : c.exceptionTable.toList = (tableOf hh).take n ++ x :: (tableOf hh).drop (n + 1) := by
    rw [htab]
    obtain ⟨hlt, he⟩ := List.getElem?_eq_some_iff.mp hn
    have h9 := List.take_append_drop n (tableOf hh)
    rw [List.drop_eq_getElem_cons hlt, he] at h9
    exact h9.symm
  exact vx_catch hown _ x _ hsplit hpass hx h0 hlink (hK.nw hcast rfl) hcell hv hcl kk
end TH
