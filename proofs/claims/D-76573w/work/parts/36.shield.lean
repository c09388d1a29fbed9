set_option maxRecDepth 100000
/-! printed by mkshield.py ===== the bodies' methods, by class of the code and kind of the body ===== -/
abbrev bodF (o j : Nat) : Nat → Value := fun f => if f = 0 then .int (nI j) else .ref o
section SU
variable {p : Program} {l : Launch} {e : Env} {R : Room} {s : State} {m : MethodId} {args : Array Value} {below : List Frame} {meth : Method} {c : Code} {H : Heap} {locs : List Loc} {cells slots : Nat} {Q : State → Prop}
variable {cc : ByteArray} {pc index : Nat} {ls : Array Slot} {rest : List Value} {D : va_G} {aC : Nat → ClassId} {A : Nat → Prop} {o : Nat} {la : LC} {z : GS}
/-- a field of a cell that doesn't change, read by code of the class that declares it or of one below -/
theorem nd_getS {own C : String} {T : u_T} {N ci a : Nat} {F : Nat → Value} {v : Value} (hx : p.tables.exec = Jvm.exec) (hb : c.code = cc) (hts : ∀ w ∈ lw_all, w.before args s = true) (hin : ∀ w ∈ u_ws C T N, w ∈ lw_all) (hown : s.vm.findClass own = some m.cls) (hK : KC D aC s) (hO : OC D aC A o la z H) (hc : vwCl[ci]? = some (C, T, N)) (him : lIm la a = some (ci, F)) (k : Nat) (hk : k < N) (hv : F k = v) (hlink : (Cond.fieldLink own index (T k).1 (T k).2.1 (T k).2.2.1).before args s = true) (hdg : decode cc pc = .ok (.getfield index, 3)) (kk : W p l e R s m args below meth c H locs cells slots Q (F0 m (pc + 3) ls (v :: rest))) : W p l e R s m args below meth c H locs cells slots Q (F0 m pc ls (.ref a :: rest)) := by
  obtain ⟨cell, q1, q2, q3, q4⟩ := hO.imm him hc
  obtain ⟨hS, hfc, kC, hkC, hkind⟩ := hK.1.1 ci _ hc
  obtain ⟨cf, kf, fi, fd, hi, hsl⟩ := hS k hk
  refine W.getf hx hb hown hlink (ref := (T k).1) hi (u_facts hfc hkC (u_lays hts hin hk) hi).1 q1 (by rw [q3]; exact fun h => by cases h) (v := v) ?_ rfl rfl hdg kk
  rw [hsl, q4 k hk, hv]
theorem absO {own C : String} {idx : Nat} {x y : MethodName} {owner : String} (hq : Cond.methodLink own idx x ∈ lw_all) (hsame : Cond.sameMethod x.cls owner x.name x.desc ∈ lw_all) (ho : Cond.instanceMethod ⟨owner, x.name, x.desc⟩ ∈ lw_all) (hsel : Cond.selects C x y ∈ lw_all) (hinst : Cond.instanceMethod y ∈ lw_all) (hini : Cond.initialized y.cls ∈ lw_all) : ∀ w ∈ [Cond.methodLink own idx x, Cond.sameMethod x.cls owner x.name x.desc, Cond.instanceMethod ⟨owner, x.name, x.desc⟩, Cond.selects C x y, Cond.instanceMethod y, Cond.initialized y.cls], w ∈ lw_all := by
  intro w hw
  simp only [List.mem_cons, List.not_mem_nil, or_false] at hw
  rcases hw with e | e | e | e | e | e
  · rw [e]; exact hq
  · rw [e]; exact hsame
  · rw [e]; exact ho
  · rw [e]; exact hsel
  · rw [e]; exact hinst
  · rw [e]; exact hini
theorem subAux {vm : Vm} (n : Nat) (a : ClassId) : vm.isSubclassAux (n + 1) a a = true := by simp [Vm.isSubclassAux]
theorem subUp0 {B : String} (_ : ∀ w ∈ lw_all, w.before args s = true) : ∀ a b, s.vm.findClass B = some a → s.vm.findClass B = some b → s.vm.isSubclass a b = true := by
  intro a b h1 h2
  cases h1.symm.trans h2
  exact subAux _ _
theorem subUp1 {B C : String} (hts : ∀ w ∈ lw_all, w.before args s = true) (hw : Cond.superclass B C ∈ lw_all) : ∀ a b, s.vm.findClass B = some a → s.vm.findClass C = some b → s.vm.isSubclass a b = true := by
  intro a b h1 h2
  obtain ⟨ps, dk, kp, hps, hdk, hkp, hsuper, -, -, -⟩ := Cond.superclass_spec h1 (hts _ hw)
  cases hps.symm.trans h2
  have hlt : a < s.vm.classes.size := (Array.getElem?_eq_some_iff.mp hdk).1
  unfold Vm.isSubclass
  have h9 : 0 < s.vm.classes.size := Nat.lt_of_le_of_lt (Nat.zero_le _) hlt
  obtain ⟨n, hn⟩ : ∃ n, s.vm.classes.size + 1 = n + 2 := ⟨s.vm.classes.size - 1, by omega⟩
  rw [hn]
  show (a == b || match s.vm.classes[a]? with | some k => (match k.super with | some p => s.vm.isSubclassAux (n + 1) p b | none => false) | none => false) = true
  rw [hdk]
  simp only [hsuper]
  rw [subAux]
  simp
theorem nat2 (N a b : Nat) (h1 : a < N) (h2 : b < N) (h3 : a ≠ b) : N + 1 = N - 2 + 3 := by omega
theorem subUp2 {B C E : String} (hts : ∀ w ∈ lw_all, w.before args s = true) (hw : Cond.superclass B C ∈ lw_all) (hw2 : Cond.superclass C E ∈ lw_all) (hne : B ≠ C) : ∀ a b, s.vm.findClass B = some a → s.vm.findClass E = some b → s.vm.isSubclass a b = true := by
  intro a b h1 h2
  obtain ⟨ps, dk, kp, hps, hdk, hkp, hsuper, -, -, -⟩ := Cond.superclass_spec h1 (hts _ hw)
  obtain ⟨ps2, dk2, kp2, hps2, hdk2, hkp2, hsuper2, -, -, -⟩ := Cond.superclass_spec hps (hts _ hw2)
  cases hps2.symm.trans h2
  have hlt : a < s.vm.classes.size := (Array.getElem?_eq_some_iff.mp hdk).1
  have hlt2 : ps < s.vm.classes.size := (Array.getElem?_eq_some_iff.mp hdk2).1
  have hab : (a : Nat) ≠ ps := fun q => by
    have q : a = ps := q
    subst q
    exact hne ((find_full h1 hdk).1.symm.trans (find_full hps hdk).1)
  have h8 : (a : Nat) < s.vm.classes.size := hlt
  have h9 : (ps : Nat) < s.vm.classes.size := hlt2
  unfold Vm.isSubclass
  obtain ⟨n, hn⟩ : ∃ n, s.vm.classes.size + 1 = n + 3 := ⟨s.vm.classes.size - 2, nat2 _ _ _ h8 h9 hab⟩
  rw [hn]
  show (a == b || match s.vm.classes[a]? with | some k => (match k.super with | some p => s.vm.isSubclassAux (n + 2) p b | none => false) | none => false) = true
  rw [hdk]
  simp only [hsuper]
  have e2 : s.vm.isSubclassAux (n + 2) ps b = true := by
    show (ps == b || match s.vm.classes[ps]? with | some k => (match k.super with | some p => s.vm.isSubclassAux (n + 1) p b | none => false) | none => false) = true
    rw [hdk2]
    simp only [hsuper2]
    rw [subAux]
    simp
  rw [e2]
  simp
/-- super.m(..) of a method that the superclass has or has from above (after va_callSU, va_runSU) -/
theorem va_runUp {x y : MethodName} {bytes : ByteArray} {maxL nL mc ms n : Nat} {ret : Option FieldType} {ws ws' : List Cond} {rm : Room} {Pc : Array Value → State → Prop} {Qc : Array Value → State → Outcome → State → Prop} {free : Addr → Prop} {own C : String} {b : Addr} {As : List Value} {g : JFrame}
    (S : CallFix p m c cc nL s args lw_all own) (hM : Met l y ws rm Pc Qc mc ms free)
    (hlink : (Cond.methodLink own index x).before args s = true) (hsame : (Cond.sameMethod x.cls y.cls x.name x.desc).before args s = true) (hsup : (Cond.superclass own x.cls).before args s = true) (hyx : y = ⟨y.cls, x.name, x.desc⟩) (hinst : (Cond.instanceMethod y).before args s = true) (hsub : ∀ a b, s.vm.findClass x.cls = some a → s.vm.findClass y.cls = some b → s.vm.isSubclass a b = true)
    (hw : ws = Cond.code y bytes maxL ret :: ws') (hG : GoodIn lw_all ws) (hini : (Cond.initialized y.cls).before args s = true) (hno : x.name ≠ "<init>") (hlen : (parseMethodDescriptor x.desc).map (fun d => d.parameters.length) = some n) (hR : rm.frames + 1 ≤ R.frames ∧ 8 + (maxL + 11) + rm.locals ≤ R.locals) (hp : PreV s H C b Pc As)
    (hg : g.method = m) (hn : As.length = n) (hsize : g.locals.size = nL) (hstack : g.stack = As.reverse ++ .ref b :: rest) (hW : 2 * g.monitorRoom + (rest.map fun v => v.category).sum ≤ 8) (hdg : decode cc g.pc = .ok (.invokespecial index, 3)) (hf : cells + mc ≤ R.cells ∧ slots + ms ≤ R.slots) (hrc : rm.cells = mc) (hrs : rm.slots = ms) (hat : ∃ cC, ClassAt s C cC) :
    va_Run p l e R s m args below meth c H locs cells slots mc ms g rest (Qc (Value.ref b :: As).toArray) (free) := by
  have hc : Cond.code y bytes maxL ret ∈ ws := by rw [hw]; exact List.mem_cons_self
  have hcode : (Cond.code y bytes maxL ret).before args s = true := S.2.2.2.2 _ (hG _ hc).1
  have hK : Back l R p e below s args y 3 8 (PreOf R mc ms Pc) (PostOf Qc mc ms free) := back_of (bytes := bytes) (maxL := maxL) (ret := ret) hM hp.1 hrc hrs hR.1 hR.2 (pay_in S.2.2.2.2 hG) hc (fun a' U hW => word_at hW (Or.inl (by first | rfl | simp [Cond.onTables, Cond.keeps, Cond.steady])) hini)
  obtain ⟨hx, hb, hml, ho, -⟩ := S
  obtain ⟨-, ⟨cellB, hcB, hoB, hclB⟩, hPc⟩ := hp
  obtain ⟨cC, hfc, kB, hkB, -⟩ := hat
  cases hfc.symm.trans hclB
  obtain ⟨mk, methM, hnamed, hmethM, hstM, habM⟩ := Cond.instanceMethod_spec hinst
  obtain ⟨methM', cM, hmethM', -, -, -, -, -, -, hsigM⟩ := Cond.code_spec hnamed hcode
  cases hmethM.symm.trans hmethM'
  obtain ⟨ps, dk, kp, hps, hdk, hkp, hsuper, -, -, hnid⟩ := Cond.superclass_spec ho hsup
  have hnm : s.methodNamed? ⟨y.cls, x.name, x.desc⟩ = some mk := by rw [← hyx]; exact hnamed
  have hsub' := hsub ps mk.cls hps (findClass_of_methodNamed hnamed)
  intro T hT X
  have hl2 : ∀ sig, parseMethodDescriptor x.desc = some sig → As.length = sig.parameters.length := fun sig h => by
    rw [h] at hlen
    rw [hn]
    exact (Option.some.inj hlen).symm
  have hdesc : y.desc = x.desc := by rw [hyx]
  rw [hdesc] at hsigM
  obtain ⟨vm₁, X₁, hstep₁⟩ := X.invokespecialUp hx ho hlink hsame hnm hmethM hstM habM hno hdk hnid hps hsuper hsub' (a := b) (cell := cellB) (by rw [hT]; exact hcB)
    (fun z h => by rw [h] at hoB; cases hoB) hkB (g := g) hg (argsL := As) (rest := rest) (hl2 _ hsigM) hstack (by rw [hb]; exact hdg)
  obtain ⟨v, ⟨U', l2, c2, s2⟩, X', ⟨g', mk', t, L, e1, e2, hq, h1, hL, h2, h3⟩, hsteps⟩ := hK m meth c ⟨T.setVm vm₁, locs, cells, slots⟩ { g with stack := rest } (.invokespecial index) mk (Value.ref b :: As).toArray X₁ hg (hsize.trans hml.symm) (by rw [hb]; exact hdg) hW (X₁.named hnamed) ⟨hf.1, hf.2, hPc (T.setVm vm₁) hT X₁.warmed⟩
  dsimp only [Pt.U, Pt.locs, Pt.cells, Pt.slots] at X' e1 e2 h1 h2 h3 hsteps
  subst h1; subst h2; subst h3
  exact ⟨v, (T.setVm vm₁).calling g' mk' (Value.ref b :: As).toArray, t, U', L, hT, X', hL, e1, e2, hq, fun target h => hstep₁ _ (by rw [doInvoke_state]; exact hsteps.trans h)⟩
end SU
def FB14_isUnder_0 (x : Int32) : Int32 := if x = 0 then 1 else if x = 0 then 1 else 0
def FB14_isUnder_1 (x : Int32) : Int32 := if x = 0 then 1 else if x = 1 then 1 else 0
def FB15_isUnder_1 (x : Int32) : Int32 := if x = 1 then 1 else if FB14_isUnder_1 x = 0 then 0 else 1
def FB14_isUnder_2 (x : Int32) : Int32 := if x = 0 then 1 else if x = 2 then 1 else 0
def FB16_isUnder_2 (x : Int32) : Int32 := if x = 2 then 1 else if FB14_isUnder_2 x = 0 then 0 else 1
def FB14_isUnder_3 (x : Int32) : Int32 := if x = 0 then 1 else if x = 3 then 1 else 0
def FB16_isUnder_3 (x : Int32) : Int32 := if x = 2 then 1 else if FB14_isUnder_3 x = 0 then 0 else 1
def FB17_isUnder_3 (x : Int32) : Int32 := if x = 3 then 1 else if FB16_isUnder_3 x = 0 then 0 else 1
def FB14_isUnder_4 (x : Int32) : Int32 := if x = 0 then 1 else if x = 4 then 1 else 0
def FB15_isUnder_4 (x : Int32) : Int32 := if x = 1 then 1 else if FB14_isUnder_4 x = 0 then 0 else 1
def FB18_isUnder_4 (x : Int32) : Int32 := if x = 4 then 1 else if FB15_isUnder_4 x = 0 then 0 else 1
def FB14_isUnder_5 (x : Int32) : Int32 := if x = 0 then 1 else if x = 5 then 1 else 0
def FB16_isUnder_5 (x : Int32) : Int32 := if x = 2 then 1 else if FB14_isUnder_5 x = 0 then 0 else 1
def FB17_isUnder_5 (x : Int32) : Int32 := if x = 3 then 1 else if FB16_isUnder_5 x = 0 then 0 else 1
def FB14_isUnder_6 (x : Int32) : Int32 := if x = 0 then 1 else if x = 6 then 1 else 0
def FB14_isUnder_7 (x : Int32) : Int32 := if x = 0 then 1 else if x = 7 then 1 else 0
def FB15_isUnder_7 (x : Int32) : Int32 := if x = 1 then 1 else if FB14_isUnder_7 x = 0 then 0 else 1
def FB18_isUnder_7 (x : Int32) : Int32 := if x = 4 then 1 else if FB15_isUnder_7 x = 0 then 0 else 1
def FB14_bears_0 (n x : Int32) (z : GS) : Option (Int32 × GS) := bn1 (FX0_ran 1 z) fun z1 => some ((x + n), z1)
def FB14_bears_1 (n x : Int32) (z : GS) : Option (Int32 × GS) := bn1 (FX0_ran 1 z) fun z1 => some ((x + n), z1)
def FB15_bears_1 (n x : Int32) (z : GS) : Option (Int32 × GS) := bn1 (FX0_ran 20 z) fun z1 => bnd (FB14_bears_1 n (x) z1) fun a3 z4 => some ((a3 + 3), z4)
def FB14_bears_2 (n x : Int32) (z : GS) : Option (Int32 × GS) := bn1 (FX0_ran 1 z) fun z1 => some ((x + n), z1)
def FB14_bears_3 (n x : Int32) (z : GS) : Option (Int32 × GS) := bn1 (FX0_ran 1 z) fun z1 => some ((x + n), z1)
def FB14_bears_4 (n x : Int32) (z : GS) : Option (Int32 × GS) := bn1 (FX0_ran 1 z) fun z1 => some ((x + n), z1)
def FB15_bears_4 (n x : Int32) (z : GS) : Option (Int32 × GS) := bn1 (FX0_ran 20 z) fun z1 => bnd (FB14_bears_4 n (x) z1) fun a3 z4 => some ((a3 + 3), z4)
def FB14_bears_5 (n x : Int32) (z : GS) : Option (Int32 × GS) := bn1 (FX0_ran 1 z) fun z1 => some ((x + n), z1)
def FB14_bears_6 (n x : Int32) (z : GS) : Option (Int32 × GS) := bn1 (FX0_ran 1 z) fun z1 => some ((x + n), z1)
def FB20_bears_6 (n x : Int32) (z : GS) : Option (Int32 × GS) := bn1 (FX0_ran 70 z) fun z1 => bnd (FB14_bears_6 n (x) z1) fun a3 z4 => some ((a3 * 2), z4)
def FB14_bears_7 (n x : Int32) (z : GS) : Option (Int32 × GS) := bn1 (FX0_ran 1 z) fun z1 => some ((x + n), z1)
def FB15_bears_7 (n x : Int32) (z : GS) : Option (Int32 × GS) := bn1 (FX0_ran 20 z) fun z1 => bnd (FB14_bears_7 n (x) z1) fun a3 z4 => some ((a3 + 3), z4)
def FB14_caresFor_0 (n x : Int32) (z : GS) : Option (Int32 × GS) := bn1 (FX0_ran 10 z) fun z1 => bnd (FB14_bears_0 n (x) z1) fun a3 z4 => some ((a3 * 2), z4)
def FB14_caresFor_1 (n x : Int32) (z : GS) : Option (Int32 × GS) := bn1 (FX0_ran 10 z) fun z1 => bnd (FB15_bears_1 n (x) z1) fun a3 z4 => some ((a3 * 2), z4)
def FB14_caresFor_2 (n x : Int32) (z : GS) : Option (Int32 × GS) := bn1 (FX0_ran 10 z) fun z1 => bnd (FB14_bears_2 n (x) z1) fun a3 z4 => some ((a3 * 2), z4)
def FB16_caresFor_2 (n x : Int32) (z : GS) : Option (Int32 × GS) := bn1 (FX0_ran 30 z) fun z1 => bnd (FB14_caresFor_2 n (x) z1) fun a3 z4 => some ((-a3), z4)
def FB14_caresFor_3 (n x : Int32) (z : GS) : Option (Int32 × GS) := bn1 (FX0_ran 10 z) fun z1 => bnd (FB14_bears_3 n (x) z1) fun a3 z4 => some ((a3 * 2), z4)
def FB16_caresFor_3 (n x : Int32) (z : GS) : Option (Int32 × GS) := bn1 (FX0_ran 30 z) fun z1 => bnd (FB14_caresFor_3 n (x) z1) fun a3 z4 => some ((-a3), z4)
def FB17_caresFor_3 (n x : Int32) (z : GS) : Option (Int32 × GS) := bn1 (FX0_ran 41 z) fun z1 => bnd (FB16_caresFor_3 n ((x + 1)) z1) fun a3 z4 => some (a3, z4)
def FB14_caresFor_4 (n x : Int32) (z : GS) : Option (Int32 × GS) := bn1 (FX0_ran 10 z) fun z1 => bnd (FB15_bears_4 n (x) z1) fun a3 z4 => some ((a3 * 2), z4)
def FB14_caresFor_5 (n x : Int32) (z : GS) : Option (Int32 × GS) := bn1 (FX0_ran 10 z) fun z1 => bnd (FB14_bears_5 n (x) z1) fun a3 z4 => some ((a3 * 2), z4)
def FB16_caresFor_5 (n x : Int32) (z : GS) : Option (Int32 × GS) := bn1 (FX0_ran 30 z) fun z1 => bnd (FB14_caresFor_5 n (x) z1) fun a3 z4 => some ((-a3), z4)
def FB17_caresFor_5 (n x : Int32) (z : GS) : Option (Int32 × GS) := bn1 (FX0_ran 41 z) fun z1 => bnd (FB16_caresFor_5 n ((x + 1)) z1) fun a3 z4 => some (a3, z4)
def FB14_caresFor_6 (n x : Int32) (z : GS) : Option (Int32 × GS) := bn1 (FX0_ran 10 z) fun z1 => bnd (FB20_bears_6 n (x) z1) fun a3 z4 => some ((a3 * 2), z4)
def FB14_caresFor_7 (n x : Int32) (z : GS) : Option (Int32 × GS) := bn1 (FX0_ran 10 z) fun z1 => bnd (FB15_bears_7 n (x) z1) fun a3 z4 => some ((a3 * 2), z4)
def FB14_lacksIt_7 (n x : Int32) (z : GS) : Option (Int32 × GS) := bn1 (FX0_ran 11 z) fun z1 => some ((x ^^^ n), z1)
def FB18_lacksIt_7 (n x : Int32) (z : GS) : Option (Int32 × GS) := bn1 (FX0_ran 50 z) fun z1 => bnd (FB14_lacksIt_7 n (x) z1) fun a3 z4 => bnd (FB15_bears_7 n (2) z4) fun a6 z7 => some ((a3 - a6), z7)
def FB21_caresFor_7 (n x : Int32) (z : GS) : Option (Int32 × GS) := bn1 (FX0_ran 80 z) fun z1 => bnd (FB14_caresFor_7 n (x) z1) fun a3 z4 => bnd (FB18_lacksIt_7 n (2) z4) fun a6 z7 => some ((a3 + a6), z7)
def FB14_lacksIt_0 (n x : Int32) (z : GS) : Option (Int32 × GS) := bn1 (FX0_ran 11 z) fun z1 => some ((x ^^^ n), z1)
def FB14_lacksIt_1 (n x : Int32) (z : GS) : Option (Int32 × GS) := bn1 (FX0_ran 11 z) fun z1 => some ((x ^^^ n), z1)
def FB14_lacksIt_2 (n x : Int32) (z : GS) : Option (Int32 × GS) := bn1 (FX0_ran 11 z) fun z1 => some ((x ^^^ n), z1)
def FB14_lacksIt_3 (n x : Int32) (z : GS) : Option (Int32 × GS) := bn1 (FX0_ran 11 z) fun z1 => some ((x ^^^ n), z1)
def FB17_lacksIt_3 (n x : Int32) (z : GS) : Option (Int32 × GS) := bn1 (FX0_ran 40 z) fun z1 => bnd (FB14_lacksIt_3 n (x) z1) fun a3 z4 => some ((a3 * 3), z4)
def FB14_lacksIt_4 (n x : Int32) (z : GS) : Option (Int32 × GS) := bn1 (FX0_ran 11 z) fun z1 => some ((x ^^^ n), z1)
def FB18_lacksIt_4 (n x : Int32) (z : GS) : Option (Int32 × GS) := bn1 (FX0_ran 50 z) fun z1 => bnd (FB14_lacksIt_4 n (x) z1) fun a3 z4 => bnd (FB15_bears_4 n (2) z4) fun a6 z7 => some ((a3 - a6), z7)
def FB14_lacksIt_5 (n x : Int32) (z : GS) : Option (Int32 × GS) := bn1 (FX0_ran 11 z) fun z1 => some ((x ^^^ n), z1)
def FB17_lacksIt_5 (n x : Int32) (z : GS) : Option (Int32 × GS) := bn1 (FX0_ran 40 z) fun z1 => bnd (FB14_lacksIt_5 n (x) z1) fun a3 z4 => some ((a3 * 3), z4)
def FB14_lacksIt_6 (n x : Int32) (z : GS) : Option (Int32 × GS) := bn1 (FX0_ran 11 z) fun z1 => some ((x ^^^ n), z1)
def FB14_tells_0 (n x : Int32) (z : GS) : Option (Int32 × GS) := bn1 (FX0_ran 2 z) fun z1 => bnd (FB14_caresFor_0 n (x) z1) fun a3 z4 => bnd (FB14_lacksIt_0 n (1) z4) fun a6 z7 => some ((a3 - a6), z7)
def FB14_tells_1 (n x : Int32) (z : GS) : Option (Int32 × GS) := bn1 (FX0_ran 2 z) fun z1 => bnd (FB14_caresFor_1 n (x) z1) fun a3 z4 => bnd (FB14_lacksIt_1 n (1) z4) fun a6 z7 => some ((a3 - a6), z7)
def FB14_tells_2 (n x : Int32) (z : GS) : Option (Int32 × GS) := bn1 (FX0_ran 2 z) fun z1 => bnd (FB16_caresFor_2 n (x) z1) fun a3 z4 => bnd (FB14_lacksIt_2 n (1) z4) fun a6 z7 => some ((a3 - a6), z7)
def FB14_tells_3 (n x : Int32) (z : GS) : Option (Int32 × GS) := bn1 (FX0_ran 2 z) fun z1 => bnd (FB17_caresFor_3 n (x) z1) fun a3 z4 => bnd (FB17_lacksIt_3 n (1) z4) fun a6 z7 => some ((a3 - a6), z7)
def FB14_tells_4 (n x : Int32) (z : GS) : Option (Int32 × GS) := bn1 (FX0_ran 2 z) fun z1 => bnd (FB14_caresFor_4 n (x) z1) fun a3 z4 => bnd (FB18_lacksIt_4 n (1) z4) fun a6 z7 => some ((a3 - a6), z7)
def FB14_tells_5 (n x : Int32) (z : GS) : Option (Int32 × GS) := bn1 (FX0_ran 2 z) fun z1 => bnd (FB17_caresFor_5 n (x) z1) fun a3 z4 => bnd (FB17_lacksIt_5 n (1) z4) fun a6 z7 => some ((a3 - a6), z7)
def FB19_tells_5 (n x : Int32) (z : GS) : Option (Int32 × GS) := bn1 (FX0_ran 60 z) fun z1 => bnd (FB14_tells_5 n (x) z1) fun a3 z4 => some ((a3 ^^^ 5), z4)
def FB14_tells_6 (n x : Int32) (z : GS) : Option (Int32 × GS) := bn1 (FX0_ran 2 z) fun z1 => bnd (FB14_caresFor_6 n (x) z1) fun a3 z4 => bnd (FB14_lacksIt_6 n (1) z4) fun a6 z7 => some ((a3 - a6), z7)
def FB14_tells_7 (n x : Int32) (z : GS) : Option (Int32 × GS) := bn1 (FX0_ran 2 z) fun z1 => bnd (FB21_caresFor_7 n (x) z1) fun a3 z4 => bnd (FB18_lacksIt_7 n (1) z4) fun a6 z7 => some ((a3 - a6), z7)
def FB21_tells_7 (n x : Int32) (z : GS) : Option (Int32 × GS) := bn1 (FX0_ran 81 z) fun z1 => bnd (FB14_tells_7 n (x) z1) fun a3 z4 => some ((a3 - 1), z4)
theorem metX14_kind_0 (l : Launch) (D : va_G) (aC : Nat → ClassId) (A : Nat → Prop) (o : Nat) (la : LC) (b : Nat) (z : GS) : Met l yX14_kind (ws_ yX14_kind cX14_kind 1 (some .int)) ({ frames := 0, cells := 0, slots := 0, locals := 0 }) (va_Pc [.ref b] (PC D aC A o la z)) (QR (some (.int 0))) 0 0 (fun _ => False) := by
  refine g_ofW (cc := cX14_kind) (maxL := 1) (ret := (some .int)) (own := RX14) (by decide) rfl rfl [.ref b] (PC D aC A o la z) (Nat.le_of_ble_eq_true rfl) ?_
  intro p e s m below meth c ls hx hb hr hml hts hown hlocks hnm hPre hl
  refine lv_iconst (v := 0) hx hb dX14_kind_0 (by decide) ?_
  exact g_retR hx hb hr hlocks rfl dX14_kind_1
theorem metX15_kind_1 (l : Launch) (D : va_G) (aC : Nat → ClassId) (A : Nat → Prop) (o : Nat) (la : LC) (b : Nat) (z : GS) : Met l yX15_kind (ws_ yX15_kind cX15_kind 1 (some .int)) ({ frames := 0, cells := 0, slots := 0, locals := 0 }) (va_Pc [.ref b] (PC D aC A o la z)) (QR (some (.int 1))) 0 0 (fun _ => False) := by
  refine g_ofW (cc := cX15_kind) (maxL := 1) (ret := (some .int)) (own := RX15) (by decide) rfl rfl [.ref b] (PC D aC A o la z) (Nat.le_of_ble_eq_true rfl) ?_
  intro p e s m below meth c ls hx hb hr hml hts hown hlocks hnm hPre hl
  refine lv_iconst (v := 1) hx hb dX15_kind_0 (by decide) ?_
  exact g_retR hx hb hr hlocks rfl dX15_kind_1
theorem metX16_kind_2 (l : Launch) (D : va_G) (aC : Nat → ClassId) (A : Nat → Prop) (o : Nat) (la : LC) (b : Nat) (z : GS) : Met l yX16_kind (ws_ yX16_kind cX16_kind 1 (some .int)) ({ frames := 0, cells := 0, slots := 0, locals := 0 }) (va_Pc [.ref b] (PC D aC A o la z)) (QR (some (.int 2))) 0 0 (fun _ => False) := by
  refine g_ofW (cc := cX16_kind) (maxL := 1) (ret := (some .int)) (own := RX16) (by decide) rfl rfl [.ref b] (PC D aC A o la z) (Nat.le_of_ble_eq_true rfl) ?_
  intro p e s m below meth c ls hx hb hr hml hts hown hlocks hnm hPre hl
  refine lv_iconst (v := 2) hx hb dX16_kind_0 (by decide) ?_
  exact g_retR hx hb hr hlocks rfl dX16_kind_1
theorem metX17_kind_3 (l : Launch) (D : va_G) (aC : Nat → ClassId) (A : Nat → Prop) (o : Nat) (la : LC) (b : Nat) (z : GS) : Met l yX17_kind (ws_ yX17_kind cX17_kind 1 (some .int)) ({ frames := 0, cells := 0, slots := 0, locals := 0 }) (va_Pc [.ref b] (PC D aC A o la z)) (QR (some (.int 3))) 0 0 (fun _ => False) := by
  refine g_ofW (cc := cX17_kind) (maxL := 1) (ret := (some .int)) (own := RX17) (by decide) rfl rfl [.ref b] (PC D aC A o la z) (Nat.le_of_ble_eq_true rfl) ?_
  intro p e s m below meth c ls hx hb hr hml hts hown hlocks hnm hPre hl
  refine lv_iconst (v := 3) hx hb dX17_kind_0 (by decide) ?_
  exact g_retR hx hb hr hlocks rfl dX17_kind_1
theorem metX18_kind_4 (l : Launch) (D : va_G) (aC : Nat → ClassId) (A : Nat → Prop) (o : Nat) (la : LC) (b : Nat) (z : GS) : Met l yX18_kind (ws_ yX18_kind cX18_kind 1 (some .int)) ({ frames := 0, cells := 0, slots := 0, locals := 0 }) (va_Pc [.ref b] (PC D aC A o la z)) (QR (some (.int 4))) 0 0 (fun _ => False) := by
  refine g_ofW (cc := cX18_kind) (maxL := 1) (ret := (some .int)) (own := RX18) (by decide) rfl rfl [.ref b] (PC D aC A o la z) (Nat.le_of_ble_eq_true rfl) ?_
  intro p e s m below meth c ls hx hb hr hml hts hown hlocks hnm hPre hl
  refine lv_iconst (v := 4) hx hb dX18_kind_0 (by decide) ?_
  exact g_retR hx hb hr hlocks rfl dX18_kind_1
theorem metX19_kind_5 (l : Launch) (D : va_G) (aC : Nat → ClassId) (A : Nat → Prop) (o : Nat) (la : LC) (b : Nat) (z : GS) : Met l yX19_kind (ws_ yX19_kind cX19_kind 1 (some .int)) ({ frames := 0, cells := 0, slots := 0, locals := 0 }) (va_Pc [.ref b] (PC D aC A o la z)) (QR (some (.int 5))) 0 0 (fun _ => False) := by
  refine g_ofW (cc := cX19_kind) (maxL := 1) (ret := (some .int)) (own := RX19) (by decide) rfl rfl [.ref b] (PC D aC A o la z) (Nat.le_of_ble_eq_true rfl) ?_
  intro p e s m below meth c ls hx hb hr hml hts hown hlocks hnm hPre hl
  refine lv_iconst (v := 5) hx hb dX19_kind_0 (by decide) ?_
  exact g_retR hx hb hr hlocks rfl dX19_kind_1
theorem metX20_kind_6 (l : Launch) (D : va_G) (aC : Nat → ClassId) (A : Nat → Prop) (o : Nat) (la : LC) (b : Nat) (z : GS) : Met l yX20_kind (ws_ yX20_kind cX20_kind 1 (some .int)) ({ frames := 0, cells := 0, slots := 0, locals := 0 }) (va_Pc [.ref b] (PC D aC A o la z)) (QR (some (.int 6))) 0 0 (fun _ => False) := by
  refine g_ofW (cc := cX20_kind) (maxL := 1) (ret := (some .int)) (own := RX20) (by decide) rfl rfl [.ref b] (PC D aC A o la z) (Nat.le_of_ble_eq_true rfl) ?_
  intro p e s m below meth c ls hx hb hr hml hts hown hlocks hnm hPre hl
  refine lv_bipush (v := 6) hx hb dX20_kind_0 (by decide) ?_
  exact g_retR hx hb hr hlocks rfl dX20_kind_2
theorem metX21_kind_7 (l : Launch) (D : va_G) (aC : Nat → ClassId) (A : Nat → Prop) (o : Nat) (la : LC) (b : Nat) (z : GS) : Met l yX21_kind (ws_ yX21_kind cX21_kind 1 (some .int)) ({ frames := 0, cells := 0, slots := 0, locals := 0 }) (va_Pc [.ref b] (PC D aC A o la z)) (QR (some (.int 7))) 0 0 (fun _ => False) := by
  refine g_ofW (cc := cX21_kind) (maxL := 1) (ret := (some .int)) (own := RX21) (by decide) rfl rfl [.ref b] (PC D aC A o la z) (Nat.le_of_ble_eq_true rfl) ?_
  intro p e s m below meth c ls hx hb hr hml hts hown hlocks hnm hPre hl
  refine lv_bipush (v := 7) hx hb dX21_kind_0 (by decide) ?_
  exact g_retR hx hb hr hlocks rfl dX21_kind_2
theorem metX14_isUnder_0 (l : Launch) (D : va_G) (aC : Nat → ClassId) (A : Nat → Prop) (o : Nat) (la : LC) (b j : Nat) (him : lIm la b = some (12, bodF o j)) (x : Int32) (z : GS) (r : Int32) (h : FB14_isUnder_0 x = r) : Met l yX14_isUnder (ws_ yX14_isUnder cX14_isUnder 2 (some .boolean)) ({ frames := 1, cells := 0, slots := 0, locals := 20 }) (va_Pc [.ref b, .int x] (PC D aC A o la z)) (QR (some (.int r))) 0 0 (fun _ => False) := by
  refine g_ofW (cc := cX14_isUnder) (maxL := 2) (ret := (some .boolean)) (own := RX14) (by decide) rfl rfl [.ref b, .int x] (PC D aC A o la z) (Nat.le_of_ble_eq_true rfl) ?_
  intro p e s m below meth c ls hx hb hr hml hts hown hlocks hnm hPre hl
  obtain ⟨hO, hK, hA, hZ⟩ := hPre
  have hf : CallFix p m c cX14_isUnder 2 s _ lw_all RX14 := ⟨hx, hb, hml, hown, hts⟩
  have hl : lv_has ls 2 [(0, .ref b), (1, .int x)] := hl
  have hS : va_S A s.heap s.heap [] := va_S.rf
  unfold FB14_isUnder_0 at h
  refine lv_iload_n hx hb dX14_isUnder_0 rfl (lv_at hl 1 rfl) ?_
  refine lv_if_eq (tgt := 12) hx hb dX14_isUnder_1 (by decide) (fun c1 => ?_) (fun c1 => ?_)
  · refine lv_iconst (v := 1) hx hb dX14_isUnder_12 (by decide) ?_
    refine lv_goto (tgt := 17) hx hb dX14_isUnder_13 (by decide) ?_
    exact g_retRz hx hb hr hlocks (Or.inr rfl) ((if_pos c1).symm.trans h) dX14_isUnder_17
  have h := it_f c1 h
  refine lv_iload_n hx hb dX14_isUnder_4 rfl (lv_at hl 1 rfl) ?_
  refine lv_aload_n hx hb dX14_isUnder_5 rfl (lv_at hl 0 rfl) ?_
  refine g_runR (mc := 0) (ms := 0) (va_runU (x := ⟨"ShieldLine$Shield", "kind", "()I"⟩) (owner := "ShieldLine$Shield") (C := "ShieldLine$Shield") (As := []) (rest := [.int x]) hf (metX14_kind_0 l D aC A o la b z) (va_cwU 0 hf.2.2.2.2 (lw_app (absW q1481 q1484 q1483 q1482 q119) (lw_meth q1506)) rfl rfl rfl rfl (by decide +kernel) ⟨Nat.le_of_ble_eq_true rfl, Nat.le_of_ble_eq_true rfl⟩) ⟨PC.blind, nd_recv hK hO (ci := 12) rfl him, fun U hU hW => ⟨rfl, PC.at hO hK hA hZ hS hU hW⟩⟩ rfl rfl hl.1 rfl (lv_room (Nat.le_of_ble_eq_true rfl)) dX14_isUnder_6 ⟨Nat.le_of_ble_eq_true rfl, Nat.le_of_ble_eq_true rfl⟩) ?_
  refine W.eq (g2 := F0 m 9 ls (.int 0 :: [.int x])) rfl ?_
  refine lv_icmp_ne (tgt := 16) hx hb dX14_isUnder_9 (by decide) (fun c2 => ?_) (fun c2 => ?_)
  · refine lv_iconst (v := 0) hx hb dX14_isUnder_16 (by decide) ?_
    exact g_retRz hx hb hr hlocks (Or.inl rfl) ((if_neg c2).symm.trans h) dX14_isUnder_17
  · refine lv_iconst (v := 1) hx hb dX14_isUnder_12 (by decide) ?_
    refine lv_goto (tgt := 17) hx hb dX14_isUnder_13 (by decide) ?_
    exact g_retRz hx hb hr hlocks (Or.inr rfl) ((if_pos c2).symm.trans h) dX14_isUnder_17
theorem metX14_isUnder_1 (l : Launch) (D : va_G) (aC : Nat → ClassId) (A : Nat → Prop) (o : Nat) (la : LC) (b j : Nat) (him : lIm la b = some (13, bodF o j)) (x : Int32) (z : GS) (r : Int32) (h : FB14_isUnder_1 x = r) : Met l yX14_isUnder (ws_ yX14_isUnder cX14_isUnder 2 (some .boolean)) ({ frames := 1, cells := 0, slots := 0, locals := 20 }) (va_Pc [.ref b, .int x] (PC D aC A o la z)) (QR (some (.int r))) 0 0 (fun _ => False) := by
  refine g_ofW (cc := cX14_isUnder) (maxL := 2) (ret := (some .boolean)) (own := RX14) (by decide) rfl rfl [.ref b, .int x] (PC D aC A o la z) (Nat.le_of_ble_eq_true rfl) ?_
  intro p e s m below meth c ls hx hb hr hml hts hown hlocks hnm hPre hl
  obtain ⟨hO, hK, hA, hZ⟩ := hPre
  have hf : CallFix p m c cX14_isUnder 2 s _ lw_all RX14 := ⟨hx, hb, hml, hown, hts⟩
  have hl : lv_has ls 2 [(0, .ref b), (1, .int x)] := hl
  have hS : va_S A s.heap s.heap [] := va_S.rf
  unfold FB14_isUnder_1 at h
  refine lv_iload_n hx hb dX14_isUnder_0 rfl (lv_at hl 1 rfl) ?_
  refine lv_if_eq (tgt := 12) hx hb dX14_isUnder_1 (by decide) (fun c1 => ?_) (fun c1 => ?_)
  · refine lv_iconst (v := 1) hx hb dX14_isUnder_12 (by decide) ?_
    refine lv_goto (tgt := 17) hx hb dX14_isUnder_13 (by decide) ?_
    exact g_retRz hx hb hr hlocks (Or.inr rfl) ((if_pos c1).symm.trans h) dX14_isUnder_17
  have h := it_f c1 h
  refine lv_iload_n hx hb dX14_isUnder_4 rfl (lv_at hl 1 rfl) ?_
  refine lv_aload_n hx hb dX14_isUnder_5 rfl (lv_at hl 0 rfl) ?_
  refine g_runR (mc := 0) (ms := 0) (va_runU (x := ⟨"ShieldLine$Shield", "kind", "()I"⟩) (owner := "ShieldLine$Shield") (C := "ShieldLine$Roof") (As := []) (rest := [.int x]) hf (metX15_kind_1 l D aC A o la b z) (va_cwO 0 hf.2.2.2.2 (lw_app (absO q1481 q1484 q1482 q1500 q1501 q120) (lw_meth q1502)) rfl rfl rfl q1506 (by decide +kernel) ⟨Nat.le_of_ble_eq_true rfl, Nat.le_of_ble_eq_true rfl⟩) ⟨PC.blind, nd_recv hK hO (ci := 13) rfl him, fun U hU hW => ⟨rfl, PC.at hO hK hA hZ hS hU hW⟩⟩ rfl rfl hl.1 rfl (lv_room (Nat.le_of_ble_eq_true rfl)) dX14_isUnder_6 ⟨Nat.le_of_ble_eq_true rfl, Nat.le_of_ble_eq_true rfl⟩) ?_
  refine W.eq (g2 := F0 m 9 ls (.int 1 :: [.int x])) rfl ?_
  refine lv_icmp_ne (tgt := 16) hx hb dX14_isUnder_9 (by decide) (fun c2 => ?_) (fun c2 => ?_)
  · refine lv_iconst (v := 0) hx hb dX14_isUnder_16 (by decide) ?_
    exact g_retRz hx hb hr hlocks (Or.inl rfl) ((if_neg c2).symm.trans h) dX14_isUnder_17
  · refine lv_iconst (v := 1) hx hb dX14_isUnder_12 (by decide) ?_
    refine lv_goto (tgt := 17) hx hb dX14_isUnder_13 (by decide) ?_
    exact g_retRz hx hb hr hlocks (Or.inr rfl) ((if_pos c2).symm.trans h) dX14_isUnder_17
theorem metX15_isUnder_1 (l : Launch) (D : va_G) (aC : Nat → ClassId) (A : Nat → Prop) (o : Nat) (la : LC) (b j : Nat) (him : lIm la b = some (13, bodF o j)) (x : Int32) (z : GS) (r : Int32) (h : FB15_isUnder_1 x = r) : Met l yX15_isUnder (ws_ yX15_isUnder cX15_isUnder 2 (some .boolean)) ({ frames := 2, cells := 0, slots := 0, locals := 41 }) (va_Pc [.ref b, .int x] (PC D aC A o la z)) (QR (some (.int r))) 0 0 (fun _ => False) := by
  refine g_ofW (cc := cX15_isUnder) (maxL := 2) (ret := (some .boolean)) (own := RX15) (by decide) rfl rfl [.ref b, .int x] (PC D aC A o la z) (Nat.le_of_ble_eq_true rfl) ?_
  intro p e s m below meth c ls hx hb hr hml hts hown hlocks hnm hPre hl
  obtain ⟨hO, hK, hA, hZ⟩ := hPre
  have hf : CallFix p m c cX15_isUnder 2 s _ lw_all RX15 := ⟨hx, hb, hml, hown, hts⟩
  have hl : lv_has ls 2 [(0, .ref b), (1, .int x)] := hl
  have hS : va_S A s.heap s.heap [] := va_S.rf
  unfold FB15_isUnder_1 at h
  refine lv_iload_n hx hb dX15_isUnder_0 rfl (lv_at hl 1 rfl) ?_
  refine lv_iconst (v := 1) hx hb dX15_isUnder_1 (by decide) ?_
  refine lv_icmp_eq (tgt := 13) hx hb dX15_isUnder_2 (by decide) (fun c1 => ?_) (fun c1 => ?_)
  · refine lv_iconst (v := 1) hx hb dX15_isUnder_13 (by decide) ?_
    refine lv_goto (tgt := 18) hx hb dX15_isUnder_14 (by decide) ?_
    exact g_retRz hx hb hr hlocks (Or.inr rfl) ((if_pos c1).symm.trans h) dX15_isUnder_18
  have h := it_f c1 h
  refine lv_aload_n hx hb dX15_isUnder_5 rfl (lv_at hl 0 rfl) ?_
  refine lv_iload_n hx hb dX15_isUnder_6 rfl (lv_at hl 1 rfl) ?_
  refine g_runR (mc := 0) (ms := 0) (va_runUp (x := ⟨"ShieldLine$Shield", "isUnder", "(I)Z"⟩) (n := 1) (As := [.int x]) (rest := []) hf (metX14_isUnder_1 l D aC A o la b j him x z _ rfl) (hts _ q1513) (hts _ q1472) (hts _ q1075) rfl (hts _ q1470) (subUp0 hts) rfl (lw_meth q1480) (hts _ q119) (by decide) (by decide +kernel) ⟨Nat.le_of_ble_eq_true rfl, Nat.le_of_ble_eq_true rfl⟩ ⟨PC.blind, nd_recv hK hO (ci := 13) rfl him, fun U hU hW => ⟨rfl, PC.at hO hK hA hZ hS hU hW⟩⟩ rfl rfl hl.1 rfl (lv_room (Nat.le_of_ble_eq_true rfl)) dX15_isUnder_7 ⟨Nat.le_of_ble_eq_true rfl, Nat.le_of_ble_eq_true rfl⟩ rfl rfl ⟨_, (hK.1.1 13 _ rfl).2⟩) ?_
  refine W.eq (g2 := F0 m 10 ls (.int (FB14_isUnder_1 x) :: [])) rfl ?_
  refine lv_if_eq (tgt := 17) hx hb dX15_isUnder_10 (by decide) (fun c2 => ?_) (fun c2 => ?_)
  · refine lv_iconst (v := 0) hx hb dX15_isUnder_17 (by decide) ?_
    exact g_retRz hx hb hr hlocks (Or.inl rfl) ((if_pos c2).symm.trans h) dX15_isUnder_18
  · refine lv_iconst (v := 1) hx hb dX15_isUnder_13 (by decide) ?_
    refine lv_goto (tgt := 18) hx hb dX15_isUnder_14 (by decide) ?_
    exact g_retRz hx hb hr hlocks (Or.inr rfl) ((if_neg c2).symm.trans h) dX15_isUnder_18
theorem metX14_isUnder_2 (l : Launch) (D : va_G) (aC : Nat → ClassId) (A : Nat → Prop) (o : Nat) (la : LC) (b j : Nat) (him : lIm la b = some (14, bodF o j)) (x : Int32) (z : GS) (r : Int32) (h : FB14_isUnder_2 x = r) : Met l yX14_isUnder (ws_ yX14_isUnder cX14_isUnder 2 (some .boolean)) ({ frames := 1, cells := 0, slots := 0, locals := 20 }) (va_Pc [.ref b, .int x] (PC D aC A o la z)) (QR (some (.int r))) 0 0 (fun _ => False) := by
  refine g_ofW (cc := cX14_isUnder) (maxL := 2) (ret := (some .boolean)) (own := RX14) (by decide) rfl rfl [.ref b, .int x] (PC D aC A o la z) (Nat.le_of_ble_eq_true rfl) ?_
  intro p e s m below meth c ls hx hb hr hml hts hown hlocks hnm hPre hl
  obtain ⟨hO, hK, hA, hZ⟩ := hPre
  have hf : CallFix p m c cX14_isUnder 2 s _ lw_all RX14 := ⟨hx, hb, hml, hown, hts⟩
  have hl : lv_has ls 2 [(0, .ref b), (1, .int x)] := hl
  have hS : va_S A s.heap s.heap [] := va_S.rf
  unfold FB14_isUnder_2 at h
  refine lv_iload_n hx hb dX14_isUnder_0 rfl (lv_at hl 1 rfl) ?_
  refine lv_if_eq (tgt := 12) hx hb dX14_isUnder_1 (by decide) (fun c1 => ?_) (fun c1 => ?_)
  · refine lv_iconst (v := 1) hx hb dX14_isUnder_12 (by decide) ?_
    refine lv_goto (tgt := 17) hx hb dX14_isUnder_13 (by decide) ?_
    exact g_retRz hx hb hr hlocks (Or.inr rfl) ((if_pos c1).symm.trans h) dX14_isUnder_17
  have h := it_f c1 h
  refine lv_iload_n hx hb dX14_isUnder_4 rfl (lv_at hl 1 rfl) ?_
  refine lv_aload_n hx hb dX14_isUnder_5 rfl (lv_at hl 0 rfl) ?_
  refine g_runR (mc := 0) (ms := 0) (va_runU (x := ⟨"ShieldLine$Shield", "kind", "()I"⟩) (owner := "ShieldLine$Shield") (C := "ShieldLine$Lamp") (As := []) (rest := [.int x]) hf (metX16_kind_2 l D aC A o la b z) (va_cwO 0 hf.2.2.2.2 (lw_app (absO q1481 q1484 q1482 q1494 q1495 q121) (lw_meth q1496)) rfl rfl rfl q1506 (by decide +kernel) ⟨Nat.le_of_ble_eq_true rfl, Nat.le_of_ble_eq_true rfl⟩) ⟨PC.blind, nd_recv hK hO (ci := 14) rfl him, fun U hU hW => ⟨rfl, PC.at hO hK hA hZ hS hU hW⟩⟩ rfl rfl hl.1 rfl (lv_room (Nat.le_of_ble_eq_true rfl)) dX14_isUnder_6 ⟨Nat.le_of_ble_eq_true rfl, Nat.le_of_ble_eq_true rfl⟩) ?_
  refine W.eq (g2 := F0 m 9 ls (.int 2 :: [.int x])) rfl ?_
  refine lv_icmp_ne (tgt := 16) hx hb dX14_isUnder_9 (by decide) (fun c2 => ?_) (fun c2 => ?_)
  · refine lv_iconst (v := 0) hx hb dX14_isUnder_16 (by decide) ?_
    exact g_retRz hx hb hr hlocks (Or.inl rfl) ((if_neg c2).symm.trans h) dX14_isUnder_17
  · refine lv_iconst (v := 1) hx hb dX14_isUnder_12 (by decide) ?_
    refine lv_goto (tgt := 17) hx hb dX14_isUnder_13 (by decide) ?_
    exact g_retRz hx hb hr hlocks (Or.inr rfl) ((if_pos c2).symm.trans h) dX14_isUnder_17
theorem metX16_isUnder_2 (l : Launch) (D : va_G) (aC : Nat → ClassId) (A : Nat → Prop) (o : Nat) (la : LC) (b j : Nat) (him : lIm la b = some (14, bodF o j)) (x : Int32) (z : GS) (r : Int32) (h : FB16_isUnder_2 x = r) : Met l yX16_isUnder (ws_ yX16_isUnder cX16_isUnder 2 (some .boolean)) ({ frames := 2, cells := 0, slots := 0, locals := 41 }) (va_Pc [.ref b, .int x] (PC D aC A o la z)) (QR (some (.int r))) 0 0 (fun _ => False) := by
  refine g_ofW (cc := cX16_isUnder) (maxL := 2) (ret := (some .boolean)) (own := RX16) (by decide) rfl rfl [.ref b, .int x] (PC D aC A o la z) (Nat.le_of_ble_eq_true rfl) ?_
  intro p e s m below meth c ls hx hb hr hml hts hown hlocks hnm hPre hl
  obtain ⟨hO, hK, hA, hZ⟩ := hPre
  have hf : CallFix p m c cX16_isUnder 2 s _ lw_all RX16 := ⟨hx, hb, hml, hown, hts⟩
  have hl : lv_has ls 2 [(0, .ref b), (1, .int x)] := hl
  have hS : va_S A s.heap s.heap [] := va_S.rf
  unfold FB16_isUnder_2 at h
  refine lv_iload_n hx hb dX16_isUnder_0 rfl (lv_at hl 1 rfl) ?_
  refine lv_iconst (v := 2) hx hb dX16_isUnder_1 (by decide) ?_
  refine lv_icmp_eq (tgt := 13) hx hb dX16_isUnder_2 (by decide) (fun c1 => ?_) (fun c1 => ?_)
  · refine lv_iconst (v := 1) hx hb dX16_isUnder_13 (by decide) ?_
    refine lv_goto (tgt := 18) hx hb dX16_isUnder_14 (by decide) ?_
    exact g_retRz hx hb hr hlocks (Or.inr rfl) ((if_pos c1).symm.trans h) dX16_isUnder_18
  have h := it_f c1 h
  refine lv_aload_n hx hb dX16_isUnder_5 rfl (lv_at hl 0 rfl) ?_
  refine lv_iload_n hx hb dX16_isUnder_6 rfl (lv_at hl 1 rfl) ?_
  refine g_runR (mc := 0) (ms := 0) (va_runUp (x := ⟨"ShieldLine$Shield", "isUnder", "(I)Z"⟩) (n := 1) (As := [.int x]) (rest := []) hf (metX14_isUnder_2 l D aC A o la b j him x z _ rfl) (hts _ q1479) (hts _ q1472) (hts _ q1087) rfl (hts _ q1470) (subUp0 hts) rfl (lw_meth q1480) (hts _ q119) (by decide) (by decide +kernel) ⟨Nat.le_of_ble_eq_true rfl, Nat.le_of_ble_eq_true rfl⟩ ⟨PC.blind, nd_recv hK hO (ci := 14) rfl him, fun U hU hW => ⟨rfl, PC.at hO hK hA hZ hS hU hW⟩⟩ rfl rfl hl.1 rfl (lv_room (Nat.le_of_ble_eq_true rfl)) dX16_isUnder_7 ⟨Nat.le_of_ble_eq_true rfl, Nat.le_of_ble_eq_true rfl⟩ rfl rfl ⟨_, (hK.1.1 14 _ rfl).2⟩) ?_
  refine W.eq (g2 := F0 m 10 ls (.int (FB14_isUnder_2 x) :: [])) rfl ?_
  refine lv_if_eq (tgt := 17) hx hb dX16_isUnder_10 (by decide) (fun c2 => ?_) (fun c2 => ?_)
  · refine lv_iconst (v := 0) hx hb dX16_isUnder_17 (by decide) ?_
    exact g_retRz hx hb hr hlocks (Or.inl rfl) ((if_pos c2).symm.trans h) dX16_isUnder_18
  · refine lv_iconst (v := 1) hx hb dX16_isUnder_13 (by decide) ?_
    refine lv_goto (tgt := 18) hx hb dX16_isUnder_14 (by decide) ?_
    exact g_retRz hx hb hr hlocks (Or.inr rfl) ((if_neg c2).symm.trans h) dX16_isUnder_18
theorem metX14_isUnder_3 (l : Launch) (D : va_G) (aC : Nat → ClassId) (A : Nat → Prop) (o : Nat) (la : LC) (b j : Nat) (him : lIm la b = some (15, bodF o j)) (x : Int32) (z : GS) (r : Int32) (h : FB14_isUnder_3 x = r) : Met l yX14_isUnder (ws_ yX14_isUnder cX14_isUnder 2 (some .boolean)) ({ frames := 1, cells := 0, slots := 0, locals := 20 }) (va_Pc [.ref b, .int x] (PC D aC A o la z)) (QR (some (.int r))) 0 0 (fun _ => False) := by
  refine g_ofW (cc := cX14_isUnder) (maxL := 2) (ret := (some .boolean)) (own := RX14) (by decide) rfl rfl [.ref b, .int x] (PC D aC A o la z) (Nat.le_of_ble_eq_true rfl) ?_
  intro p e s m below meth c ls hx hb hr hml hts hown hlocks hnm hPre hl
  obtain ⟨hO, hK, hA, hZ⟩ := hPre
  have hf : CallFix p m c cX14_isUnder 2 s _ lw_all RX14 := ⟨hx, hb, hml, hown, hts⟩
  have hl : lv_has ls 2 [(0, .ref b), (1, .int x)] := hl
  have hS : va_S A s.heap s.heap [] := va_S.rf
  unfold FB14_isUnder_3 at h
  refine lv_iload_n hx hb dX14_isUnder_0 rfl (lv_at hl 1 rfl) ?_
  refine lv_if_eq (tgt := 12) hx hb dX14_isUnder_1 (by decide) (fun c1 => ?_) (fun c1 => ?_)
  · refine lv_iconst (v := 1) hx hb dX14_isUnder_12 (by decide) ?_
    refine lv_goto (tgt := 17) hx hb dX14_isUnder_13 (by decide) ?_
    exact g_retRz hx hb hr hlocks (Or.inr rfl) ((if_pos c1).symm.trans h) dX14_isUnder_17
  have h := it_f c1 h
  refine lv_iload_n hx hb dX14_isUnder_4 rfl (lv_at hl 1 rfl) ?_
  refine lv_aload_n hx hb dX14_isUnder_5 rfl (lv_at hl 0 rfl) ?_
  refine g_runR (mc := 0) (ms := 0) (va_runU (x := ⟨"ShieldLine$Shield", "kind", "()I"⟩) (owner := "ShieldLine$Shield") (C := "ShieldLine$Post") (As := []) (rest := [.int x]) hf (metX17_kind_3 l D aC A o la b z) (va_cwO 0 hf.2.2.2.2 (lw_app (absO q1481 q1484 q1482 q1497 q1498 q122) (lw_meth q1499)) rfl rfl rfl q1506 (by decide +kernel) ⟨Nat.le_of_ble_eq_true rfl, Nat.le_of_ble_eq_true rfl⟩) ⟨PC.blind, nd_recv hK hO (ci := 15) rfl him, fun U hU hW => ⟨rfl, PC.at hO hK hA hZ hS hU hW⟩⟩ rfl rfl hl.1 rfl (lv_room (Nat.le_of_ble_eq_true rfl)) dX14_isUnder_6 ⟨Nat.le_of_ble_eq_true rfl, Nat.le_of_ble_eq_true rfl⟩) ?_
  refine W.eq (g2 := F0 m 9 ls (.int 3 :: [.int x])) rfl ?_
  refine lv_icmp_ne (tgt := 16) hx hb dX14_isUnder_9 (by decide) (fun c2 => ?_) (fun c2 => ?_)
  · refine lv_iconst (v := 0) hx hb dX14_isUnder_16 (by decide) ?_
    exact g_retRz hx hb hr hlocks (Or.inl rfl) ((if_neg c2).symm.trans h) dX14_isUnder_17
  · refine lv_iconst (v := 1) hx hb dX14_isUnder_12 (by decide) ?_
    refine lv_goto (tgt := 17) hx hb dX14_isUnder_13 (by decide) ?_
    exact g_retRz hx hb hr hlocks (Or.inr rfl) ((if_pos c2).symm.trans h) dX14_isUnder_17
theorem metX16_isUnder_3 (l : Launch) (D : va_G) (aC : Nat → ClassId) (A : Nat → Prop) (o : Nat) (la : LC) (b j : Nat) (him : lIm la b = some (15, bodF o j)) (x : Int32) (z : GS) (r : Int32) (h : FB16_isUnder_3 x = r) : Met l yX16_isUnder (ws_ yX16_isUnder cX16_isUnder 2 (some .boolean)) ({ frames := 2, cells := 0, slots := 0, locals := 41 }) (va_Pc [.ref b, .int x] (PC D aC A o la z)) (QR (some (.int r))) 0 0 (fun _ => False) := by
  refine g_ofW (cc := cX16_isUnder) (maxL := 2) (ret := (some .boolean)) (own := RX16) (by decide) rfl rfl [.ref b, .int x] (PC D aC A o la z) (Nat.le_of_ble_eq_true rfl) ?_
  intro p e s m below meth c ls hx hb hr hml hts hown hlocks hnm hPre hl
  obtain ⟨hO, hK, hA, hZ⟩ := hPre
  have hf : CallFix p m c cX16_isUnder 2 s _ lw_all RX16 := ⟨hx, hb, hml, hown, hts⟩
  have hl : lv_has ls 2 [(0, .ref b), (1, .int x)] := hl
  have hS : va_S A s.heap s.heap [] := va_S.rf
  unfold FB16_isUnder_3 at h
  refine lv_iload_n hx hb dX16_isUnder_0 rfl (lv_at hl 1 rfl) ?_
  refine lv_iconst (v := 2) hx hb dX16_isUnder_1 (by decide) ?_
  refine lv_icmp_eq (tgt := 13) hx hb dX16_isUnder_2 (by decide) (fun c1 => ?_) (fun c1 => ?_)
  · refine lv_iconst (v := 1) hx hb dX16_isUnder_13 (by decide) ?_
    refine lv_goto (tgt := 18) hx hb dX16_isUnder_14 (by decide) ?_
    exact g_retRz hx hb hr hlocks (Or.inr rfl) ((if_pos c1).symm.trans h) dX16_isUnder_18
  have h := it_f c1 h
  refine lv_aload_n hx hb dX16_isUnder_5 rfl (lv_at hl 0 rfl) ?_
  refine lv_iload_n hx hb dX16_isUnder_6 rfl (lv_at hl 1 rfl) ?_
  refine g_runR (mc := 0) (ms := 0) (va_runUp (x := ⟨"ShieldLine$Shield", "isUnder", "(I)Z"⟩) (n := 1) (As := [.int x]) (rest := []) hf (metX14_isUnder_3 l D aC A o la b j him x z _ rfl) (hts _ q1479) (hts _ q1472) (hts _ q1087) rfl (hts _ q1470) (subUp0 hts) rfl (lw_meth q1480) (hts _ q119) (by decide) (by decide +kernel) ⟨Nat.le_of_ble_eq_true rfl, Nat.le_of_ble_eq_true rfl⟩ ⟨PC.blind, nd_recv hK hO (ci := 15) rfl him, fun U hU hW => ⟨rfl, PC.at hO hK hA hZ hS hU hW⟩⟩ rfl rfl hl.1 rfl (lv_room (Nat.le_of_ble_eq_true rfl)) dX16_isUnder_7 ⟨Nat.le_of_ble_eq_true rfl, Nat.le_of_ble_eq_true rfl⟩ rfl rfl ⟨_, (hK.1.1 15 _ rfl).2⟩) ?_
  refine W.eq (g2 := F0 m 10 ls (.int (FB14_isUnder_3 x) :: [])) rfl ?_
  refine lv_if_eq (tgt := 17) hx hb dX16_isUnder_10 (by decide) (fun c2 => ?_) (fun c2 => ?_)
  · refine lv_iconst (v := 0) hx hb dX16_isUnder_17 (by decide) ?_
    exact g_retRz hx hb hr hlocks (Or.inl rfl) ((if_pos c2).symm.trans h) dX16_isUnder_18
  · refine lv_iconst (v := 1) hx hb dX16_isUnder_13 (by decide) ?_
    refine lv_goto (tgt := 18) hx hb dX16_isUnder_14 (by decide) ?_
    exact g_retRz hx hb hr hlocks (Or.inr rfl) ((if_neg c2).symm.trans h) dX16_isUnder_18
theorem metX17_isUnder_3 (l : Launch) (D : va_G) (aC : Nat → ClassId) (A : Nat → Prop) (o : Nat) (la : LC) (b j : Nat) (him : lIm la b = some (15, bodF o j)) (x : Int32) (z : GS) (r : Int32) (h : FB17_isUnder_3 x = r) : Met l yX17_isUnder (ws_ yX17_isUnder cX17_isUnder 2 (some .boolean)) ({ frames := 3, cells := 0, slots := 0, locals := 62 }) (va_Pc [.ref b, .int x] (PC D aC A o la z)) (QR (some (.int r))) 0 0 (fun _ => False) := by
  refine g_ofW (cc := cX17_isUnder) (maxL := 2) (ret := (some .boolean)) (own := RX17) (by decide) rfl rfl [.ref b, .int x] (PC D aC A o la z) (Nat.le_of_ble_eq_true rfl) ?_
  intro p e s m below meth c ls hx hb hr hml hts hown hlocks hnm hPre hl
  obtain ⟨hO, hK, hA, hZ⟩ := hPre
  have hf : CallFix p m c cX17_isUnder 2 s _ lw_all RX17 := ⟨hx, hb, hml, hown, hts⟩
  have hl : lv_has ls 2 [(0, .ref b), (1, .int x)] := hl
  have hS : va_S A s.heap s.heap [] := va_S.rf
  unfold FB17_isUnder_3 at h
  refine lv_iload_n hx hb dX17_isUnder_0 rfl (lv_at hl 1 rfl) ?_
  refine lv_iconst (v := 3) hx hb dX17_isUnder_1 (by decide) ?_
  refine lv_icmp_eq (tgt := 13) hx hb dX17_isUnder_2 (by decide) (fun c1 => ?_) (fun c1 => ?_)
  · refine lv_iconst (v := 1) hx hb dX17_isUnder_13 (by decide) ?_
    refine lv_goto (tgt := 18) hx hb dX17_isUnder_14 (by decide) ?_
    exact g_retRz hx hb hr hlocks (Or.inr rfl) ((if_pos c1).symm.trans h) dX17_isUnder_18
  have h := it_f c1 h
  refine lv_aload_n hx hb dX17_isUnder_5 rfl (lv_at hl 0 rfl) ?_
  refine lv_iload_n hx hb dX17_isUnder_6 rfl (lv_at hl 1 rfl) ?_
  refine g_runR (mc := 0) (ms := 0) (va_runUp (x := ⟨"ShieldLine$Lamp", "isUnder", "(I)Z"⟩) (n := 1) (As := [.int x]) (rest := []) hf (metX16_isUnder_3 l D aC A o la b j him x z _ rfl) (hts _ q1476) (hts _ q2027) (hts _ q1100) rfl (hts _ q1477) (subUp0 hts) rfl (lw_meth q1478) (hts _ q121) (by decide) (by decide +kernel) ⟨Nat.le_of_ble_eq_true rfl, Nat.le_of_ble_eq_true rfl⟩ ⟨PC.blind, nd_recv hK hO (ci := 15) rfl him, fun U hU hW => ⟨rfl, PC.at hO hK hA hZ hS hU hW⟩⟩ rfl rfl hl.1 rfl (lv_room (Nat.le_of_ble_eq_true rfl)) dX17_isUnder_7 ⟨Nat.le_of_ble_eq_true rfl, Nat.le_of_ble_eq_true rfl⟩ rfl rfl ⟨_, (hK.1.1 15 _ rfl).2⟩) ?_
  refine W.eq (g2 := F0 m 10 ls (.int (FB16_isUnder_3 x) :: [])) rfl ?_
  refine lv_if_eq (tgt := 17) hx hb dX17_isUnder_10 (by decide) (fun c2 => ?_) (fun c2 => ?_)
  · refine lv_iconst (v := 0) hx hb dX17_isUnder_17 (by decide) ?_
    exact g_retRz hx hb hr hlocks (Or.inl rfl) ((if_pos c2).symm.trans h) dX17_isUnder_18
  · refine lv_iconst (v := 1) hx hb dX17_isUnder_13 (by decide) ?_
    refine lv_goto (tgt := 18) hx hb dX17_isUnder_14 (by decide) ?_
    exact g_retRz hx hb hr hlocks (Or.inr rfl) ((if_neg c2).symm.trans h) dX17_isUnder_18
theorem metX14_isUnder_4 (l : Launch) (D : va_G) (aC : Nat → ClassId) (A : Nat → Prop) (o : Nat) (la : LC) (b j : Nat) (him : lIm la b = some (16, bodF o j)) (x : Int32) (z : GS) (r : Int32) (h : FB14_isUnder_4 x = r) : Met l yX14_isUnder (ws_ yX14_isUnder cX14_isUnder 2 (some .boolean)) ({ frames := 1, cells := 0, slots := 0, locals := 20 }) (va_Pc [.ref b, .int x] (PC D aC A o la z)) (QR (some (.int r))) 0 0 (fun _ => False) := by
  refine g_ofW (cc := cX14_isUnder) (maxL := 2) (ret := (some .boolean)) (own := RX14) (by decide) rfl rfl [.ref b, .int x] (PC D aC A o la z) (Nat.le_of_ble_eq_true rfl) ?_
  intro p e s m below meth c ls hx hb hr hml hts hown hlocks hnm hPre hl
  obtain ⟨hO, hK, hA, hZ⟩ := hPre
  have hf : CallFix p m c cX14_isUnder 2 s _ lw_all RX14 := ⟨hx, hb, hml, hown, hts⟩
  have hl : lv_has ls 2 [(0, .ref b), (1, .int x)] := hl
  have hS : va_S A s.heap s.heap [] := va_S.rf
  unfold FB14_isUnder_4 at h
  refine lv_iload_n hx hb dX14_isUnder_0 rfl (lv_at hl 1 rfl) ?_
  refine lv_if_eq (tgt := 12) hx hb dX14_isUnder_1 (by decide) (fun c1 => ?_) (fun c1 => ?_)
  · refine lv_iconst (v := 1) hx hb dX14_isUnder_12 (by decide) ?_
    refine lv_goto (tgt := 17) hx hb dX14_isUnder_13 (by decide) ?_
    exact g_retRz hx hb hr hlocks (Or.inr rfl) ((if_pos c1).symm.trans h) dX14_isUnder_17
  have h := it_f c1 h
  refine lv_iload_n hx hb dX14_isUnder_4 rfl (lv_at hl 1 rfl) ?_
  refine lv_aload_n hx hb dX14_isUnder_5 rfl (lv_at hl 0 rfl) ?_
  refine g_runR (mc := 0) (ms := 0) (va_runU (x := ⟨"ShieldLine$Shield", "kind", "()I"⟩) (owner := "ShieldLine$Shield") (C := "ShieldLine$Widow") (As := []) (rest := [.int x]) hf (metX18_kind_4 l D aC A o la b z) (va_cwO 0 hf.2.2.2.2 (lw_app (absO q1481 q1484 q1482 q1503 q1504 q123) (lw_meth q1505)) rfl rfl rfl q1506 (by decide +kernel) ⟨Nat.le_of_ble_eq_true rfl, Nat.le_of_ble_eq_true rfl⟩) ⟨PC.blind, nd_recv hK hO (ci := 16) rfl him, fun U hU hW => ⟨rfl, PC.at hO hK hA hZ hS hU hW⟩⟩ rfl rfl hl.1 rfl (lv_room (Nat.le_of_ble_eq_true rfl)) dX14_isUnder_6 ⟨Nat.le_of_ble_eq_true rfl, Nat.le_of_ble_eq_true rfl⟩) ?_
  refine W.eq (g2 := F0 m 9 ls (.int 4 :: [.int x])) rfl ?_
  refine lv_icmp_ne (tgt := 16) hx hb dX14_isUnder_9 (by decide) (fun c2 => ?_) (fun c2 => ?_)
  · refine lv_iconst (v := 0) hx hb dX14_isUnder_16 (by decide) ?_
    exact g_retRz hx hb hr hlocks (Or.inl rfl) ((if_neg c2).symm.trans h) dX14_isUnder_17
  · refine lv_iconst (v := 1) hx hb dX14_isUnder_12 (by decide) ?_
    refine lv_goto (tgt := 17) hx hb dX14_isUnder_13 (by decide) ?_
    exact g_retRz hx hb hr hlocks (Or.inr rfl) ((if_pos c2).symm.trans h) dX14_isUnder_17
theorem metX15_isUnder_4 (l : Launch) (D : va_G) (aC : Nat → ClassId) (A : Nat → Prop) (o : Nat) (la : LC) (b j : Nat) (him : lIm la b = some (16, bodF o j)) (x : Int32) (z : GS) (r : Int32) (h : FB15_isUnder_4 x = r) : Met l yX15_isUnder (ws_ yX15_isUnder cX15_isUnder 2 (some .boolean)) ({ frames := 2, cells := 0, slots := 0, locals := 41 }) (va_Pc [.ref b, .int x] (PC D aC A o la z)) (QR (some (.int r))) 0 0 (fun _ => False) := by
  refine g_ofW (cc := cX15_isUnder) (maxL := 2) (ret := (some .boolean)) (own := RX15) (by decide) rfl rfl [.ref b, .int x] (PC D aC A o la z) (Nat.le_of_ble_eq_true rfl) ?_
  intro p e s m below meth c ls hx hb hr hml hts hown hlocks hnm hPre hl
  obtain ⟨hO, hK, hA, hZ⟩ := hPre
  have hf : CallFix p m c cX15_isUnder 2 s _ lw_all RX15 := ⟨hx, hb, hml, hown, hts⟩
  have hl : lv_has ls 2 [(0, .ref b), (1, .int x)] := hl
  have hS : va_S A s.heap s.heap [] := va_S.rf
  unfold FB15_isUnder_4 at h
  refine lv_iload_n hx hb dX15_isUnder_0 rfl (lv_at hl 1 rfl) ?_
  refine lv_iconst (v := 1) hx hb dX15_isUnder_1 (by decide) ?_
  refine lv_icmp_eq (tgt := 13) hx hb dX15_isUnder_2 (by decide) (fun c1 => ?_) (fun c1 => ?_)
  · refine lv_iconst (v := 1) hx hb dX15_isUnder_13 (by decide) ?_
    refine lv_goto (tgt := 18) hx hb dX15_isUnder_14 (by decide) ?_
    exact g_retRz hx hb hr hlocks (Or.inr rfl) ((if_pos c1).symm.trans h) dX15_isUnder_18
  have h := it_f c1 h
  refine lv_aload_n hx hb dX15_isUnder_5 rfl (lv_at hl 0 rfl) ?_
  refine lv_iload_n hx hb dX15_isUnder_6 rfl (lv_at hl 1 rfl) ?_
  refine g_runR (mc := 0) (ms := 0) (va_runUp (x := ⟨"ShieldLine$Shield", "isUnder", "(I)Z"⟩) (n := 1) (As := [.int x]) (rest := []) hf (metX14_isUnder_4 l D aC A o la b j him x z _ rfl) (hts _ q1513) (hts _ q1472) (hts _ q1075) rfl (hts _ q1470) (subUp0 hts) rfl (lw_meth q1480) (hts _ q119) (by decide) (by decide +kernel) ⟨Nat.le_of_ble_eq_true rfl, Nat.le_of_ble_eq_true rfl⟩ ⟨PC.blind, nd_recv hK hO (ci := 16) rfl him, fun U hU hW => ⟨rfl, PC.at hO hK hA hZ hS hU hW⟩⟩ rfl rfl hl.1 rfl (lv_room (Nat.le_of_ble_eq_true rfl)) dX15_isUnder_7 ⟨Nat.le_of_ble_eq_true rfl, Nat.le_of_ble_eq_true rfl⟩ rfl rfl ⟨_, (hK.1.1 16 _ rfl).2⟩) ?_
  refine W.eq (g2 := F0 m 10 ls (.int (FB14_isUnder_4 x) :: [])) rfl ?_
  refine lv_if_eq (tgt := 17) hx hb dX15_isUnder_10 (by decide) (fun c2 => ?_) (fun c2 => ?_)
  · refine lv_iconst (v := 0) hx hb dX15_isUnder_17 (by decide) ?_
    exact g_retRz hx hb hr hlocks (Or.inl rfl) ((if_pos c2).symm.trans h) dX15_isUnder_18
  · refine lv_iconst (v := 1) hx hb dX15_isUnder_13 (by decide) ?_
    refine lv_goto (tgt := 18) hx hb dX15_isUnder_14 (by decide) ?_
    exact g_retRz hx hb hr hlocks (Or.inr rfl) ((if_neg c2).symm.trans h) dX15_isUnder_18
theorem metX18_isUnder_4 (l : Launch) (D : va_G) (aC : Nat → ClassId) (A : Nat → Prop) (o : Nat) (la : LC) (b j : Nat) (him : lIm la b = some (16, bodF o j)) (x : Int32) (z : GS) (r : Int32) (h : FB18_isUnder_4 x = r) : Met l yX18_isUnder (ws_ yX18_isUnder cX18_isUnder 2 (some .boolean)) ({ frames := 3, cells := 0, slots := 0, locals := 62 }) (va_Pc [.ref b, .int x] (PC D aC A o la z)) (QR (some (.int r))) 0 0 (fun _ => False) := by
  refine g_ofW (cc := cX18_isUnder) (maxL := 2) (ret := (some .boolean)) (own := RX18) (by decide) rfl rfl [.ref b, .int x] (PC D aC A o la z) (Nat.le_of_ble_eq_true rfl) ?_
  intro p e s m below meth c ls hx hb hr hml hts hown hlocks hnm hPre hl
  obtain ⟨hO, hK, hA, hZ⟩ := hPre
  have hf : CallFix p m c cX18_isUnder 2 s _ lw_all RX18 := ⟨hx, hb, hml, hown, hts⟩
  have hl : lv_has ls 2 [(0, .ref b), (1, .int x)] := hl
  have hS : va_S A s.heap s.heap [] := va_S.rf
  unfold FB18_isUnder_4 at h
  refine lv_iload_n hx hb dX18_isUnder_0 rfl (lv_at hl 1 rfl) ?_
  refine lv_iconst (v := 4) hx hb dX18_isUnder_1 (by decide) ?_
  refine lv_icmp_eq (tgt := 13) hx hb dX18_isUnder_2 (by decide) (fun c1 => ?_) (fun c1 => ?_)
  · refine lv_iconst (v := 1) hx hb dX18_isUnder_13 (by decide) ?_
    refine lv_goto (tgt := 18) hx hb dX18_isUnder_14 (by decide) ?_
    exact g_retRz hx hb hr hlocks (Or.inr rfl) ((if_pos c1).symm.trans h) dX18_isUnder_18
  have h := it_f c1 h
  refine lv_aload_n hx hb dX18_isUnder_5 rfl (lv_at hl 0 rfl) ?_
  refine lv_iload_n hx hb dX18_isUnder_6 rfl (lv_at hl 1 rfl) ?_
  refine g_runR (mc := 0) (ms := 0) (va_runUp (x := ⟨"ShieldLine$Roof", "isUnder", "(I)Z"⟩) (n := 1) (As := [.int x]) (rest := []) hf (metX15_isUnder_4 l D aC A o la b j him x z _ rfl) (hts _ q1510) (hts _ q2028) (hts _ q1113) rfl (hts _ q1511) (subUp0 hts) rfl (lw_meth q1512) (hts _ q120) (by decide) (by decide +kernel) ⟨Nat.le_of_ble_eq_true rfl, Nat.le_of_ble_eq_true rfl⟩ ⟨PC.blind, nd_recv hK hO (ci := 16) rfl him, fun U hU hW => ⟨rfl, PC.at hO hK hA hZ hS hU hW⟩⟩ rfl rfl hl.1 rfl (lv_room (Nat.le_of_ble_eq_true rfl)) dX18_isUnder_7 ⟨Nat.le_of_ble_eq_true rfl, Nat.le_of_ble_eq_true rfl⟩ rfl rfl ⟨_, (hK.1.1 16 _ rfl).2⟩) ?_
  refine W.eq (g2 := F0 m 10 ls (.int (FB15_isUnder_4 x) :: [])) rfl ?_
  refine lv_if_eq (tgt := 17) hx hb dX18_isUnder_10 (by decide) (fun c2 => ?_) (fun c2 => ?_)
  · refine lv_iconst (v := 0) hx hb dX18_isUnder_17 (by decide) ?_
    exact g_retRz hx hb hr hlocks (Or.inl rfl) ((if_pos c2).symm.trans h) dX18_isUnder_18
  · refine lv_iconst (v := 1) hx hb dX18_isUnder_13 (by decide) ?_
    refine lv_goto (tgt := 18) hx hb dX18_isUnder_14 (by decide) ?_
    exact g_retRz hx hb hr hlocks (Or.inr rfl) ((if_neg c2).symm.trans h) dX18_isUnder_18
theorem metX14_isUnder_5 (l : Launch) (D : va_G) (aC : Nat → ClassId) (A : Nat → Prop) (o : Nat) (la : LC) (b j : Nat) (him : lIm la b = some (17, bodF o j)) (x : Int32) (z : GS) (r : Int32) (h : FB14_isUnder_5 x = r) : Met l yX14_isUnder (ws_ yX14_isUnder cX14_isUnder 2 (some .boolean)) ({ frames := 1, cells := 0, slots := 0, locals := 20 }) (va_Pc [.ref b, .int x] (PC D aC A o la z)) (QR (some (.int r))) 0 0 (fun _ => False) := by
  refine g_ofW (cc := cX14_isUnder) (maxL := 2) (ret := (some .boolean)) (own := RX14) (by decide) rfl rfl [.ref b, .int x] (PC D aC A o la z) (Nat.le_of_ble_eq_true rfl) ?_
  intro p e s m below meth c ls hx hb hr hml hts hown hlocks hnm hPre hl
  obtain ⟨hO, hK, hA, hZ⟩ := hPre
  have hf : CallFix p m c cX14_isUnder 2 s _ lw_all RX14 := ⟨hx, hb, hml, hown, hts⟩
  have hl : lv_has ls 2 [(0, .ref b), (1, .int x)] := hl
  have hS : va_S A s.heap s.heap [] := va_S.rf
  unfold FB14_isUnder_5 at h
  refine lv_iload_n hx hb dX14_isUnder_0 rfl (lv_at hl 1 rfl) ?_
  refine lv_if_eq (tgt := 12) hx hb dX14_isUnder_1 (by decide) (fun c1 => ?_) (fun c1 => ?_)
  · refine lv_iconst (v := 1) hx hb dX14_isUnder_12 (by decide) ?_
    refine lv_goto (tgt := 17) hx hb dX14_isUnder_13 (by decide) ?_
    exact g_retRz hx hb hr hlocks (Or.inr rfl) ((if_pos c1).symm.trans h) dX14_isUnder_17
  have h := it_f c1 h
  refine lv_iload_n hx hb dX14_isUnder_4 rfl (lv_at hl 1 rfl) ?_
  refine lv_aload_n hx hb dX14_isUnder_5 rfl (lv_at hl 0 rfl) ?_
  refine g_runR (mc := 0) (ms := 0) (va_runU (x := ⟨"ShieldLine$Shield", "kind", "()I"⟩) (owner := "ShieldLine$Shield") (C := "ShieldLine$Can") (As := []) (rest := [.int x]) hf (metX19_kind_5 l D aC A o la b z) (va_cwO 0 hf.2.2.2.2 (lw_app (absO q1481 q1484 q1482 q1485 q1486 q124) (lw_meth q1487)) rfl rfl rfl q1506 (by decide +kernel) ⟨Nat.le_of_ble_eq_true rfl, Nat.le_of_ble_eq_true rfl⟩) ⟨PC.blind, nd_recv hK hO (ci := 17) rfl him, fun U hU hW => ⟨rfl, PC.at hO hK hA hZ hS hU hW⟩⟩ rfl rfl hl.1 rfl (lv_room (Nat.le_of_ble_eq_true rfl)) dX14_isUnder_6 ⟨Nat.le_of_ble_eq_true rfl, Nat.le_of_ble_eq_true rfl⟩) ?_
  refine W.eq (g2 := F0 m 9 ls (.int 5 :: [.int x])) rfl ?_
  refine lv_icmp_ne (tgt := 16) hx hb dX14_isUnder_9 (by decide) (fun c2 => ?_) (fun c2 => ?_)
  · refine lv_iconst (v := 0) hx hb dX14_isUnder_16 (by decide) ?_
    exact g_retRz hx hb hr hlocks (Or.inl rfl) ((if_neg c2).symm.trans h) dX14_isUnder_17
  · refine lv_iconst (v := 1) hx hb dX14_isUnder_12 (by decide) ?_
    refine lv_goto (tgt := 17) hx hb dX14_isUnder_13 (by decide) ?_
    exact g_retRz hx hb hr hlocks (Or.inr rfl) ((if_pos c2).symm.trans h) dX14_isUnder_17
theorem metX16_isUnder_5 (l : Launch) (D : va_G) (aC : Nat → ClassId) (A : Nat → Prop) (o : Nat) (la : LC) (b j : Nat) (him : lIm la b = some (17, bodF o j)) (x : Int32) (z : GS) (r : Int32) (h : FB16_isUnder_5 x = r) : Met l yX16_isUnder (ws_ yX16_isUnder cX16_isUnder 2 (some .boolean)) ({ frames := 2, cells := 0, slots := 0, locals := 41 }) (va_Pc [.ref b, .int x] (PC D aC A o la z)) (QR (some (.int r))) 0 0 (fun _ => False) := by
  refine g_ofW (cc := cX16_isUnder) (maxL := 2) (ret := (some .boolean)) (own := RX16) (by decide) rfl rfl [.ref b, .int x] (PC D aC A o la z) (Nat.le_of_ble_eq_true rfl) ?_
  intro p e s m below meth c ls hx hb hr hml hts hown hlocks hnm hPre hl
  obtain ⟨hO, hK, hA, hZ⟩ := hPre
  have hf : CallFix p m c cX16_isUnder 2 s _ lw_all RX16 := ⟨hx, hb, hml, hown, hts⟩
  have hl : lv_has ls 2 [(0, .ref b), (1, .int x)] := hl
  have hS : va_S A s.heap s.heap [] := va_S.rf
  unfold FB16_isUnder_5 at h
  refine lv_iload_n hx hb dX16_isUnder_0 rfl (lv_at hl 1 rfl) ?_
  refine lv_iconst (v := 2) hx hb dX16_isUnder_1 (by decide) ?_
  refine lv_icmp_eq (tgt := 13) hx hb dX16_isUnder_2 (by decide) (fun c1 => ?_) (fun c1 => ?_)
  · refine lv_iconst (v := 1) hx hb dX16_isUnder_13 (by decide) ?_
    refine lv_goto (tgt := 18) hx hb dX16_isUnder_14 (by decide) ?_
    exact g_retRz hx hb hr hlocks (Or.inr rfl) ((if_pos c1).symm.trans h) dX16_isUnder_18
  have h := it_f c1 h
  refine lv_aload_n hx hb dX16_isUnder_5 rfl (lv_at hl 0 rfl) ?_
  refine lv_iload_n hx hb dX16_isUnder_6 rfl (lv_at hl 1 rfl) ?_
  refine g_runR (mc := 0) (ms := 0) (va_runUp (x := ⟨"ShieldLine$Shield", "isUnder", "(I)Z"⟩) (n := 1) (As := [.int x]) (rest := []) hf (metX14_isUnder_5 l D aC A o la b j him x z _ rfl) (hts _ q1479) (hts _ q1472) (hts _ q1087) rfl (hts _ q1470) (subUp0 hts) rfl (lw_meth q1480) (hts _ q119) (by decide) (by decide +kernel) ⟨Nat.le_of_ble_eq_true rfl, Nat.le_of_ble_eq_true rfl⟩ ⟨PC.blind, nd_recv hK hO (ci := 17) rfl him, fun U hU hW => ⟨rfl, PC.at hO hK hA hZ hS hU hW⟩⟩ rfl rfl hl.1 rfl (lv_room (Nat.le_of_ble_eq_true rfl)) dX16_isUnder_7 ⟨Nat.le_of_ble_eq_true rfl, Nat.le_of_ble_eq_true rfl⟩ rfl rfl ⟨_, (hK.1.1 17 _ rfl).2⟩) ?_
  refine W.eq (g2 := F0 m 10 ls (.int (FB14_isUnder_5 x) :: [])) rfl ?_
  refine lv_if_eq (tgt := 17) hx hb dX16_isUnder_10 (by decide) (fun c2 => ?_) (fun c2 => ?_)
  · refine lv_iconst (v := 0) hx hb dX16_isUnder_17 (by decide) ?_
    exact g_retRz hx hb hr hlocks (Or.inl rfl) ((if_pos c2).symm.trans h) dX16_isUnder_18
  · refine lv_iconst (v := 1) hx hb dX16_isUnder_13 (by decide) ?_
    refine lv_goto (tgt := 18) hx hb dX16_isUnder_14 (by decide) ?_
    exact g_retRz hx hb hr hlocks (Or.inr rfl) ((if_neg c2).symm.trans h) dX16_isUnder_18
theorem metX17_isUnder_5 (l : Launch) (D : va_G) (aC : Nat → ClassId) (A : Nat → Prop) (o : Nat) (la : LC) (b j : Nat) (him : lIm la b = some (17, bodF o j)) (x : Int32) (z : GS) (r : Int32) (h : FB17_isUnder_5 x = r) : Met l yX17_isUnder (ws_ yX17_isUnder cX17_isUnder 2 (some .boolean)) ({ frames := 3, cells := 0, slots := 0, locals := 62 }) (va_Pc [.ref b, .int x] (PC D aC A o la z)) (QR (some (.int r))) 0 0 (fun _ => False) := by
  refine g_ofW (cc := cX17_isUnder) (maxL := 2) (ret := (some .boolean)) (own := RX17) (by decide) rfl rfl [.ref b, .int x] (PC D aC A o la z) (Nat.le_of_ble_eq_true rfl) ?_
  intro p e s m below meth c ls hx hb hr hml hts hown hlocks hnm hPre hl
  obtain ⟨hO, hK, hA, hZ⟩ := hPre
  have hf : CallFix p m c cX17_isUnder 2 s _ lw_all RX17 := ⟨hx, hb, hml, hown, hts⟩
  have hl : lv_has ls 2 [(0, .ref b), (1, .int x)] := hl
  have hS : va_S A s.heap s.heap [] := va_S.rf
  unfold FB17_isUnder_5 at h
  refine lv_iload_n hx hb dX17_isUnder_0 rfl (lv_at hl 1 rfl) ?_
  refine lv_iconst (v := 3) hx hb dX17_isUnder_1 (by decide) ?_
  refine lv_icmp_eq (tgt := 13) hx hb dX17_isUnder_2 (by decide) (fun c1 => ?_) (fun c1 => ?_)
  · refine lv_iconst (v := 1) hx hb dX17_isUnder_13 (by decide) ?_
    refine lv_goto (tgt := 18) hx hb dX17_isUnder_14 (by decide) ?_
    exact g_retRz hx hb hr hlocks (Or.inr rfl) ((if_pos c1).symm.trans h) dX17_isUnder_18
  have h := it_f c1 h
  refine lv_aload_n hx hb dX17_isUnder_5 rfl (lv_at hl 0 rfl) ?_
  refine lv_iload_n hx hb dX17_isUnder_6 rfl (lv_at hl 1 rfl) ?_
  refine g_runR (mc := 0) (ms := 0) (va_runUp (x := ⟨"ShieldLine$Lamp", "isUnder", "(I)Z"⟩) (n := 1) (As := [.int x]) (rest := []) hf (metX16_isUnder_5 l D aC A o la b j him x z _ rfl) (hts _ q1476) (hts _ q2027) (hts _ q1100) rfl (hts _ q1477) (subUp0 hts) rfl (lw_meth q1478) (hts _ q121) (by decide) (by decide +kernel) ⟨Nat.le_of_ble_eq_true rfl, Nat.le_of_ble_eq_true rfl⟩ ⟨PC.blind, nd_recv hK hO (ci := 17) rfl him, fun U hU hW => ⟨rfl, PC.at hO hK hA hZ hS hU hW⟩⟩ rfl rfl hl.1 rfl (lv_room (Nat.le_of_ble_eq_true rfl)) dX17_isUnder_7 ⟨Nat.le_of_ble_eq_true rfl, Nat.le_of_ble_eq_true rfl⟩ rfl rfl ⟨_, (hK.1.1 17 _ rfl).2⟩) ?_
  refine W.eq (g2 := F0 m 10 ls (.int (FB16_isUnder_5 x) :: [])) rfl ?_
  refine lv_if_eq (tgt := 17) hx hb dX17_isUnder_10 (by decide) (fun c2 => ?_) (fun c2 => ?_)
  · refine lv_iconst (v := 0) hx hb dX17_isUnder_17 (by decide) ?_
    exact g_retRz hx hb hr hlocks (Or.inl rfl) ((if_pos c2).symm.trans h) dX17_isUnder_18
  · refine lv_iconst (v := 1) hx hb dX17_isUnder_13 (by decide) ?_
    refine lv_goto (tgt := 18) hx hb dX17_isUnder_14 (by decide) ?_
    exact g_retRz hx hb hr hlocks (Or.inr rfl) ((if_neg c2).symm.trans h) dX17_isUnder_18
theorem metX14_isUnder_6 (l : Launch) (D : va_G) (aC : Nat → ClassId) (A : Nat → Prop) (o : Nat) (la : LC) (b j : Nat) (him : lIm la b = some (18, bodF o j)) (x : Int32) (z : GS) (r : Int32) (h : FB14_isUnder_6 x = r) : Met l yX14_isUnder (ws_ yX14_isUnder cX14_isUnder 2 (some .boolean)) ({ frames := 1, cells := 0, slots := 0, locals := 20 }) (va_Pc [.ref b, .int x] (PC D aC A o la z)) (QR (some (.int r))) 0 0 (fun _ => False) := by
  refine g_ofW (cc := cX14_isUnder) (maxL := 2) (ret := (some .boolean)) (own := RX14) (by decide) rfl rfl [.ref b, .int x] (PC D aC A o la z) (Nat.le_of_ble_eq_true rfl) ?_
  intro p e s m below meth c ls hx hb hr hml hts hown hlocks hnm hPre hl
  obtain ⟨hO, hK, hA, hZ⟩ := hPre
  have hf : CallFix p m c cX14_isUnder 2 s _ lw_all RX14 := ⟨hx, hb, hml, hown, hts⟩
  have hl : lv_has ls 2 [(0, .ref b), (1, .int x)] := hl
  have hS : va_S A s.heap s.heap [] := va_S.rf
  unfold FB14_isUnder_6 at h
  refine lv_iload_n hx hb dX14_isUnder_0 rfl (lv_at hl 1 rfl) ?_
  refine lv_if_eq (tgt := 12) hx hb dX14_isUnder_1 (by decide) (fun c1 => ?_) (fun c1 => ?_)
  · refine lv_iconst (v := 1) hx hb dX14_isUnder_12 (by decide) ?_
    refine lv_goto (tgt := 17) hx hb dX14_isUnder_13 (by decide) ?_
    exact g_retRz hx hb hr hlocks (Or.inr rfl) ((if_pos c1).symm.trans h) dX14_isUnder_17
  have h := it_f c1 h
  refine lv_iload_n hx hb dX14_isUnder_4 rfl (lv_at hl 1 rfl) ?_
  refine lv_aload_n hx hb dX14_isUnder_5 rfl (lv_at hl 0 rfl) ?_
  refine g_runR (mc := 0) (ms := 0) (va_runU (x := ⟨"ShieldLine$Shield", "kind", "()I"⟩) (owner := "ShieldLine$Shield") (C := "ShieldLine$Kiln") (As := []) (rest := [.int x]) hf (metX20_kind_6 l D aC A o la b z) (va_cwO 0 hf.2.2.2.2 (lw_app (absO q1481 q1484 q1482 q1491 q1492 q125) (lw_meth q1493)) rfl rfl rfl q1506 (by decide +kernel) ⟨Nat.le_of_ble_eq_true rfl, Nat.le_of_ble_eq_true rfl⟩) ⟨PC.blind, nd_recv hK hO (ci := 18) rfl him, fun U hU hW => ⟨rfl, PC.at hO hK hA hZ hS hU hW⟩⟩ rfl rfl hl.1 rfl (lv_room (Nat.le_of_ble_eq_true rfl)) dX14_isUnder_6 ⟨Nat.le_of_ble_eq_true rfl, Nat.le_of_ble_eq_true rfl⟩) ?_
  refine W.eq (g2 := F0 m 9 ls (.int 6 :: [.int x])) rfl ?_
  refine lv_icmp_ne (tgt := 16) hx hb dX14_isUnder_9 (by decide) (fun c2 => ?_) (fun c2 => ?_)
  · refine lv_iconst (v := 0) hx hb dX14_isUnder_16 (by decide) ?_
    exact g_retRz hx hb hr hlocks (Or.inl rfl) ((if_neg c2).symm.trans h) dX14_isUnder_17
  · refine lv_iconst (v := 1) hx hb dX14_isUnder_12 (by decide) ?_
    refine lv_goto (tgt := 17) hx hb dX14_isUnder_13 (by decide) ?_
    exact g_retRz hx hb hr hlocks (Or.inr rfl) ((if_pos c2).symm.trans h) dX14_isUnder_17
theorem metX14_isUnder_7 (l : Launch) (D : va_G) (aC : Nat → ClassId) (A : Nat → Prop) (o : Nat) (la : LC) (b j : Nat) (him : lIm la b = some (19, bodF o j)) (x : Int32) (z : GS) (r : Int32) (h : FB14_isUnder_7 x = r) : Met l yX14_isUnder (ws_ yX14_isUnder cX14_isUnder 2 (some .boolean)) ({ frames := 1, cells := 0, slots := 0, locals := 20 }) (va_Pc [.ref b, .int x] (PC D aC A o la z)) (QR (some (.int r))) 0 0 (fun _ => False) := by
  refine g_ofW (cc := cX14_isUnder) (maxL := 2) (ret := (some .boolean)) (own := RX14) (by decide) rfl rfl [.ref b, .int x] (PC D aC A o la z) (Nat.le_of_ble_eq_true rfl) ?_
  intro p e s m below meth c ls hx hb hr hml hts hown hlocks hnm hPre hl
  obtain ⟨hO, hK, hA, hZ⟩ := hPre
  have hf : CallFix p m c cX14_isUnder 2 s _ lw_all RX14 := ⟨hx, hb, hml, hown, hts⟩
  have hl : lv_has ls 2 [(0, .ref b), (1, .int x)] := hl
  have hS : va_S A s.heap s.heap [] := va_S.rf
  unfold FB14_isUnder_7 at h
  refine lv_iload_n hx hb dX14_isUnder_0 rfl (lv_at hl 1 rfl) ?_
  refine lv_if_eq (tgt := 12) hx hb dX14_isUnder_1 (by decide) (fun c1 => ?_) (fun c1 => ?_)
  · refine lv_iconst (v := 1) hx hb dX14_isUnder_12 (by decide) ?_
    refine lv_goto (tgt := 17) hx hb dX14_isUnder_13 (by decide) ?_
    exact g_retRz hx hb hr hlocks (Or.inr rfl) ((if_pos c1).symm.trans h) dX14_isUnder_17
  have h := it_f c1 h
  refine lv_iload_n hx hb dX14_isUnder_4 rfl (lv_at hl 1 rfl) ?_
  refine lv_aload_n hx hb dX14_isUnder_5 rfl (lv_at hl 0 rfl) ?_
  refine g_runR (mc := 0) (ms := 0) (va_runU (x := ⟨"ShieldLine$Shield", "kind", "()I"⟩) (owner := "ShieldLine$Shield") (C := "ShieldLine$Hill") (As := []) (rest := [.int x]) hf (metX21_kind_7 l D aC A o la b z) (va_cwO 0 hf.2.2.2.2 (lw_app (absO q1481 q1484 q1482 q1488 q1489 q126) (lw_meth q1490)) rfl rfl rfl q1506 (by decide +kernel) ⟨Nat.le_of_ble_eq_true rfl, Nat.le_of_ble_eq_true rfl⟩) ⟨PC.blind, nd_recv hK hO (ci := 19) rfl him, fun U hU hW => ⟨rfl, PC.at hO hK hA hZ hS hU hW⟩⟩ rfl rfl hl.1 rfl (lv_room (Nat.le_of_ble_eq_true rfl)) dX14_isUnder_6 ⟨Nat.le_of_ble_eq_true rfl, Nat.le_of_ble_eq_true rfl⟩) ?_
  refine W.eq (g2 := F0 m 9 ls (.int 7 :: [.int x])) rfl ?_
  refine lv_icmp_ne (tgt := 16) hx hb dX14_isUnder_9 (by decide) (fun c2 => ?_) (fun c2 => ?_)
  · refine lv_iconst (v := 0) hx hb dX14_isUnder_16 (by decide) ?_
    exact g_retRz hx hb hr hlocks (Or.inl rfl) ((if_neg c2).symm.trans h) dX14_isUnder_17
  · refine lv_iconst (v := 1) hx hb dX14_isUnder_12 (by decide) ?_
    refine lv_goto (tgt := 17) hx hb dX14_isUnder_13 (by decide) ?_
    exact g_retRz hx hb hr hlocks (Or.inr rfl) ((if_pos c2).symm.trans h) dX14_isUnder_17
theorem metX15_isUnder_7 (l : Launch) (D : va_G) (aC : Nat → ClassId) (A : Nat → Prop) (o : Nat) (la : LC) (b j : Nat) (him : lIm la b = some (19, bodF o j)) (x : Int32) (z : GS) (r : Int32) (h : FB15_isUnder_7 x = r) : Met l yX15_isUnder (ws_ yX15_isUnder cX15_isUnder 2 (some .boolean)) ({ frames := 2, cells := 0, slots := 0, locals := 41 }) (va_Pc [.ref b, .int x] (PC D aC A o la z)) (QR (some (.int r))) 0 0 (fun _ => False) := by
  refine g_ofW (cc := cX15_isUnder) (maxL := 2) (ret := (some .boolean)) (own := RX15) (by decide) rfl rfl [.ref b, .int x] (PC D aC A o la z) (Nat.le_of_ble_eq_true rfl) ?_
  intro p e s m below meth c ls hx hb hr hml hts hown hlocks hnm hPre hl
  obtain ⟨hO, hK, hA, hZ⟩ := hPre
  have hf : CallFix p m c cX15_isUnder 2 s _ lw_all RX15 := ⟨hx, hb, hml, hown, hts⟩
  have hl : lv_has ls 2 [(0, .ref b), (1, .int x)] := hl
  have hS : va_S A s.heap s.heap [] := va_S.rf
  unfold FB15_isUnder_7 at h
  refine lv_iload_n hx hb dX15_isUnder_0 rfl (lv_at hl 1 rfl) ?_
  refine lv_iconst (v := 1) hx hb dX15_isUnder_1 (by decide) ?_
  refine lv_icmp_eq (tgt := 13) hx hb dX15_isUnder_2 (by decide) (fun c1 => ?_) (fun c1 => ?_)
  · refine lv_iconst (v := 1) hx hb dX15_isUnder_13 (by decide) ?_
    refine lv_goto (tgt := 18) hx hb dX15_isUnder_14 (by decide) ?_
    exact g_retRz hx hb hr hlocks (Or.inr rfl) ((if_pos c1).symm.trans h) dX15_isUnder_18
  have h := it_f c1 h
  refine lv_aload_n hx hb dX15_isUnder_5 rfl (lv_at hl 0 rfl) ?_
  refine lv_iload_n hx hb dX15_isUnder_6 rfl (lv_at hl 1 rfl) ?_
  refine g_runR (mc := 0) (ms := 0) (va_runUp (x := ⟨"ShieldLine$Shield", "isUnder", "(I)Z"⟩) (n := 1) (As := [.int x]) (rest := []) hf (metX14_isUnder_7 l D aC A o la b j him x z _ rfl) (hts _ q1513) (hts _ q1472) (hts _ q1075) rfl (hts _ q1470) (subUp0 hts) rfl (lw_meth q1480) (hts _ q119) (by decide) (by decide +kernel) ⟨Nat.le_of_ble_eq_true rfl, Nat.le_of_ble_eq_true rfl⟩ ⟨PC.blind, nd_recv hK hO (ci := 19) rfl him, fun U hU hW => ⟨rfl, PC.at hO hK hA hZ hS hU hW⟩⟩ rfl rfl hl.1 rfl (lv_room (Nat.le_of_ble_eq_true rfl)) dX15_isUnder_7 ⟨Nat.le_of_ble_eq_true rfl, Nat.le_of_ble_eq_true rfl⟩ rfl rfl ⟨_, (hK.1.1 19 _ rfl).2⟩) ?_
  refine W.eq (g2 := F0 m 10 ls (.int (FB14_isUnder_7 x) :: [])) rfl ?_
  refine lv_if_eq (tgt := 17) hx hb dX15_isUnder_10 (by decide) (fun c2 => ?_) (fun c2 => ?_)
  · refine lv_iconst (v := 0) hx hb dX15_isUnder_17 (by decide) ?_
    exact g_retRz hx hb hr hlocks (Or.inl rfl) ((if_pos c2).symm.trans h) dX15_isUnder_18
  · refine lv_iconst (v := 1) hx hb dX15_isUnder_13 (by decide) ?_
    refine lv_goto (tgt := 18) hx hb dX15_isUnder_14 (by decide) ?_
    exact g_retRz hx hb hr hlocks (Or.inr rfl) ((if_neg c2).symm.trans h) dX15_isUnder_18
theorem metX18_isUnder_7 (l : Launch) (D : va_G) (aC : Nat → ClassId) (A : Nat → Prop) (o : Nat) (la : LC) (b j : Nat) (him : lIm la b = some (19, bodF o j)) (x : Int32) (z : GS) (r : Int32) (h : FB18_isUnder_7 x = r) : Met l yX18_isUnder (ws_ yX18_isUnder cX18_isUnder 2 (some .boolean)) ({ frames := 3, cells := 0, slots := 0, locals := 62 }) (va_Pc [.ref b, .int x] (PC D aC A o la z)) (QR (some (.int r))) 0 0 (fun _ => False) := by
  refine g_ofW (cc := cX18_isUnder) (maxL := 2) (ret := (some .boolean)) (own := RX18) (by decide) rfl rfl [.ref b, .int x] (PC D aC A o la z) (Nat.le_of_ble_eq_true rfl) ?_
  intro p e s m below meth c ls hx hb hr hml hts hown hlocks hnm hPre hl
  obtain ⟨hO, hK, hA, hZ⟩ := hPre
  have hf : CallFix p m c cX18_isUnder 2 s _ lw_all RX18 := ⟨hx, hb, hml, hown, hts⟩
  have hl : lv_has ls 2 [(0, .ref b), (1, .int x)] := hl
  have hS : va_S A s.heap s.heap [] := va_S.rf
  unfold FB18_isUnder_7 at h
  refine lv_iload_n hx hb dX18_isUnder_0 rfl (lv_at hl 1 rfl) ?_
  refine lv_iconst (v := 4) hx hb dX18_isUnder_1 (by decide) ?_
  refine lv_icmp_eq (tgt := 13) hx hb dX18_isUnder_2 (by decide) (fun c1 => ?_) (fun c1 => ?_)
  · refine lv_iconst (v := 1) hx hb dX18_isUnder_13 (by decide) ?_
    refine lv_goto (tgt := 18) hx hb dX18_isUnder_14 (by decide) ?_
    exact g_retRz hx hb hr hlocks (Or.inr rfl) ((if_pos c1).symm.trans h) dX18_isUnder_18
  have h := it_f c1 h
  refine lv_aload_n hx hb dX18_isUnder_5 rfl (lv_at hl 0 rfl) ?_
  refine lv_iload_n hx hb dX18_isUnder_6 rfl (lv_at hl 1 rfl) ?_
  refine g_runR (mc := 0) (ms := 0) (va_runUp (x := ⟨"ShieldLine$Roof", "isUnder", "(I)Z"⟩) (n := 1) (As := [.int x]) (rest := []) hf (metX15_isUnder_7 l D aC A o la b j him x z _ rfl) (hts _ q1510) (hts _ q2028) (hts _ q1113) rfl (hts _ q1511) (subUp0 hts) rfl (lw_meth q1512) (hts _ q120) (by decide) (by decide +kernel) ⟨Nat.le_of_ble_eq_true rfl, Nat.le_of_ble_eq_true rfl⟩ ⟨PC.blind, nd_recv hK hO (ci := 19) rfl him, fun U hU hW => ⟨rfl, PC.at hO hK hA hZ hS hU hW⟩⟩ rfl rfl hl.1 rfl (lv_room (Nat.le_of_ble_eq_true rfl)) dX18_isUnder_7 ⟨Nat.le_of_ble_eq_true rfl, Nat.le_of_ble_eq_true rfl⟩ rfl rfl ⟨_, (hK.1.1 19 _ rfl).2⟩) ?_
  refine W.eq (g2 := F0 m 10 ls (.int (FB15_isUnder_7 x) :: [])) rfl ?_
  refine lv_if_eq (tgt := 17) hx hb dX18_isUnder_10 (by decide) (fun c2 => ?_) (fun c2 => ?_)
  · refine lv_iconst (v := 0) hx hb dX18_isUnder_17 (by decide) ?_
    exact g_retRz hx hb hr hlocks (Or.inl rfl) ((if_pos c2).symm.trans h) dX18_isUnder_18
  · refine lv_iconst (v := 1) hx hb dX18_isUnder_13 (by decide) ?_
    refine lv_goto (tgt := 18) hx hb dX18_isUnder_14 (by decide) ?_
    exact g_retRz hx hb hr hlocks (Or.inr rfl) ((if_neg c2).symm.trans h) dX18_isUnder_18
theorem metX14_bears_0 (l : Launch) (D : va_G) (aC : Nat → ClassId) (A : Nat → Prop) (o : Nat) (la : LC) (b j : Nat) (him : lIm la b = some (12, bodF o j)) (x : Int32) (z : GS) (r : Int32) (zq : GS) (h : FB14_bears_0 (nI j) x z = some (r, zq)) : Met l yX14_bears (ws_ yX14_bears cX14_bears 2 (some .int)) ({ frames := 1, cells := 0, slots := 0, locals := 21 }) (va_Pc [.ref b, .int x] (PC D aC A o la z)) (QG (some (.int r)) (OC D aC A o la zq) A) 0 0 A := by
  refine g_ofW (cc := cX14_bears) (maxL := 2) (ret := (some .int)) (own := RX14) (by decide) rfl rfl [.ref b, .int x] (PC D aC A o la z) (Nat.le_of_ble_eq_true rfl) ?_
  intro p e s m below meth c ls hx hb hr hml hts hown hlocks hnm hPre hl
  obtain ⟨hO, hK, hA, hZ⟩ := hPre
  have hf : CallFix p m c cX14_bears 2 s _ lw_all RX14 := ⟨hx, hb, hml, hown, hts⟩
  have hl : lv_has ls 2 [(0, .ref b), (1, .int x)] := hl
  refine g_open (A := A) (OC D aC A o la z) hO (fun H locs hO hS => ?_)
  unfold FB14_bears_0 at h
  refine lv_aload_n hx hb dX14_bears_0 rfl (lv_at hl 0 rfl) ?_
  refine nd_getS hx hb hts in_X14 hown hK hO (ci := 12) rfl him (v := .ref o) 1 (by decide) rfl (hts _ q1068) dX14_bears_1 ?_
  refine lv_iconst (v := 1) hx hb dX14_bears_4 (by decide) ?_
  obtain ⟨z1, e2, h⟩ := bn1_e h
  refine g_runG (mc := 0) (ms := 0) (va_runVN (As := [.int 1]) (rest := []) hf (metX0_ran l D aC A o la 1 z _ e2) ⟨va_cnB 1 hf.2.2.2.2 (lw_meth q1180) rfl rfl rfl (hK.2.1 _ q1177 rfl) (hts _ q90) (by decide +kernel) ⟨Nat.le_of_ble_eq_true rfl, Nat.le_of_ble_eq_true rfl⟩, hts _ q1179, hts _ qs48⟩ ⟨PC.blind, OC.recv hK hO, fun U hU hW => ⟨rfl, PC.at hO hK hA hZ hS hU hW⟩⟩ rfl rfl hl.1 rfl (lv_room (Nat.le_of_ble_eq_true rfl)) dX14_bears_5 ⟨Nat.le_of_ble_eq_true rfl, Nat.le_of_ble_eq_true rfl⟩) hS (fun H locs hO hS _ _ => ?_)
  refine W.eq (g2 := F0 m 8 ls []) rfl ?_
  refine lv_iload_n hx hb dX14_bears_8 rfl (lv_at hl 1 rfl) ?_
  refine lv_aload_n hx hb dX14_bears_9 rfl (lv_at hl 0 rfl) ?_
  refine nd_getS hx hb hts in_X14 hown hK hO (ci := 12) rfl him (v := .int (nI j)) 0 (by decide) rfl (hts _ q1067) dX14_bears_10 ?_
  refine lv_iadd hx hb dX14_bears_13 ?_
  obtain ⟨e9, rfl⟩ := Prod.mk.inj (Option.some.inj h)
  exact g_retG hx hb hr hlocks e9 hO hS dX14_bears_14
theorem metX14_bears_1 (l : Launch) (D : va_G) (aC : Nat → ClassId) (A : Nat → Prop) (o : Nat) (la : LC) (b j : Nat) (him : lIm la b = some (13, bodF o j)) (x : Int32) (z : GS) (r : Int32) (zq : GS) (h : FB14_bears_1 (nI j) x z = some (r, zq)) : Met l yX14_bears (ws_ yX14_bears cX14_bears 2 (some .int)) ({ frames := 1, cells := 0, slots := 0, locals := 21 }) (va_Pc [.ref b, .int x] (PC D aC A o la z)) (QG (some (.int r)) (OC D aC A o la zq) A) 0 0 A := by
  refine g_ofW (cc := cX14_bears) (maxL := 2) (ret := (some .int)) (own := RX14) (by decide) rfl rfl [.ref b, .int x] (PC D aC A o la z) (Nat.le_of_ble_eq_true rfl) ?_
  intro p e s m below meth c ls hx hb hr hml hts hown hlocks hnm hPre hl
  obtain ⟨hO, hK, hA, hZ⟩ := hPre
  have hf : CallFix p m c cX14_bears 2 s _ lw_all RX14 := ⟨hx, hb, hml, hown, hts⟩
  have hl : lv_has ls 2 [(0, .ref b), (1, .int x)] := hl
  refine g_open (A := A) (OC D aC A o la z) hO (fun H locs hO hS => ?_)
  unfold FB14_bears_1 at h
  refine lv_aload_n hx hb dX14_bears_0 rfl (lv_at hl 0 rfl) ?_
  refine nd_getS hx hb hts in_X15 hown hK hO (ci := 13) rfl him (v := .ref o) 1 (by decide) rfl (hts _ q1068) dX14_bears_1 ?_
  refine lv_iconst (v := 1) hx hb dX14_bears_4 (by decide) ?_
  obtain ⟨z1, e2, h⟩ := bn1_e h
  refine g_runG (mc := 0) (ms := 0) (va_runVN (As := [.int 1]) (rest := []) hf (metX0_ran l D aC A o la 1 z _ e2) ⟨va_cnB 1 hf.2.2.2.2 (lw_meth q1180) rfl rfl rfl (hK.2.1 _ q1177 rfl) (hts _ q90) (by decide +kernel) ⟨Nat.le_of_ble_eq_true rfl, Nat.le_of_ble_eq_true rfl⟩, hts _ q1179, hts _ qs48⟩ ⟨PC.blind, OC.recv hK hO, fun U hU hW => ⟨rfl, PC.at hO hK hA hZ hS hU hW⟩⟩ rfl rfl hl.1 rfl (lv_room (Nat.le_of_ble_eq_true rfl)) dX14_bears_5 ⟨Nat.le_of_ble_eq_true rfl, Nat.le_of_ble_eq_true rfl⟩) hS (fun H locs hO hS _ _ => ?_)
  refine W.eq (g2 := F0 m 8 ls []) rfl ?_
  refine lv_iload_n hx hb dX14_bears_8 rfl (lv_at hl 1 rfl) ?_
  refine lv_aload_n hx hb dX14_bears_9 rfl (lv_at hl 0 rfl) ?_
  refine nd_getS hx hb hts in_X15 hown hK hO (ci := 13) rfl him (v := .int (nI j)) 0 (by decide) rfl (hts _ q1067) dX14_bears_10 ?_
  refine lv_iadd hx hb dX14_bears_13 ?_
  obtain ⟨e9, rfl⟩ := Prod.mk.inj (Option.some.inj h)
  exact g_retG hx hb hr hlocks e9 hO hS dX14_bears_14
theorem metX15_bears_1 (l : Launch) (D : va_G) (aC : Nat → ClassId) (A : Nat → Prop) (o : Nat) (la : LC) (b j : Nat) (him : lIm la b = some (13, bodF o j)) (x : Int32) (z : GS) (r : Int32) (zq : GS) (h : FB15_bears_1 (nI j) x z = some (r, zq)) : Met l yX15_bears (ws_ yX15_bears cX15_bears 2 (some .int)) ({ frames := 2, cells := 0, slots := 0, locals := 42 }) (va_Pc [.ref b, .int x] (PC D aC A o la z)) (QG (some (.int r)) (OC D aC A o la zq) A) 0 0 A := by
  refine g_ofW (cc := cX15_bears) (maxL := 2) (ret := (some .int)) (own := RX15) (by decide) rfl rfl [.ref b, .int x] (PC D aC A o la z) (Nat.le_of_ble_eq_true rfl) ?_
  intro p e s m below meth c ls hx hb hr hml hts hown hlocks hnm hPre hl
  obtain ⟨hO, hK, hA, hZ⟩ := hPre
  have hf : CallFix p m c cX15_bears 2 s _ lw_all RX15 := ⟨hx, hb, hml, hown, hts⟩
  have hl : lv_has ls 2 [(0, .ref b), (1, .int x)] := hl
  refine g_open (A := A) (OC D aC A o la z) hO (fun H locs hO hS => ?_)
  unfold FB15_bears_1 at h
  refine lv_aload_n hx hb dX15_bears_0 rfl (lv_at hl 0 rfl) ?_
  refine nd_getS hx hb hts in_X15 hown hK hO (ci := 13) rfl him (v := .ref o) 2 (by decide) rfl (hts _ q1066) dX15_bears_1 ?_
  refine lv_bipush (v := 20) hx hb dX15_bears_4 (by decide) ?_
  obtain ⟨z1, e2, h⟩ := bn1_e h
  refine g_runG (mc := 0) (ms := 0) (va_runVN (As := [.int 20]) (rest := []) hf (metX0_ran l D aC A o la 20 z _ e2) ⟨va_cnB 1 hf.2.2.2.2 (lw_meth q1180) rfl rfl rfl (hK.2.1 _ q1187 rfl) (hts _ q90) (by decide +kernel) ⟨Nat.le_of_ble_eq_true rfl, Nat.le_of_ble_eq_true rfl⟩, hts _ q1179, hts _ qs48⟩ ⟨PC.blind, OC.recv hK hO, fun U hU hW => ⟨rfl, PC.at hO hK hA hZ hS hU hW⟩⟩ rfl rfl hl.1 rfl (lv_room (Nat.le_of_ble_eq_true rfl)) dX15_bears_6 ⟨Nat.le_of_ble_eq_true rfl, Nat.le_of_ble_eq_true rfl⟩) hS (fun H locs hO hS _ _ => ?_)
  refine W.eq (g2 := F0 m 9 ls []) rfl ?_
  refine lv_aload_n hx hb dX15_bears_9 rfl (lv_at hl 0 rfl) ?_
  refine lv_iload_n hx hb dX15_bears_10 rfl (lv_at hl 1 rfl) ?_
  obtain ⟨a3, z4, e5, h⟩ := bnd_e h
  refine g_runG (mc := 0) (ms := 0) (va_runUp (x := ⟨"ShieldLine$Shield", "bears", "(I)I"⟩) (n := 1) (As := [.int x]) (rest := []) hf (metX14_bears_1 l D aC A o la b j him (x) z1 _ _ e5) (hts _ q1188) (hts _ q2008) (hts _ q1075) rfl (hts _ q1174) (subUp0 hts) rfl (lw_meth q1176) (hts _ q119) (by decide) (by decide +kernel) ⟨Nat.le_of_ble_eq_true rfl, Nat.le_of_ble_eq_true rfl⟩ ⟨PC.blind, nd_recv hK hO (ci := 13) rfl him, fun U hU hW => ⟨rfl, PC.at hO hK hA hZ hS hU hW⟩⟩ rfl rfl hl.1 rfl (lv_room (Nat.le_of_ble_eq_true rfl)) dX15_bears_11 ⟨Nat.le_of_ble_eq_true rfl, Nat.le_of_ble_eq_true rfl⟩ rfl rfl ⟨_, (hK.1.1 13 _ rfl).2⟩) hS (fun H locs hO hS _ _ => ?_)
  refine W.eq (g2 := F0 m 14 ls (.int a3 :: [])) rfl ?_
  refine lv_iconst (v := 3) hx hb dX15_bears_14 (by decide) ?_
  refine lv_iadd hx hb dX15_bears_15 ?_
  obtain ⟨e9, rfl⟩ := Prod.mk.inj (Option.some.inj h)
  exact g_retG hx hb hr hlocks e9 hO hS dX15_bears_16
theorem metX14_bears_2 (l : Launch) (D : va_G) (aC : Nat → ClassId) (A : Nat → Prop) (o : Nat) (la : LC) (b j : Nat) (him : lIm la b = some (14, bodF o j)) (x : Int32) (z : GS) (r : Int32) (zq : GS) (h : FB14_bears_2 (nI j) x z = some (r, zq)) : Met l yX14_bears (ws_ yX14_bears cX14_bears 2 (some .int)) ({ frames := 1, cells := 0, slots := 0, locals := 21 }) (va_Pc [.ref b, .int x] (PC D aC A o la z)) (QG (some (.int r)) (OC D aC A o la zq) A) 0 0 A := by
  refine g_ofW (cc := cX14_bears) (maxL := 2) (ret := (some .int)) (own := RX14) (by decide) rfl rfl [.ref b, .int x] (PC D aC A o la z) (Nat.le_of_ble_eq_true rfl) ?_
  intro p e s m below meth c ls hx hb hr hml hts hown hlocks hnm hPre hl
  obtain ⟨hO, hK, hA, hZ⟩ := hPre
  have hf : CallFix p m c cX14_bears 2 s _ lw_all RX14 := ⟨hx, hb, hml, hown, hts⟩
  have hl : lv_has ls 2 [(0, .ref b), (1, .int x)] := hl
  refine g_open (A := A) (OC D aC A o la z) hO (fun H locs hO hS => ?_)
  unfold FB14_bears_2 at h
  refine lv_aload_n hx hb dX14_bears_0 rfl (lv_at hl 0 rfl) ?_
  refine nd_getS hx hb hts in_X16 hown hK hO (ci := 14) rfl him (v := .ref o) 1 (by decide) rfl (hts _ q1068) dX14_bears_1 ?_
  refine lv_iconst (v := 1) hx hb dX14_bears_4 (by decide) ?_
  obtain ⟨z1, e2, h⟩ := bn1_e h
  refine g_runG (mc := 0) (ms := 0) (va_runVN (As := [.int 1]) (rest := []) hf (metX0_ran l D aC A o la 1 z _ e2) ⟨va_cnB 1 hf.2.2.2.2 (lw_meth q1180) rfl rfl rfl (hK.2.1 _ q1177 rfl) (hts _ q90) (by decide +kernel) ⟨Nat.le_of_ble_eq_true rfl, Nat.le_of_ble_eq_true rfl⟩, hts _ q1179, hts _ qs48⟩ ⟨PC.blind, OC.recv hK hO, fun U hU hW => ⟨rfl, PC.at hO hK hA hZ hS hU hW⟩⟩ rfl rfl hl.1 rfl (lv_room (Nat.le_of_ble_eq_true rfl)) dX14_bears_5 ⟨Nat.le_of_ble_eq_true rfl, Nat.le_of_ble_eq_true rfl⟩) hS (fun H locs hO hS _ _ => ?_)
  refine W.eq (g2 := F0 m 8 ls []) rfl ?_
  refine lv_iload_n hx hb dX14_bears_8 rfl (lv_at hl 1 rfl) ?_
  refine lv_aload_n hx hb dX14_bears_9 rfl (lv_at hl 0 rfl) ?_
  refine nd_getS hx hb hts in_X16 hown hK hO (ci := 14) rfl him (v := .int (nI j)) 0 (by decide) rfl (hts _ q1067) dX14_bears_10 ?_
  refine lv_iadd hx hb dX14_bears_13 ?_
  obtain ⟨e9, rfl⟩ := Prod.mk.inj (Option.some.inj h)
  exact g_retG hx hb hr hlocks e9 hO hS dX14_bears_14
theorem metX14_bears_3 (l : Launch) (D : va_G) (aC : Nat → ClassId) (A : Nat → Prop) (o : Nat) (la : LC) (b j : Nat) (him : lIm la b = some (15, bodF o j)) (x : Int32) (z : GS) (r : Int32) (zq : GS) (h : FB14_bears_3 (nI j) x z = some (r, zq)) : Met l yX14_bears (ws_ yX14_bears cX14_bears 2 (some .int)) ({ frames := 1, cells := 0, slots := 0, locals := 21 }) (va_Pc [.ref b, .int x] (PC D aC A o la z)) (QG (some (.int r)) (OC D aC A o la zq) A) 0 0 A := by
  refine g_ofW (cc := cX14_bears) (maxL := 2) (ret := (some .int)) (own := RX14) (by decide) rfl rfl [.ref b, .int x] (PC D aC A o la z) (Nat.le_of_ble_eq_true rfl) ?_
  intro p e s m below meth c ls hx hb hr hml hts hown hlocks hnm hPre hl
  obtain ⟨hO, hK, hA, hZ⟩ := hPre
  have hf : CallFix p m c cX14_bears 2 s _ lw_all RX14 := ⟨hx, hb, hml, hown, hts⟩
  have hl : lv_has ls 2 [(0, .ref b), (1, .int x)] := hl
  refine g_open (A := A) (OC D aC A o la z) hO (fun H locs hO hS => ?_)
  unfold FB14_bears_3 at h
  refine lv_aload_n hx hb dX14_bears_0 rfl (lv_at hl 0 rfl) ?_
  refine nd_getS hx hb hts in_X17 hown hK hO (ci := 15) rfl him (v := .ref o) 1 (by decide) rfl (hts _ q1068) dX14_bears_1 ?_
  refine lv_iconst (v := 1) hx hb dX14_bears_4 (by decide) ?_
  obtain ⟨z1, e2, h⟩ := bn1_e h
  refine g_runG (mc := 0) (ms := 0) (va_runVN (As := [.int 1]) (rest := []) hf (metX0_ran l D aC A o la 1 z _ e2) ⟨va_cnB 1 hf.2.2.2.2 (lw_meth q1180) rfl rfl rfl (hK.2.1 _ q1177 rfl) (hts _ q90) (by decide +kernel) ⟨Nat.le_of_ble_eq_true rfl, Nat.le_of_ble_eq_true rfl⟩, hts _ q1179, hts _ qs48⟩ ⟨PC.blind, OC.recv hK hO, fun U hU hW => ⟨rfl, PC.at hO hK hA hZ hS hU hW⟩⟩ rfl rfl hl.1 rfl (lv_room (Nat.le_of_ble_eq_true rfl)) dX14_bears_5 ⟨Nat.le_of_ble_eq_true rfl, Nat.le_of_ble_eq_true rfl⟩) hS (fun H locs hO hS _ _ => ?_)
  refine W.eq (g2 := F0 m 8 ls []) rfl ?_
  refine lv_iload_n hx hb dX14_bears_8 rfl (lv_at hl 1 rfl) ?_
  refine lv_aload_n hx hb dX14_bears_9 rfl (lv_at hl 0 rfl) ?_
  refine nd_getS hx hb hts in_X17 hown hK hO (ci := 15) rfl him (v := .int (nI j)) 0 (by decide) rfl (hts _ q1067) dX14_bears_10 ?_
  refine lv_iadd hx hb dX14_bears_13 ?_
  obtain ⟨e9, rfl⟩ := Prod.mk.inj (Option.some.inj h)
  exact g_retG hx hb hr hlocks e9 hO hS dX14_bears_14
theorem metX14_bears_4 (l : Launch) (D : va_G) (aC : Nat → ClassId) (A : Nat → Prop) (o : Nat) (la : LC) (b j : Nat) (him : lIm la b = some (16, bodF o j)) (x : Int32) (z : GS) (r : Int32) (zq : GS) (h : FB14_bears_4 (nI j) x z = some (r, zq)) : Met l yX14_bears (ws_ yX14_bears cX14_bears 2 (some .int)) ({ frames := 1, cells := 0, slots := 0, locals := 21 }) (va_Pc [.ref b, .int x] (PC D aC A o la z)) (QG (some (.int r)) (OC D aC A o la zq) A) 0 0 A := by
  refine g_ofW (cc := cX14_bears) (maxL := 2) (ret := (some .int)) (own := RX14) (by decide) rfl rfl [.ref b, .int x] (PC D aC A o la z) (Nat.le_of_ble_eq_true rfl) ?_
  intro p e s m below meth c ls hx hb hr hml hts hown hlocks hnm hPre hl
  obtain ⟨hO, hK, hA, hZ⟩ := hPre
  have hf : CallFix p m c cX14_bears 2 s _ lw_all RX14 := ⟨hx, hb, hml, hown, hts⟩
  have hl : lv_has ls 2 [(0, .ref b), (1, .int x)] := hl
  refine g_open (A := A) (OC D aC A o la z) hO (fun H locs hO hS => ?_)
  unfold FB14_bears_4 at h
  refine lv_aload_n hx hb dX14_bears_0 rfl (lv_at hl 0 rfl) ?_
  refine nd_getS hx hb hts in_X18 hown hK hO (ci := 16) rfl him (v := .ref o) 1 (by decide) rfl (hts _ q1068) dX14_bears_1 ?_
  refine lv_iconst (v := 1) hx hb dX14_bears_4 (by decide) ?_
  obtain ⟨z1, e2, h⟩ := bn1_e h
  refine g_runG (mc := 0) (ms := 0) (va_runVN (As := [.int 1]) (rest := []) hf (metX0_ran l D aC A o la 1 z _ e2) ⟨va_cnB 1 hf.2.2.2.2 (lw_meth q1180) rfl rfl rfl (hK.2.1 _ q1177 rfl) (hts _ q90) (by decide +kernel) ⟨Nat.le_of_ble_eq_true rfl, Nat.le_of_ble_eq_true rfl⟩, hts _ q1179, hts _ qs48⟩ ⟨PC.blind, OC.recv hK hO, fun U hU hW => ⟨rfl, PC.at hO hK hA hZ hS hU hW⟩⟩ rfl rfl hl.1 rfl (lv_room (Nat.le_of_ble_eq_true rfl)) dX14_bears_5 ⟨Nat.le_of_ble_eq_true rfl, Nat.le_of_ble_eq_true rfl⟩) hS (fun H locs hO hS _ _ => ?_)
  refine W.eq (g2 := F0 m 8 ls []) rfl ?_
  refine lv_iload_n hx hb dX14_bears_8 rfl (lv_at hl 1 rfl) ?_
  refine lv_aload_n hx hb dX14_bears_9 rfl (lv_at hl 0 rfl) ?_
  refine nd_getS hx hb hts in_X18 hown hK hO (ci := 16) rfl him (v := .int (nI j)) 0 (by decide) rfl (hts _ q1067) dX14_bears_10 ?_
  refine lv_iadd hx hb dX14_bears_13 ?_
  obtain ⟨e9, rfl⟩ := Prod.mk.inj (Option.some.inj h)
  exact g_retG hx hb hr hlocks e9 hO hS dX14_bears_14
theorem metX15_bears_4 (l : Launch) (D : va_G) (aC : Nat → ClassId) (A : Nat → Prop) (o : Nat) (la : LC) (b j : Nat) (him : lIm la b = some (16, bodF o j)) (x : Int32) (z : GS) (r : Int32) (zq : GS) (h : FB15_bears_4 (nI j) x z = some (r, zq)) : Met l yX15_bears (ws_ yX15_bears cX15_bears 2 (some .int)) ({ frames := 2, cells := 0, slots := 0, locals := 42 }) (va_Pc [.ref b, .int x] (PC D aC A o la z)) (QG (some (.int r)) (OC D aC A o la zq) A) 0 0 A := by
  refine g_ofW (cc := cX15_bears) (maxL := 2) (ret := (some .int)) (own := RX15) (by decide) rfl rfl [.ref b, .int x] (PC D aC A o la z) (Nat.le_of_ble_eq_true rfl) ?_
  intro p e s m below meth c ls hx hb hr hml hts hown hlocks hnm hPre hl
  obtain ⟨hO, hK, hA, hZ⟩ := hPre
  have hf : CallFix p m c cX15_bears 2 s _ lw_all RX15 := ⟨hx, hb, hml, hown, hts⟩
  have hl : lv_has ls 2 [(0, .ref b), (1, .int x)] := hl
  refine g_open (A := A) (OC D aC A o la z) hO (fun H locs hO hS => ?_)
  unfold FB15_bears_4 at h
  refine lv_aload_n hx hb dX15_bears_0 rfl (lv_at hl 0 rfl) ?_
  refine nd_getS hx hb hts in_X18 hown hK hO (ci := 16) rfl him (v := .ref o) 2 (by decide) rfl (hts _ q1066) dX15_bears_1 ?_
  refine lv_bipush (v := 20) hx hb dX15_bears_4 (by decide) ?_
  obtain ⟨z1, e2, h⟩ := bn1_e h
  refine g_runG (mc := 0) (ms := 0) (va_runVN (As := [.int 20]) (rest := []) hf (metX0_ran l D aC A o la 20 z _ e2) ⟨va_cnB 1 hf.2.2.2.2 (lw_meth q1180) rfl rfl rfl (hK.2.1 _ q1187 rfl) (hts _ q90) (by decide +kernel) ⟨Nat.le_of_ble_eq_true rfl, Nat.le_of_ble_eq_true rfl⟩, hts _ q1179, hts _ qs48⟩ ⟨PC.blind, OC.recv hK hO, fun U hU hW => ⟨rfl, PC.at hO hK hA hZ hS hU hW⟩⟩ rfl rfl hl.1 rfl (lv_room (Nat.le_of_ble_eq_true rfl)) dX15_bears_6 ⟨Nat.le_of_ble_eq_true rfl, Nat.le_of_ble_eq_true rfl⟩) hS (fun H locs hO hS _ _ => ?_)
  refine W.eq (g2 := F0 m 9 ls []) rfl ?_
  refine lv_aload_n hx hb dX15_bears_9 rfl (lv_at hl 0 rfl) ?_
  refine lv_iload_n hx hb dX15_bears_10 rfl (lv_at hl 1 rfl) ?_
  obtain ⟨a3, z4, e5, h⟩ := bnd_e h
  refine g_runG (mc := 0) (ms := 0) (va_runUp (x := ⟨"ShieldLine$Shield", "bears", "(I)I"⟩) (n := 1) (As := [.int x]) (rest := []) hf (metX14_bears_4 l D aC A o la b j him (x) z1 _ _ e5) (hts _ q1188) (hts _ q2008) (hts _ q1075) rfl (hts _ q1174) (subUp0 hts) rfl (lw_meth q1176) (hts _ q119) (by decide) (by decide +kernel) ⟨Nat.le_of_ble_eq_true rfl, Nat.le_of_ble_eq_true rfl⟩ ⟨PC.blind, nd_recv hK hO (ci := 16) rfl him, fun U hU hW => ⟨rfl, PC.at hO hK hA hZ hS hU hW⟩⟩ rfl rfl hl.1 rfl (lv_room (Nat.le_of_ble_eq_true rfl)) dX15_bears_11 ⟨Nat.le_of_ble_eq_true rfl, Nat.le_of_ble_eq_true rfl⟩ rfl rfl ⟨_, (hK.1.1 16 _ rfl).2⟩) hS (fun H locs hO hS _ _ => ?_)
  refine W.eq (g2 := F0 m 14 ls (.int a3 :: [])) rfl ?_
  refine lv_iconst (v := 3) hx hb dX15_bears_14 (by decide) ?_
  refine lv_iadd hx hb dX15_bears_15 ?_
  obtain ⟨e9, rfl⟩ := Prod.mk.inj (Option.some.inj h)
  exact g_retG hx hb hr hlocks e9 hO hS dX15_bears_16
theorem metX14_bears_5 (l : Launch) (D : va_G) (aC : Nat → ClassId) (A : Nat → Prop) (o : Nat) (la : LC) (b j : Nat) (him : lIm la b = some (17, bodF o j)) (x : Int32) (z : GS) (r : Int32) (zq : GS) (h : FB14_bears_5 (nI j) x z = some (r, zq)) : Met l yX14_bears (ws_ yX14_bears cX14_bears 2 (some .int)) ({ frames := 1, cells := 0, slots := 0, locals := 21 }) (va_Pc [.ref b, .int x] (PC D aC A o la z)) (QG (some (.int r)) (OC D aC A o la zq) A) 0 0 A := by
  refine g_ofW (cc := cX14_bears) (maxL := 2) (ret := (some .int)) (own := RX14) (by decide) rfl rfl [.ref b, .int x] (PC D aC A o la z) (Nat.le_of_ble_eq_true rfl) ?_
  intro p e s m below meth c ls hx hb hr hml hts hown hlocks hnm hPre hl
  obtain ⟨hO, hK, hA, hZ⟩ := hPre
  have hf : CallFix p m c cX14_bears 2 s _ lw_all RX14 := ⟨hx, hb, hml, hown, hts⟩
  have hl : lv_has ls 2 [(0, .ref b), (1, .int x)] := hl
  refine g_open (A := A) (OC D aC A o la z) hO (fun H locs hO hS => ?_)
  unfold FB14_bears_5 at h
  refine lv_aload_n hx hb dX14_bears_0 rfl (lv_at hl 0 rfl) ?_
  refine nd_getS hx hb hts in_X19 hown hK hO (ci := 17) rfl him (v := .ref o) 1 (by decide) rfl (hts _ q1068) dX14_bears_1 ?_
  refine lv_iconst (v := 1) hx hb dX14_bears_4 (by decide) ?_
  obtain ⟨z1, e2, h⟩ := bn1_e h
  refine g_runG (mc := 0) (ms := 0) (va_runVN (As := [.int 1]) (rest := []) hf (metX0_ran l D aC A o la 1 z _ e2) ⟨va_cnB 1 hf.2.2.2.2 (lw_meth q1180) rfl rfl rfl (hK.2.1 _ q1177 rfl) (hts _ q90) (by decide +kernel) ⟨Nat.le_of_ble_eq_true rfl, Nat.le_of_ble_eq_true rfl⟩, hts _ q1179, hts _ qs48⟩ ⟨PC.blind, OC.recv hK hO, fun U hU hW => ⟨rfl, PC.at hO hK hA hZ hS hU hW⟩⟩ rfl rfl hl.1 rfl (lv_room (Nat.le_of_ble_eq_true rfl)) dX14_bears_5 ⟨Nat.le_of_ble_eq_true rfl, Nat.le_of_ble_eq_true rfl⟩) hS (fun H locs hO hS _ _ => ?_)
  refine W.eq (g2 := F0 m 8 ls []) rfl ?_
  refine lv_iload_n hx hb dX14_bears_8 rfl (lv_at hl 1 rfl) ?_
  refine lv_aload_n hx hb dX14_bears_9 rfl (lv_at hl 0 rfl) ?_
  refine nd_getS hx hb hts in_X19 hown hK hO (ci := 17) rfl him (v := .int (nI j)) 0 (by decide) rfl (hts _ q1067) dX14_bears_10 ?_
  refine lv_iadd hx hb dX14_bears_13 ?_
  obtain ⟨e9, rfl⟩ := Prod.mk.inj (Option.some.inj h)
  exact g_retG hx hb hr hlocks e9 hO hS dX14_bears_14
theorem metX14_bears_6 (l : Launch) (D : va_G) (aC : Nat → ClassId) (A : Nat → Prop) (o : Nat) (la : LC) (b j : Nat) (him : lIm la b = some (18, bodF o j)) (x : Int32) (z : GS) (r : Int32) (zq : GS) (h : FB14_bears_6 (nI j) x z = some (r, zq)) : Met l yX14_bears (ws_ yX14_bears cX14_bears 2 (some .int)) ({ frames := 1, cells := 0, slots := 0, locals := 21 }) (va_Pc [.ref b, .int x] (PC D aC A o la z)) (QG (some (.int r)) (OC D aC A o la zq) A) 0 0 A := by
  refine g_ofW (cc := cX14_bears) (maxL := 2) (ret := (some .int)) (own := RX14) (by decide) rfl rfl [.ref b, .int x] (PC D aC A o la z) (Nat.le_of_ble_eq_true rfl) ?_
  intro p e s m below meth c ls hx hb hr hml hts hown hlocks hnm hPre hl
  obtain ⟨hO, hK, hA, hZ⟩ := hPre
  have hf : CallFix p m c cX14_bears 2 s _ lw_all RX14 := ⟨hx, hb, hml, hown, hts⟩
  have hl : lv_has ls 2 [(0, .ref b), (1, .int x)] := hl
  refine g_open (A := A) (OC D aC A o la z) hO (fun H locs hO hS => ?_)
  unfold FB14_bears_6 at h
  refine lv_aload_n hx hb dX14_bears_0 rfl (lv_at hl 0 rfl) ?_
  refine nd_getS hx hb hts in_X20 hown hK hO (ci := 18) rfl him (v := .ref o) 1 (by decide) rfl (hts _ q1068) dX14_bears_1 ?_
  refine lv_iconst (v := 1) hx hb dX14_bears_4 (by decide) ?_
  obtain ⟨z1, e2, h⟩ := bn1_e h
  refine g_runG (mc := 0) (ms := 0) (va_runVN (As := [.int 1]) (rest := []) hf (metX0_ran l D aC A o la 1 z _ e2) ⟨va_cnB 1 hf.2.2.2.2 (lw_meth q1180) rfl rfl rfl (hK.2.1 _ q1177 rfl) (hts _ q90) (by decide +kernel) ⟨Nat.le_of_ble_eq_true rfl, Nat.le_of_ble_eq_true rfl⟩, hts _ q1179, hts _ qs48⟩ ⟨PC.blind, OC.recv hK hO, fun U hU hW => ⟨rfl, PC.at hO hK hA hZ hS hU hW⟩⟩ rfl rfl hl.1 rfl (lv_room (Nat.le_of_ble_eq_true rfl)) dX14_bears_5 ⟨Nat.le_of_ble_eq_true rfl, Nat.le_of_ble_eq_true rfl⟩) hS (fun H locs hO hS _ _ => ?_)
  refine W.eq (g2 := F0 m 8 ls []) rfl ?_
  refine lv_iload_n hx hb dX14_bears_8 rfl (lv_at hl 1 rfl) ?_
  refine lv_aload_n hx hb dX14_bears_9 rfl (lv_at hl 0 rfl) ?_
  refine nd_getS hx hb hts in_X20 hown hK hO (ci := 18) rfl him (v := .int (nI j)) 0 (by decide) rfl (hts _ q1067) dX14_bears_10 ?_
  refine lv_iadd hx hb dX14_bears_13 ?_
  obtain ⟨e9, rfl⟩ := Prod.mk.inj (Option.some.inj h)
  exact g_retG hx hb hr hlocks e9 hO hS dX14_bears_14
theorem metX20_bears_6 (l : Launch) (D : va_G) (aC : Nat → ClassId) (A : Nat → Prop) (o : Nat) (la : LC) (b j : Nat) (him : lIm la b = some (18, bodF o j)) (x : Int32) (z : GS) (r : Int32) (zq : GS) (h : FB20_bears_6 (nI j) x z = some (r, zq)) : Met l yX20_bears (ws_ yX20_bears cX20_bears 2 (some .int)) ({ frames := 2, cells := 0, slots := 0, locals := 42 }) (va_Pc [.ref b, .int x] (PC D aC A o la z)) (QG (some (.int r)) (OC D aC A o la zq) A) 0 0 A := by
  refine g_ofW (cc := cX20_bears) (maxL := 2) (ret := (some .int)) (own := RX20) (by decide) rfl rfl [.ref b, .int x] (PC D aC A o la z) (Nat.le_of_ble_eq_true rfl) ?_
  intro p e s m below meth c ls hx hb hr hml hts hown hlocks hnm hPre hl
  obtain ⟨hO, hK, hA, hZ⟩ := hPre
  have hf : CallFix p m c cX20_bears 2 s _ lw_all RX20 := ⟨hx, hb, hml, hown, hts⟩
  have hl : lv_has ls 2 [(0, .ref b), (1, .int x)] := hl
  refine g_open (A := A) (OC D aC A o la z) hO (fun H locs hO hS => ?_)
  unfold FB20_bears_6 at h
  refine lv_aload_n hx hb dX20_bears_0 rfl (lv_at hl 0 rfl) ?_
  refine nd_getS hx hb hts in_X20 hown hK hO (ci := 18) rfl him (v := .ref o) 2 (by decide) rfl (hts _ q1134) dX20_bears_1 ?_
  refine lv_bipush (v := 70) hx hb dX20_bears_4 (by decide) ?_
  obtain ⟨z1, e2, h⟩ := bn1_e h
  refine g_runG (mc := 0) (ms := 0) (va_runVN (As := [.int 70]) (rest := []) hf (metX0_ran l D aC A o la 70 z _ e2) ⟨va_cnB 1 hf.2.2.2.2 (lw_meth q1180) rfl rfl rfl (hK.2.1 _ q1195 rfl) (hts _ q90) (by decide +kernel) ⟨Nat.le_of_ble_eq_true rfl, Nat.le_of_ble_eq_true rfl⟩, hts _ q1179, hts _ qs48⟩ ⟨PC.blind, OC.recv hK hO, fun U hU hW => ⟨rfl, PC.at hO hK hA hZ hS hU hW⟩⟩ rfl rfl hl.1 rfl (lv_room (Nat.le_of_ble_eq_true rfl)) dX20_bears_6 ⟨Nat.le_of_ble_eq_true rfl, Nat.le_of_ble_eq_true rfl⟩) hS (fun H locs hO hS _ _ => ?_)
  refine W.eq (g2 := F0 m 9 ls []) rfl ?_
  refine lv_aload_n hx hb dX20_bears_9 rfl (lv_at hl 0 rfl) ?_
  refine lv_iload_n hx hb dX20_bears_10 rfl (lv_at hl 1 rfl) ?_
  obtain ⟨a3, z4, e5, h⟩ := bnd_e h
  refine g_runG (mc := 0) (ms := 0) (va_runUp (x := ⟨"ShieldLine$Shield", "bears", "(I)I"⟩) (n := 1) (As := [.int x]) (rest := []) hf (metX14_bears_6 l D aC A o la b j him (x) z1 _ _ e5) (hts _ q1196) (hts _ q2008) (hts _ q1139) rfl (hts _ q1174) (subUp0 hts) rfl (lw_meth q1176) (hts _ q119) (by decide) (by decide +kernel) ⟨Nat.le_of_ble_eq_true rfl, Nat.le_of_ble_eq_true rfl⟩ ⟨PC.blind, nd_recv hK hO (ci := 18) rfl him, fun U hU hW => ⟨rfl, PC.at hO hK hA hZ hS hU hW⟩⟩ rfl rfl hl.1 rfl (lv_room (Nat.le_of_ble_eq_true rfl)) dX20_bears_11 ⟨Nat.le_of_ble_eq_true rfl, Nat.le_of_ble_eq_true rfl⟩ rfl rfl ⟨_, (hK.1.1 18 _ rfl).2⟩) hS (fun H locs hO hS _ _ => ?_)
  refine W.eq (g2 := F0 m 14 ls (.int a3 :: [])) rfl ?_
  refine lv_iconst (v := 2) hx hb dX20_bears_14 (by decide) ?_
  refine lv_imul hx hb dX20_bears_15 ?_
  obtain ⟨e9, rfl⟩ := Prod.mk.inj (Option.some.inj h)
  exact g_retG hx hb hr hlocks e9 hO hS dX20_bears_16
theorem metX14_bears_7 (l : Launch) (D : va_G) (aC : Nat → ClassId) (A : Nat → Prop) (o : Nat) (la : LC) (b j : Nat) (him : lIm la b = some (19, bodF o j)) (x : Int32) (z : GS) (r : Int32) (zq : GS) (h : FB14_bears_7 (nI j) x z = some (r, zq)) : Met l yX14_bears (ws_ yX14_bears cX14_bears 2 (some .int)) ({ frames := 1, cells := 0, slots := 0, locals := 21 }) (va_Pc [.ref b, .int x] (PC D aC A o la z)) (QG (some (.int r)) (OC D aC A o la zq) A) 0 0 A := by
  refine g_ofW (cc := cX14_bears) (maxL := 2) (ret := (some .int)) (own := RX14) (by decide) rfl rfl [.ref b, .int x] (PC D aC A o la z) (Nat.le_of_ble_eq_true rfl) ?_
  intro p e s m below meth c ls hx hb hr hml hts hown hlocks hnm hPre hl
  obtain ⟨hO, hK, hA, hZ⟩ := hPre
  have hf : CallFix p m c cX14_bears 2 s _ lw_all RX14 := ⟨hx, hb, hml, hown, hts⟩
  have hl : lv_has ls 2 [(0, .ref b), (1, .int x)] := hl
  refine g_open (A := A) (OC D aC A o la z) hO (fun H locs hO hS => ?_)
  unfold FB14_bears_7 at h
  refine lv_aload_n hx hb dX14_bears_0 rfl (lv_at hl 0 rfl) ?_
  refine nd_getS hx hb hts in_X21 hown hK hO (ci := 19) rfl him (v := .ref o) 1 (by decide) rfl (hts _ q1068) dX14_bears_1 ?_
  refine lv_iconst (v := 1) hx hb dX14_bears_4 (by decide) ?_
  obtain ⟨z1, e2, h⟩ := bn1_e h
  refine g_runG (mc := 0) (ms := 0) (va_runVN (As := [.int 1]) (rest := []) hf (metX0_ran l D aC A o la 1 z _ e2) ⟨va_cnB 1 hf.2.2.2.2 (lw_meth q1180) rfl rfl rfl (hK.2.1 _ q1177 rfl) (hts _ q90) (by decide +kernel) ⟨Nat.le_of_ble_eq_true rfl, Nat.le_of_ble_eq_true rfl⟩, hts _ q1179, hts _ qs48⟩ ⟨PC.blind, OC.recv hK hO, fun U hU hW => ⟨rfl, PC.at hO hK hA hZ hS hU hW⟩⟩ rfl rfl hl.1 rfl (lv_room (Nat.le_of_ble_eq_true rfl)) dX14_bears_5 ⟨Nat.le_of_ble_eq_true rfl, Nat.le_of_ble_eq_true rfl⟩) hS (fun H locs hO hS _ _ => ?_)
  refine W.eq (g2 := F0 m 8 ls []) rfl ?_
  refine lv_iload_n hx hb dX14_bears_8 rfl (lv_at hl 1 rfl) ?_
  refine lv_aload_n hx hb dX14_bears_9 rfl (lv_at hl 0 rfl) ?_
  refine nd_getS hx hb hts in_X21 hown hK hO (ci := 19) rfl him (v := .int (nI j)) 0 (by decide) rfl (hts _ q1067) dX14_bears_10 ?_
  refine lv_iadd hx hb dX14_bears_13 ?_
  obtain ⟨e9, rfl⟩ := Prod.mk.inj (Option.some.inj h)
  exact g_retG hx hb hr hlocks e9 hO hS dX14_bears_14
theorem metX15_bears_7 (l : Launch) (D : va_G) (aC : Nat → ClassId) (A : Nat → Prop) (o : Nat) (la : LC) (b j : Nat) (him : lIm la b = some (19, bodF o j)) (x : Int32) (z : GS) (r : Int32) (zq : GS) (h : FB15_bears_7 (nI j) x z = some (r, zq)) : Met l yX15_bears (ws_ yX15_bears cX15_bears 2 (some .int)) ({ frames := 2, cells := 0, slots := 0, locals := 42 }) (va_Pc [.ref b, .int x] (PC D aC A o la z)) (QG (some (.int r)) (OC D aC A o la zq) A) 0 0 A := by
  refine g_ofW (cc := cX15_bears) (maxL := 2) (ret := (some .int)) (own := RX15) (by decide) rfl rfl [.ref b, .int x] (PC D aC A o la z) (Nat.le_of_ble_eq_true rfl) ?_
  intro p e s m below meth c ls hx hb hr hml hts hown hlocks hnm hPre hl
  obtain ⟨hO, hK, hA, hZ⟩ := hPre
  have hf : CallFix p m c cX15_bears 2 s _ lw_all RX15 := ⟨hx, hb, hml, hown, hts⟩
  have hl : lv_has ls 2 [(0, .ref b), (1, .int x)] := hl
  refine g_open (A := A) (OC D aC A o la z) hO (fun H locs hO hS => ?_)
  unfold FB15_bears_7 at h
  refine lv_aload_n hx hb dX15_bears_0 rfl (lv_at hl 0 rfl) ?_
  refine nd_getS hx hb hts in_X21 hown hK hO (ci := 19) rfl him (v := .ref o) 2 (by decide) rfl (hts _ q1066) dX15_bears_1 ?_
  refine lv_bipush (v := 20) hx hb dX15_bears_4 (by decide) ?_
  obtain ⟨z1, e2, h⟩ := bn1_e h
  refine g_runG (mc := 0) (ms := 0) (va_runVN (As := [.int 20]) (rest := []) hf (metX0_ran l D aC A o la 20 z _ e2) ⟨va_cnB 1 hf.2.2.2.2 (lw_meth q1180) rfl rfl rfl (hK.2.1 _ q1187 rfl) (hts _ q90) (by decide +kernel) ⟨Nat.le_of_ble_eq_true rfl, Nat.le_of_ble_eq_true rfl⟩, hts _ q1179, hts _ qs48⟩ ⟨PC.blind, OC.recv hK hO, fun U hU hW => ⟨rfl, PC.at hO hK hA hZ hS hU hW⟩⟩ rfl rfl hl.1 rfl (lv_room (Nat.le_of_ble_eq_true rfl)) dX15_bears_6 ⟨Nat.le_of_ble_eq_true rfl, Nat.le_of_ble_eq_true rfl⟩) hS (fun H locs hO hS _ _ => ?_)
  refine W.eq (g2 := F0 m 9 ls []) rfl ?_
  refine lv_aload_n hx hb dX15_bears_9 rfl (lv_at hl 0 rfl) ?_
  refine lv_iload_n hx hb dX15_bears_10 rfl (lv_at hl 1 rfl) ?_
  obtain ⟨a3, z4, e5, h⟩ := bnd_e h
  refine g_runG (mc := 0) (ms := 0) (va_runUp (x := ⟨"ShieldLine$Shield", "bears", "(I)I"⟩) (n := 1) (As := [.int x]) (rest := []) hf (metX14_bears_7 l D aC A o la b j him (x) z1 _ _ e5) (hts _ q1188) (hts _ q2008) (hts _ q1075) rfl (hts _ q1174) (subUp0 hts) rfl (lw_meth q1176) (hts _ q119) (by decide) (by decide +kernel) ⟨Nat.le_of_ble_eq_true rfl, Nat.le_of_ble_eq_true rfl⟩ ⟨PC.blind, nd_recv hK hO (ci := 19) rfl him, fun U hU hW => ⟨rfl, PC.at hO hK hA hZ hS hU hW⟩⟩ rfl rfl hl.1 rfl (lv_room (Nat.le_of_ble_eq_true rfl)) dX15_bears_11 ⟨Nat.le_of_ble_eq_true rfl, Nat.le_of_ble_eq_true rfl⟩ rfl rfl ⟨_, (hK.1.1 19 _ rfl).2⟩) hS (fun H locs hO hS _ _ => ?_)
  refine W.eq (g2 := F0 m 14 ls (.int a3 :: [])) rfl ?_
  refine lv_iconst (v := 3) hx hb dX15_bears_14 (by decide) ?_
  refine lv_iadd hx hb dX15_bears_15 ?_
  obtain ⟨e9, rfl⟩ := Prod.mk.inj (Option.some.inj h)
  exact g_retG hx hb hr hlocks e9 hO hS dX15_bears_16
theorem metX14_caresFor_0 (l : Launch) (D : va_G) (aC : Nat → ClassId) (A : Nat → Prop) (o : Nat) (la : LC) (b j : Nat) (him : lIm la b = some (12, bodF o j)) (x : Int32) (z : GS) (r : Int32) (zq : GS) (h : FB14_caresFor_0 (nI j) x z = some (r, zq)) : Met l yX14_caresFor (ws_ yX14_caresFor cX14_caresFor 2 (some .int)) ({ frames := 2, cells := 0, slots := 0, locals := 42 }) (va_Pc [.ref b, .int x] (PC D aC A o la z)) (QG (some (.int r)) (OC D aC A o la zq) A) 0 0 A := by
  refine g_ofW (cc := cX14_caresFor) (maxL := 2) (ret := (some .int)) (own := RX14) (by decide) rfl rfl [.ref b, .int x] (PC D aC A o la z) (Nat.le_of_ble_eq_true rfl) ?_
  intro p e s m below meth c ls hx hb hr hml hts hown hlocks hnm hPre hl
  obtain ⟨hO, hK, hA, hZ⟩ := hPre
  have hf : CallFix p m c cX14_caresFor 2 s _ lw_all RX14 := ⟨hx, hb, hml, hown, hts⟩
  have hl : lv_has ls 2 [(0, .ref b), (1, .int x)] := hl
  refine g_open (A := A) (OC D aC A o la z) hO (fun H locs hO hS => ?_)
  unfold FB14_caresFor_0 at h
  refine lv_aload_n hx hb dX14_caresFor_0 rfl (lv_at hl 0 rfl) ?_
  refine nd_getS hx hb hts in_X14 hown hK hO (ci := 12) rfl him (v := .ref o) 1 (by decide) rfl (hts _ q1068) dX14_caresFor_1 ?_
  refine lv_bipush (v := 10) hx hb dX14_caresFor_4 (by decide) ?_
  obtain ⟨z1, e2, h⟩ := bn1_e h
  refine g_runG (mc := 0) (ms := 0) (va_runVN (As := [.int 10]) (rest := []) hf (metX0_ran l D aC A o la 10 z _ e2) ⟨va_cnB 1 hf.2.2.2.2 (lw_meth q1180) rfl rfl rfl (hK.2.1 _ q1177 rfl) (hts _ q90) (by decide +kernel) ⟨Nat.le_of_ble_eq_true rfl, Nat.le_of_ble_eq_true rfl⟩, hts _ q1179, hts _ qs48⟩ ⟨PC.blind, OC.recv hK hO, fun U hU hW => ⟨rfl, PC.at hO hK hA hZ hS hU hW⟩⟩ rfl rfl hl.1 rfl (lv_room (Nat.le_of_ble_eq_true rfl)) dX14_caresFor_6 ⟨Nat.le_of_ble_eq_true rfl, Nat.le_of_ble_eq_true rfl⟩) hS (fun H locs hO hS _ _ => ?_)
  refine W.eq (g2 := F0 m 9 ls []) rfl ?_
  refine lv_aload_n hx hb dX14_caresFor_9 rfl (lv_at hl 0 rfl) ?_
  refine lv_iload_n hx hb dX14_caresFor_10 rfl (lv_at hl 1 rfl) ?_
  obtain ⟨a3, z4, e5, h⟩ := bnd_e h
  refine g_runG (mc := 0) (ms := 0) (va_runU (x := ⟨"ShieldLine$Shield", "bears", "(I)I"⟩) (owner := "ShieldLine$Shield") (C := "ShieldLine$Shield") (As := [.int x]) (rest := []) hf (metX14_bears_0 l D aC A o la b j him (x) z1 _ _ e5) (va_cwU 1 hf.2.2.2.2 (lw_app (absW q1242 q2008 q2016 q1174 q119) (lw_meth q1176)) rfl rfl rfl rfl (by decide +kernel) ⟨Nat.le_of_ble_eq_true rfl, Nat.le_of_ble_eq_true rfl⟩) ⟨PC.blind, nd_recv hK hO (ci := 12) rfl him, fun U hU hW => ⟨rfl, PC.at hO hK hA hZ hS hU hW⟩⟩ rfl rfl hl.1 rfl (lv_room (Nat.le_of_ble_eq_true rfl)) dX14_caresFor_11 ⟨Nat.le_of_ble_eq_true rfl, Nat.le_of_ble_eq_true rfl⟩) hS (fun H locs hO hS _ _ => ?_)
  refine W.eq (g2 := F0 m 14 ls (.int a3 :: [])) rfl ?_
  refine lv_iconst (v := 2) hx hb dX14_caresFor_14 (by decide) ?_
  refine lv_imul hx hb dX14_caresFor_15 ?_
  obtain ⟨e9, rfl⟩ := Prod.mk.inj (Option.some.inj h)
  exact g_retG hx hb hr hlocks e9 hO hS dX14_caresFor_16
theorem metX14_caresFor_1 (l : Launch) (D : va_G) (aC : Nat → ClassId) (A : Nat → Prop) (o : Nat) (la : LC) (b j : Nat) (him : lIm la b = some (13, bodF o j)) (x : Int32) (z : GS) (r : Int32) (zq : GS) (h : FB14_caresFor_1 (nI j) x z = some (r, zq)) : Met l yX14_caresFor (ws_ yX14_caresFor cX14_caresFor 2 (some .int)) ({ frames := 3, cells := 0, slots := 0, locals := 63 }) (va_Pc [.ref b, .int x] (PC D aC A o la z)) (QG (some (.int r)) (OC D aC A o la zq) A) 0 0 A := by
  refine g_ofW (cc := cX14_caresFor) (maxL := 2) (ret := (some .int)) (own := RX14) (by decide) rfl rfl [.ref b, .int x] (PC D aC A o la z) (Nat.le_of_ble_eq_true rfl) ?_
  intro p e s m below meth c ls hx hb hr hml hts hown hlocks hnm hPre hl
  obtain ⟨hO, hK, hA, hZ⟩ := hPre
  have hf : CallFix p m c cX14_caresFor 2 s _ lw_all RX14 := ⟨hx, hb, hml, hown, hts⟩
  have hl : lv_has ls 2 [(0, .ref b), (1, .int x)] := hl
  refine g_open (A := A) (OC D aC A o la z) hO (fun H locs hO hS => ?_)
  unfold FB14_caresFor_1 at h
  refine lv_aload_n hx hb dX14_caresFor_0 rfl (lv_at hl 0 rfl) ?_
  refine nd_getS hx hb hts in_X15 hown hK hO (ci := 13) rfl him (v := .ref o) 1 (by decide) rfl (hts _ q1068) dX14_caresFor_1 ?_
  refine lv_bipush (v := 10) hx hb dX14_caresFor_4 (by decide) ?_
  obtain ⟨z1, e2, h⟩ := bn1_e h
  refine g_runG (mc := 0) (ms := 0) (va_runVN (As := [.int 10]) (rest := []) hf (metX0_ran l D aC A o la 10 z _ e2) ⟨va_cnB 1 hf.2.2.2.2 (lw_meth q1180) rfl rfl rfl (hK.2.1 _ q1177 rfl) (hts _ q90) (by decide +kernel) ⟨Nat.le_of_ble_eq_true rfl, Nat.le_of_ble_eq_true rfl⟩, hts _ q1179, hts _ qs48⟩ ⟨PC.blind, OC.recv hK hO, fun U hU hW => ⟨rfl, PC.at hO hK hA hZ hS hU hW⟩⟩ rfl rfl hl.1 rfl (lv_room (Nat.le_of_ble_eq_true rfl)) dX14_caresFor_6 ⟨Nat.le_of_ble_eq_true rfl, Nat.le_of_ble_eq_true rfl⟩) hS (fun H locs hO hS _ _ => ?_)
  refine W.eq (g2 := F0 m 9 ls []) rfl ?_
  refine lv_aload_n hx hb dX14_caresFor_9 rfl (lv_at hl 0 rfl) ?_
  refine lv_iload_n hx hb dX14_caresFor_10 rfl (lv_at hl 1 rfl) ?_
  obtain ⟨a3, z4, e5, h⟩ := bnd_e h
  refine g_runG (mc := 0) (ms := 0) (va_runU (x := ⟨"ShieldLine$Shield", "bears", "(I)I"⟩) (owner := "ShieldLine$Shield") (C := "ShieldLine$Roof") (As := [.int x]) (rest := []) hf (metX15_bears_1 l D aC A o la b j him (x) z1 _ _ e5) (va_cwO 1 hf.2.2.2.2 (lw_app (absO q1242 q2008 q1174 q2015 q1184 q120) (lw_meth q1186)) rfl rfl rfl q1176 (by decide +kernel) ⟨Nat.le_of_ble_eq_true rfl, Nat.le_of_ble_eq_true rfl⟩) ⟨PC.blind, nd_recv hK hO (ci := 13) rfl him, fun U hU hW => ⟨rfl, PC.at hO hK hA hZ hS hU hW⟩⟩ rfl rfl hl.1 rfl (lv_room (Nat.le_of_ble_eq_true rfl)) dX14_caresFor_11 ⟨Nat.le_of_ble_eq_true rfl, Nat.le_of_ble_eq_true rfl⟩) hS (fun H locs hO hS _ _ => ?_)
  refine W.eq (g2 := F0 m 14 ls (.int a3 :: [])) rfl ?_
  refine lv_iconst (v := 2) hx hb dX14_caresFor_14 (by decide) ?_
  refine lv_imul hx hb dX14_caresFor_15 ?_
  obtain ⟨e9, rfl⟩ := Prod.mk.inj (Option.some.inj h)
  exact g_retG hx hb hr hlocks e9 hO hS dX14_caresFor_16
theorem metX14_caresFor_2 (l : Launch) (D : va_G) (aC : Nat → ClassId) (A : Nat → Prop) (o : Nat) (la : LC) (b j : Nat) (him : lIm la b = some (14, bodF o j)) (x : Int32) (z : GS) (r : Int32) (zq : GS) (h : FB14_caresFor_2 (nI j) x z = some (r, zq)) : Met l yX14_caresFor (ws_ yX14_caresFor cX14_caresFor 2 (some .int)) ({ frames := 2, cells := 0, slots := 0, locals := 42 }) (va_Pc [.ref b, .int x] (PC D aC A o la z)) (QG (some (.int r)) (OC D aC A o la zq) A) 0 0 A := by
  refine g_ofW (cc := cX14_caresFor) (maxL := 2) (ret := (some .int)) (own := RX14) (by decide) rfl rfl [.ref b, .int x] (PC D aC A o la z) (Nat.le_of_ble_eq_true rfl) ?_
  intro p e s m below meth c ls hx hb hr hml hts hown hlocks hnm hPre hl
  obtain ⟨hO, hK, hA, hZ⟩ := hPre
  have hf : CallFix p m c cX14_caresFor 2 s _ lw_all RX14 := ⟨hx, hb, hml, hown, hts⟩
  have hl : lv_has ls 2 [(0, .ref b), (1, .int x)] := hl
  refine g_open (A := A) (OC D aC A o la z) hO (fun H locs hO hS => ?_)
  unfold FB14_caresFor_2 at h
  refine lv_aload_n hx hb dX14_caresFor_0 rfl (lv_at hl 0 rfl) ?_
  refine nd_getS hx hb hts in_X16 hown hK hO (ci := 14) rfl him (v := .ref o) 1 (by decide) rfl (hts _ q1068) dX14_caresFor_1 ?_
  refine lv_bipush (v := 10) hx hb dX14_caresFor_4 (by decide) ?_
  obtain ⟨z1, e2, h⟩ := bn1_e h
  refine g_runG (mc := 0) (ms := 0) (va_runVN (As := [.int 10]) (rest := []) hf (metX0_ran l D aC A o la 10 z _ e2) ⟨va_cnB 1 hf.2.2.2.2 (lw_meth q1180) rfl rfl rfl (hK.2.1 _ q1177 rfl) (hts _ q90) (by decide +kernel) ⟨Nat.le_of_ble_eq_true rfl, Nat.le_of_ble_eq_true rfl⟩, hts _ q1179, hts _ qs48⟩ ⟨PC.blind, OC.recv hK hO, fun U hU hW => ⟨rfl, PC.at hO hK hA hZ hS hU hW⟩⟩ rfl rfl hl.1 rfl (lv_room (Nat.le_of_ble_eq_true rfl)) dX14_caresFor_6 ⟨Nat.le_of_ble_eq_true rfl, Nat.le_of_ble_eq_true rfl⟩) hS (fun H locs hO hS _ _ => ?_)
  refine W.eq (g2 := F0 m 9 ls []) rfl ?_
  refine lv_aload_n hx hb dX14_caresFor_9 rfl (lv_at hl 0 rfl) ?_
  refine lv_iload_n hx hb dX14_caresFor_10 rfl (lv_at hl 1 rfl) ?_
  obtain ⟨a3, z4, e5, h⟩ := bnd_e h
  refine g_runG (mc := 0) (ms := 0) (va_runU (x := ⟨"ShieldLine$Shield", "bears", "(I)I"⟩) (owner := "ShieldLine$Shield") (C := "ShieldLine$Lamp") (As := [.int x]) (rest := []) hf (metX14_bears_2 l D aC A o la b j him (x) z1 _ _ e5) (va_cwU 1 hf.2.2.2.2 (lw_app (absW q1242 q2008 q2013 q1174 q119) (lw_meth q1176)) rfl rfl rfl rfl (by decide +kernel) ⟨Nat.le_of_ble_eq_true rfl, Nat.le_of_ble_eq_true rfl⟩) ⟨PC.blind, nd_recv hK hO (ci := 14) rfl him, fun U hU hW => ⟨rfl, PC.at hO hK hA hZ hS hU hW⟩⟩ rfl rfl hl.1 rfl (lv_room (Nat.le_of_ble_eq_true rfl)) dX14_caresFor_11 ⟨Nat.le_of_ble_eq_true rfl, Nat.le_of_ble_eq_true rfl⟩) hS (fun H locs hO hS _ _ => ?_)
  refine W.eq (g2 := F0 m 14 ls (.int a3 :: [])) rfl ?_
  refine lv_iconst (v := 2) hx hb dX14_caresFor_14 (by decide) ?_
  refine lv_imul hx hb dX14_caresFor_15 ?_
  obtain ⟨e9, rfl⟩ := Prod.mk.inj (Option.some.inj h)
  exact g_retG hx hb hr hlocks e9 hO hS dX14_caresFor_16
theorem metX16_caresFor_2 (l : Launch) (D : va_G) (aC : Nat → ClassId) (A : Nat → Prop) (o : Nat) (la : LC) (b j : Nat) (him : lIm la b = some (14, bodF o j)) (x : Int32) (z : GS) (r : Int32) (zq : GS) (h : FB16_caresFor_2 (nI j) x z = some (r, zq)) : Met l yX16_caresFor (ws_ yX16_caresFor cX16_caresFor 2 (some .int)) ({ frames := 3, cells := 0, slots := 0, locals := 63 }) (va_Pc [.ref b, .int x] (PC D aC A o la z)) (QG (some (.int r)) (OC D aC A o la zq) A) 0 0 A := by
  refine g_ofW (cc := cX16_caresFor) (maxL := 2) (ret := (some .int)) (own := RX16) (by decide) rfl rfl [.ref b, .int x] (PC D aC A o la z) (Nat.le_of_ble_eq_true rfl) ?_
  intro p e s m below meth c ls hx hb hr hml hts hown hlocks hnm hPre hl
  obtain ⟨hO, hK, hA, hZ⟩ := hPre
  have hf : CallFix p m c cX16_caresFor 2 s _ lw_all RX16 := ⟨hx, hb, hml, hown, hts⟩
  have hl : lv_has ls 2 [(0, .ref b), (1, .int x)] := hl
  refine g_open (A := A) (OC D aC A o la z) hO (fun H locs hO hS => ?_)
  unfold FB16_caresFor_2 at h
  refine lv_aload_n hx hb dX16_caresFor_0 rfl (lv_at hl 0 rfl) ?_
  refine nd_getS hx hb hts in_X16 hown hK hO (ci := 14) rfl him (v := .ref o) 2 (by decide) rfl (hts _ q1082) dX16_caresFor_1 ?_
  refine lv_bipush (v := 30) hx hb dX16_caresFor_4 (by decide) ?_
  obtain ⟨z1, e2, h⟩ := bn1_e h
  refine g_runG (mc := 0) (ms := 0) (va_runVN (As := [.int 30]) (rest := []) hf (metX0_ran l D aC A o la 30 z _ e2) ⟨va_cnB 1 hf.2.2.2.2 (lw_meth q1180) rfl rfl rfl (hK.2.1 _ q1239 rfl) (hts _ q90) (by decide +kernel) ⟨Nat.le_of_ble_eq_true rfl, Nat.le_of_ble_eq_true rfl⟩, hts _ q1179, hts _ qs48⟩ ⟨PC.blind, OC.recv hK hO, fun U hU hW => ⟨rfl, PC.at hO hK hA hZ hS hU hW⟩⟩ rfl rfl hl.1 rfl (lv_room (Nat.le_of_ble_eq_true rfl)) dX16_caresFor_6 ⟨Nat.le_of_ble_eq_true rfl, Nat.le_of_ble_eq_true rfl⟩) hS (fun H locs hO hS _ _ => ?_)
  refine W.eq (g2 := F0 m 9 ls []) rfl ?_
  refine lv_aload_n hx hb dX16_caresFor_9 rfl (lv_at hl 0 rfl) ?_
  refine lv_iload_n hx hb dX16_caresFor_10 rfl (lv_at hl 1 rfl) ?_
  obtain ⟨a3, z4, e5, h⟩ := bnd_e h
  refine g_runG (mc := 0) (ms := 0) (va_runUp (x := ⟨"ShieldLine$Shield", "caresFor", "(I)I"⟩) (n := 1) (As := [.int x]) (rest := []) hf (metX14_caresFor_2 l D aC A o la b j him (x) z1 _ _ e5) (hts _ q1240) (hts _ q1231) (hts _ q1087) rfl (hts _ q1229) (subUp0 hts) rfl (lw_meth q1241) (hts _ q119) (by decide) (by decide +kernel) ⟨Nat.le_of_ble_eq_true rfl, Nat.le_of_ble_eq_true rfl⟩ ⟨PC.blind, nd_recv hK hO (ci := 14) rfl him, fun U hU hW => ⟨rfl, PC.at hO hK hA hZ hS hU hW⟩⟩ rfl rfl hl.1 rfl (lv_room (Nat.le_of_ble_eq_true rfl)) dX16_caresFor_11 ⟨Nat.le_of_ble_eq_true rfl, Nat.le_of_ble_eq_true rfl⟩ rfl rfl ⟨_, (hK.1.1 14 _ rfl).2⟩) hS (fun H locs hO hS _ _ => ?_)
  refine W.eq (g2 := F0 m 14 ls (.int a3 :: [])) rfl ?_
  refine lv_ineg hx hb dX16_caresFor_14 ?_
  obtain ⟨e9, rfl⟩ := Prod.mk.inj (Option.some.inj h)
  exact g_retG hx hb hr hlocks e9 hO hS dX16_caresFor_15
theorem metX14_caresFor_3 (l : Launch) (D : va_G) (aC : Nat → ClassId) (A : Nat → Prop) (o : Nat) (la : LC) (b j : Nat) (him : lIm la b = some (15, bodF o j)) (x : Int32) (z : GS) (r : Int32) (zq : GS) (h : FB14_caresFor_3 (nI j) x z = some (r, zq)) : Met l yX14_caresFor (ws_ yX14_caresFor cX14_caresFor 2 (some .int)) ({ frames := 2, cells := 0, slots := 0, locals := 42 }) (va_Pc [.ref b, .int x] (PC D aC A o la z)) (QG (some (.int r)) (OC D aC A o la zq) A) 0 0 A := by
  refine g_ofW (cc := cX14_caresFor) (maxL := 2) (ret := (some .int)) (own := RX14) (by decide) rfl rfl [.ref b, .int x] (PC D aC A o la z) (Nat.le_of_ble_eq_true rfl) ?_
  intro p e s m below meth c ls hx hb hr hml hts hown hlocks hnm hPre hl
  obtain ⟨hO, hK, hA, hZ⟩ := hPre
  have hf : CallFix p m c cX14_caresFor 2 s _ lw_all RX14 := ⟨hx, hb, hml, hown, hts⟩
  have hl : lv_has ls 2 [(0, .ref b), (1, .int x)] := hl
  refine g_open (A := A) (OC D aC A o la z) hO (fun H locs hO hS => ?_)
  unfold FB14_caresFor_3 at h
  refine lv_aload_n hx hb dX14_caresFor_0 rfl (lv_at hl 0 rfl) ?_
  refine nd_getS hx hb hts in_X17 hown hK hO (ci := 15) rfl him (v := .ref o) 1 (by decide) rfl (hts _ q1068) dX14_caresFor_1 ?_
  refine lv_bipush (v := 10) hx hb dX14_caresFor_4 (by decide) ?_
  obtain ⟨z1, e2, h⟩ := bn1_e h
  refine g_runG (mc := 0) (ms := 0) (va_runVN (As := [.int 10]) (rest := []) hf (metX0_ran l D aC A o la 10 z _ e2) ⟨va_cnB 1 hf.2.2.2.2 (lw_meth q1180) rfl rfl rfl (hK.2.1 _ q1177 rfl) (hts _ q90) (by decide +kernel) ⟨Nat.le_of_ble_eq_true rfl, Nat.le_of_ble_eq_true rfl⟩, hts _ q1179, hts _ qs48⟩ ⟨PC.blind, OC.recv hK hO, fun U hU hW => ⟨rfl, PC.at hO hK hA hZ hS hU hW⟩⟩ rfl rfl hl.1 rfl (lv_room (Nat.le_of_ble_eq_true rfl)) dX14_caresFor_6 ⟨Nat.le_of_ble_eq_true rfl, Nat.le_of_ble_eq_true rfl⟩) hS (fun H locs hO hS _ _ => ?_)
  refine W.eq (g2 := F0 m 9 ls []) rfl ?_
  refine lv_aload_n hx hb dX14_caresFor_9 rfl (lv_at hl 0 rfl) ?_
  refine lv_iload_n hx hb dX14_caresFor_10 rfl (lv_at hl 1 rfl) ?_
  obtain ⟨a3, z4, e5, h⟩ := bnd_e h
  refine g_runG (mc := 0) (ms := 0) (va_runU (x := ⟨"ShieldLine$Shield", "bears", "(I)I"⟩) (owner := "ShieldLine$Shield") (C := "ShieldLine$Post") (As := [.int x]) (rest := []) hf (metX14_bears_3 l D aC A o la b j him (x) z1 _ _ e5) (va_cwU 1 hf.2.2.2.2 (lw_app (absW q1242 q2008 q2014 q1174 q119) (lw_meth q1176)) rfl rfl rfl rfl (by decide +kernel) ⟨Nat.le_of_ble_eq_true rfl, Nat.le_of_ble_eq_true rfl⟩) ⟨PC.blind, nd_recv hK hO (ci := 15) rfl him, fun U hU hW => ⟨rfl, PC.at hO hK hA hZ hS hU hW⟩⟩ rfl rfl hl.1 rfl (lv_room (Nat.le_of_ble_eq_true rfl)) dX14_caresFor_11 ⟨Nat.le_of_ble_eq_true rfl, Nat.le_of_ble_eq_true rfl⟩) hS (fun H locs hO hS _ _ => ?_)
  refine W.eq (g2 := F0 m 14 ls (.int a3 :: [])) rfl ?_
  refine lv_iconst (v := 2) hx hb dX14_caresFor_14 (by decide) ?_
  refine lv_imul hx hb dX14_caresFor_15 ?_
  obtain ⟨e9, rfl⟩ := Prod.mk.inj (Option.some.inj h)
  exact g_retG hx hb hr hlocks e9 hO hS dX14_caresFor_16
theorem metX16_caresFor_3 (l : Launch) (D : va_G) (aC : Nat → ClassId) (A : Nat → Prop) (o : Nat) (la : LC) (b j : Nat) (him : lIm la b = some (15, bodF o j)) (x : Int32) (z : GS) (r : Int32) (zq : GS) (h : FB16_caresFor_3 (nI j) x z = some (r, zq)) : Met l yX16_caresFor (ws_ yX16_caresFor cX16_caresFor 2 (some .int)) ({ frames := 3, cells := 0, slots := 0, locals := 63 }) (va_Pc [.ref b, .int x] (PC D aC A o la z)) (QG (some (.int r)) (OC D aC A o la zq) A) 0 0 A := by
  refine g_ofW (cc := cX16_caresFor) (maxL := 2) (ret := (some .int)) (own := RX16) (by decide) rfl rfl [.ref b, .int x] (PC D aC A o la z) (Nat.le_of_ble_eq_true rfl) ?_
  intro p e s m below meth c ls hx hb hr hml hts hown hlocks hnm hPre hl
  obtain ⟨hO, hK, hA, hZ⟩ := hPre
  have hf : CallFix p m c cX16_caresFor 2 s _ lw_all RX16 := ⟨hx, hb, hml, hown, hts⟩
  have hl : lv_has ls 2 [(0, .ref b), (1, .int x)] := hl
  refine g_open (A := A) (OC D aC A o la z) hO (fun H locs hO hS => ?_)
  unfold FB16_caresFor_3 at h
  refine lv_aload_n hx hb dX16_caresFor_0 rfl (lv_at hl 0 rfl) ?_
  refine nd_getS hx hb hts in_X17 hown hK hO (ci := 15) rfl him (v := .ref o) 2 (by decide) rfl (hts _ q1082) dX16_caresFor_1 ?_
  refine lv_bipush (v := 30) hx hb dX16_caresFor_4 (by decide) ?_
  obtain ⟨z1, e2, h⟩ := bn1_e h
  refine g_runG (mc := 0) (ms := 0) (va_runVN (As := [.int 30]) (rest := []) hf (metX0_ran l D aC A o la 30 z _ e2) ⟨va_cnB 1 hf.2.2.2.2 (lw_meth q1180) rfl rfl rfl (hK.2.1 _ q1239 rfl) (hts _ q90) (by decide +kernel) ⟨Nat.le_of_ble_eq_true rfl, Nat.le_of_ble_eq_true rfl⟩, hts _ q1179, hts _ qs48⟩ ⟨PC.blind, OC.recv hK hO, fun U hU hW => ⟨rfl, PC.at hO hK hA hZ hS hU hW⟩⟩ rfl rfl hl.1 rfl (lv_room (Nat.le_of_ble_eq_true rfl)) dX16_caresFor_6 ⟨Nat.le_of_ble_eq_true rfl, Nat.le_of_ble_eq_true rfl⟩) hS (fun H locs hO hS _ _ => ?_)
  refine W.eq (g2 := F0 m 9 ls []) rfl ?_
  refine lv_aload_n hx hb dX16_caresFor_9 rfl (lv_at hl 0 rfl) ?_
  refine lv_iload_n hx hb dX16_caresFor_10 rfl (lv_at hl 1 rfl) ?_
  obtain ⟨a3, z4, e5, h⟩ := bnd_e h
  refine g_runG (mc := 0) (ms := 0) (va_runUp (x := ⟨"ShieldLine$Shield", "caresFor", "(I)I"⟩) (n := 1) (As := [.int x]) (rest := []) hf (metX14_caresFor_3 l D aC A o la b j him (x) z1 _ _ e5) (hts _ q1240) (hts _ q1231) (hts _ q1087) rfl (hts _ q1229) (subUp0 hts) rfl (lw_meth q1241) (hts _ q119) (by decide) (by decide +kernel) ⟨Nat.le_of_ble_eq_true rfl, Nat.le_of_ble_eq_true rfl⟩ ⟨PC.blind, nd_recv hK hO (ci := 15) rfl him, fun U hU hW => ⟨rfl, PC.at hO hK hA hZ hS hU hW⟩⟩ rfl rfl hl.1 rfl (lv_room (Nat.le_of_ble_eq_true rfl)) dX16_caresFor_11 ⟨Nat.le_of_ble_eq_true rfl, Nat.le_of_ble_eq_true rfl⟩ rfl rfl ⟨_, (hK.1.1 15 _ rfl).2⟩) hS (fun H locs hO hS _ _ => ?_)
  refine W.eq (g2 := F0 m 14 ls (.int a3 :: [])) rfl ?_
  refine lv_ineg hx hb dX16_caresFor_14 ?_
  obtain ⟨e9, rfl⟩ := Prod.mk.inj (Option.some.inj h)
  exact g_retG hx hb hr hlocks e9 hO hS dX16_caresFor_15
theorem metX17_caresFor_3 (l : Launch) (D : va_G) (aC : Nat → ClassId) (A : Nat → Prop) (o : Nat) (la : LC) (b j : Nat) (him : lIm la b = some (15, bodF o j)) (x : Int32) (z : GS) (r : Int32) (zq : GS) (h : FB17_caresFor_3 (nI j) x z = some (r, zq)) : Met l yX17_caresFor (ws_ yX17_caresFor cX17_caresFor 2 (some .int)) ({ frames := 4, cells := 0, slots := 0, locals := 84 }) (va_Pc [.ref b, .int x] (PC D aC A o la z)) (QG (some (.int r)) (OC D aC A o la zq) A) 0 0 A := by
  refine g_ofW (cc := cX17_caresFor) (maxL := 2) (ret := (some .int)) (own := RX17) (by decide) rfl rfl [.ref b, .int x] (PC D aC A o la z) (Nat.le_of_ble_eq_true rfl) ?_
  intro p e s m below meth c ls hx hb hr hml hts hown hlocks hnm hPre hl
  obtain ⟨hO, hK, hA, hZ⟩ := hPre
  have hf : CallFix p m c cX17_caresFor 2 s _ lw_all RX17 := ⟨hx, hb, hml, hown, hts⟩
  have hl : lv_has ls 2 [(0, .ref b), (1, .int x)] := hl
  refine g_open (A := A) (OC D aC A o la z) hO (fun H locs hO hS => ?_)
  unfold FB17_caresFor_3 at h
  refine lv_aload_n hx hb dX17_caresFor_0 rfl (lv_at hl 0 rfl) ?_
  refine nd_getS hx hb hts in_X17 hown hK hO (ci := 15) rfl him (v := .ref o) 3 (by decide) rfl (hts _ q1094) dX17_caresFor_1 ?_
  refine lv_bipush (v := 41) hx hb dX17_caresFor_4 (by decide) ?_
  obtain ⟨z1, e2, h⟩ := bn1_e h
  refine g_runG (mc := 0) (ms := 0) (va_runVN (As := [.int 41]) (rest := []) hf (metX0_ran l D aC A o la 41 z _ e2) ⟨va_cnB 1 hf.2.2.2.2 (lw_meth q1180) rfl rfl rfl (hK.2.1 _ q1235 rfl) (hts _ q90) (by decide +kernel) ⟨Nat.le_of_ble_eq_true rfl, Nat.le_of_ble_eq_true rfl⟩, hts _ q1179, hts _ qs48⟩ ⟨PC.blind, OC.recv hK hO, fun U hU hW => ⟨rfl, PC.at hO hK hA hZ hS hU hW⟩⟩ rfl rfl hl.1 rfl (lv_room (Nat.le_of_ble_eq_true rfl)) dX17_caresFor_6 ⟨Nat.le_of_ble_eq_true rfl, Nat.le_of_ble_eq_true rfl⟩) hS (fun H locs hO hS _ _ => ?_)
  refine W.eq (g2 := F0 m 9 ls []) rfl ?_
  refine lv_aload_n hx hb dX17_caresFor_9 rfl (lv_at hl 0 rfl) ?_
  refine lv_iload_n hx hb dX17_caresFor_10 rfl (lv_at hl 1 rfl) ?_
  refine lv_iconst (v := 1) hx hb dX17_caresFor_11 (by decide) ?_
  refine lv_iadd hx hb dX17_caresFor_12 ?_
  obtain ⟨a3, z4, e5, h⟩ := bnd_e h
  refine g_runG (mc := 0) (ms := 0) (va_runUp (x := ⟨"ShieldLine$Lamp", "caresFor", "(I)I"⟩) (n := 1) (As := [.int (x + 1)]) (rest := []) hf (metX16_caresFor_3 l D aC A o la b j him ((x + 1)) z1 _ _ e5) (hts _ q1236) (hts _ q2009) (hts _ q1100) rfl (hts _ q1237) (subUp0 hts) rfl (lw_meth q1238) (hts _ q121) (by decide) (by decide +kernel) ⟨Nat.le_of_ble_eq_true rfl, Nat.le_of_ble_eq_true rfl⟩ ⟨PC.blind, nd_recv hK hO (ci := 15) rfl him, fun U hU hW => ⟨rfl, PC.at hO hK hA hZ hS hU hW⟩⟩ rfl rfl hl.1 rfl (lv_room (Nat.le_of_ble_eq_true rfl)) dX17_caresFor_13 ⟨Nat.le_of_ble_eq_true rfl, Nat.le_of_ble_eq_true rfl⟩ rfl rfl ⟨_, (hK.1.1 15 _ rfl).2⟩) hS (fun H locs hO hS _ _ => ?_)
  refine W.eq (g2 := F0 m 16 ls (.int a3 :: [])) rfl ?_
  obtain ⟨e9, rfl⟩ := Prod.mk.inj (Option.some.inj h)
  exact g_retG hx hb hr hlocks e9 hO hS dX17_caresFor_16
theorem metX14_caresFor_4 (l : Launch) (D : va_G) (aC : Nat → ClassId) (A : Nat → Prop) (o : Nat) (la : LC) (b j : Nat) (him : lIm la b = some (16, bodF o j)) (x : Int32) (z : GS) (r : Int32) (zq : GS) (h : FB14_caresFor_4 (nI j) x z = some (r, zq)) : Met l yX14_caresFor (ws_ yX14_caresFor cX14_caresFor 2 (some .int)) ({ frames := 3, cells := 0, slots := 0, locals := 63 }) (va_Pc [.ref b, .int x] (PC D aC A o la z)) (QG (some (.int r)) (OC D aC A o la zq) A) 0 0 A := by
  refine g_ofW (cc := cX14_caresFor) (maxL := 2) (ret := (some .int)) (own := RX14) (by decide) rfl rfl [.ref b, .int x] (PC D aC A o la z) (Nat.le_of_ble_eq_true rfl) ?_
  intro p e s m below meth c ls hx hb hr hml hts hown hlocks hnm hPre hl
  obtain ⟨hO, hK, hA, hZ⟩ := hPre
  have hf : CallFix p m c cX14_caresFor 2 s _ lw_all RX14 := ⟨hx, hb, hml, hown, hts⟩
  have hl : lv_has ls 2 [(0, .ref b), (1, .int x)] := hl
  refine g_open (A := A) (OC D aC A o la z) hO (fun H locs hO hS => ?_)
  unfold FB14_caresFor_4 at h
  refine lv_aload_n hx hb dX14_caresFor_0 rfl (lv_at hl 0 rfl) ?_
  refine nd_getS hx hb hts in_X18 hown hK hO (ci := 16) rfl him (v := .ref o) 1 (by decide) rfl (hts _ q1068) dX14_caresFor_1 ?_
  refine lv_bipush (v := 10) hx hb dX14_caresFor_4 (by decide) ?_
  obtain ⟨z1, e2, h⟩ := bn1_e h
  refine g_runG (mc := 0) (ms := 0) (va_runVN (As := [.int 10]) (rest := []) hf (metX0_ran l D aC A o la 10 z _ e2) ⟨va_cnB 1 hf.2.2.2.2 (lw_meth q1180) rfl rfl rfl (hK.2.1 _ q1177 rfl) (hts _ q90) (by decide +kernel) ⟨Nat.le_of_ble_eq_true rfl, Nat.le_of_ble_eq_true rfl⟩, hts _ q1179, hts _ qs48⟩ ⟨PC.blind, OC.recv hK hO, fun U hU hW => ⟨rfl, PC.at hO hK hA hZ hS hU hW⟩⟩ rfl rfl hl.1 rfl (lv_room (Nat.le_of_ble_eq_true rfl)) dX14_caresFor_6 ⟨Nat.le_of_ble_eq_true rfl, Nat.le_of_ble_eq_true rfl⟩) hS (fun H locs hO hS _ _ => ?_)
  refine W.eq (g2 := F0 m 9 ls []) rfl ?_
  refine lv_aload_n hx hb dX14_caresFor_9 rfl (lv_at hl 0 rfl) ?_
  refine lv_iload_n hx hb dX14_caresFor_10 rfl (lv_at hl 1 rfl) ?_
  obtain ⟨a3, z4, e5, h⟩ := bnd_e h
  refine g_runG (mc := 0) (ms := 0) (va_runU (x := ⟨"ShieldLine$Shield", "bears", "(I)I"⟩) (owner := "ShieldLine$Shield") (C := "ShieldLine$Widow") (As := [.int x]) (rest := []) hf (metX15_bears_4 l D aC A o la b j him (x) z1 _ _ e5) (va_cwO 1 hf.2.2.2.2 (lw_app (absO q1242 q2008 q1174 q2017 q1184 q120) (lw_meth q1186)) rfl rfl rfl q1176 (by decide +kernel) ⟨Nat.le_of_ble_eq_true rfl, Nat.le_of_ble_eq_true rfl⟩) ⟨PC.blind, nd_recv hK hO (ci := 16) rfl him, fun U hU hW => ⟨rfl, PC.at hO hK hA hZ hS hU hW⟩⟩ rfl rfl hl.1 rfl (lv_room (Nat.le_of_ble_eq_true rfl)) dX14_caresFor_11 ⟨Nat.le_of_ble_eq_true rfl, Nat.le_of_ble_eq_true rfl⟩) hS (fun H locs hO hS _ _ => ?_)
  refine W.eq (g2 := F0 m 14 ls (.int a3 :: [])) rfl ?_
  refine lv_iconst (v := 2) hx hb dX14_caresFor_14 (by decide) ?_
  refine lv_imul hx hb dX14_caresFor_15 ?_
  obtain ⟨e9, rfl⟩ := Prod.mk.inj (Option.some.inj h)
  exact g_retG hx hb hr hlocks e9 hO hS dX14_caresFor_16
theorem metX14_caresFor_5 (l : Launch) (D : va_G) (aC : Nat → ClassId) (A : Nat → Prop) (o : Nat) (la : LC) (b j : Nat) (him : lIm la b = some (17, bodF o j)) (x : Int32) (z : GS) (r : Int32) (zq : GS) (h : FB14_caresFor_5 (nI j) x z = some (r, zq)) : Met l yX14_caresFor (ws_ yX14_caresFor cX14_caresFor 2 (some .int)) ({ frames := 2, cells := 0, slots := 0, locals := 42 }) (va_Pc [.ref b, .int x] (PC D aC A o la z)) (QG (some (.int r)) (OC D aC A o la zq) A) 0 0 A := by
  refine g_ofW (cc := cX14_caresFor) (maxL := 2) (ret := (some .int)) (own := RX14) (by decide) rfl rfl [.ref b, .int x] (PC D aC A o la z) (Nat.le_of_ble_eq_true rfl) ?_
  intro p e s m below meth c ls hx hb hr hml hts hown hlocks hnm hPre hl
  obtain ⟨hO, hK, hA, hZ⟩ := hPre
  have hf : CallFix p m c cX14_caresFor 2 s _ lw_all RX14 := ⟨hx, hb, hml, hown, hts⟩
  have hl : lv_has ls 2 [(0, .ref b), (1, .int x)] := hl
  refine g_open (A := A) (OC D aC A o la z) hO (fun H locs hO hS => ?_)
  unfold FB14_caresFor_5 at h
  refine lv_aload_n hx hb dX14_caresFor_0 rfl (lv_at hl 0 rfl) ?_
  refine nd_getS hx hb hts in_X19 hown hK hO (ci := 17) rfl him (v := .ref o) 1 (by decide) rfl (hts _ q1068) dX14_caresFor_1 ?_
  refine lv_bipush (v := 10) hx hb dX14_caresFor_4 (by decide) ?_
  obtain ⟨z1, e2, h⟩ := bn1_e h
  refine g_runG (mc := 0) (ms := 0) (va_runVN (As := [.int 10]) (rest := []) hf (metX0_ran l D aC A o la 10 z _ e2) ⟨va_cnB 1 hf.2.2.2.2 (lw_meth q1180) rfl rfl rfl (hK.2.1 _ q1177 rfl) (hts _ q90) (by decide +kernel) ⟨Nat.le_of_ble_eq_true rfl, Nat.le_of_ble_eq_true rfl⟩, hts _ q1179, hts _ qs48⟩ ⟨PC.blind, OC.recv hK hO, fun U hU hW => ⟨rfl, PC.at hO hK hA hZ hS hU hW⟩⟩ rfl rfl hl.1 rfl (lv_room (Nat.le_of_ble_eq_true rfl)) dX14_caresFor_6 ⟨Nat.le_of_ble_eq_true rfl, Nat.le_of_ble_eq_true rfl⟩) hS (fun H locs hO hS _ _ => ?_)
  refine W.eq (g2 := F0 m 9 ls []) rfl ?_
  refine lv_aload_n hx hb dX14_caresFor_9 rfl (lv_at hl 0 rfl) ?_
  refine lv_iload_n hx hb dX14_caresFor_10 rfl (lv_at hl 1 rfl) ?_
  obtain ⟨a3, z4, e5, h⟩ := bnd_e h
  refine g_runG (mc := 0) (ms := 0) (va_runU (x := ⟨"ShieldLine$Shield", "bears", "(I)I"⟩) (owner := "ShieldLine$Shield") (C := "ShieldLine$Can") (As := [.int x]) (rest := []) hf (metX14_bears_5 l D aC A o la b j him (x) z1 _ _ e5) (va_cwU 1 hf.2.2.2.2 (lw_app (absW q1242 q2008 q2010 q1174 q119) (lw_meth q1176)) rfl rfl rfl rfl (by decide +kernel) ⟨Nat.le_of_ble_eq_true rfl, Nat.le_of_ble_eq_true rfl⟩) ⟨PC.blind, nd_recv hK hO (ci := 17) rfl him, fun U hU hW => ⟨rfl, PC.at hO hK hA hZ hS hU hW⟩⟩ rfl rfl hl.1 rfl (lv_room (Nat.le_of_ble_eq_true rfl)) dX14_caresFor_11 ⟨Nat.le_of_ble_eq_true rfl, Nat.le_of_ble_eq_true rfl⟩) hS (fun H locs hO hS _ _ => ?_)
  refine W.eq (g2 := F0 m 14 ls (.int a3 :: [])) rfl ?_
  refine lv_iconst (v := 2) hx hb dX14_caresFor_14 (by decide) ?_
  refine lv_imul hx hb dX14_caresFor_15 ?_
  obtain ⟨e9, rfl⟩ := Prod.mk.inj (Option.some.inj h)
  exact g_retG hx hb hr hlocks e9 hO hS dX14_caresFor_16
theorem metX16_caresFor_5 (l : Launch) (D : va_G) (aC : Nat → ClassId) (A : Nat → Prop) (o : Nat) (la : LC) (b j : Nat) (him : lIm la b = some (17, bodF o j)) (x : Int32) (z : GS) (r : Int32) (zq : GS) (h : FB16_caresFor_5 (nI j) x z = some (r, zq)) : Met l yX16_caresFor (ws_ yX16_caresFor cX16_caresFor 2 (some .int)) ({ frames := 3, cells := 0, slots := 0, locals := 63 }) (va_Pc [.ref b, .int x] (PC D aC A o la z)) (QG (some (.int r)) (OC D aC A o la zq) A) 0 0 A := by
  refine g_ofW (cc := cX16_caresFor) (maxL := 2) (ret := (some .int)) (own := RX16) (by decide) rfl rfl [.ref b, .int x] (PC D aC A o la z) (Nat.le_of_ble_eq_true rfl) ?_
  intro p e s m below meth c ls hx hb hr hml hts hown hlocks hnm hPre hl
  obtain ⟨hO, hK, hA, hZ⟩ := hPre
  have hf : CallFix p m c cX16_caresFor 2 s _ lw_all RX16 := ⟨hx, hb, hml, hown, hts⟩
  have hl : lv_has ls 2 [(0, .ref b), (1, .int x)] := hl
  refine g_open (A := A) (OC D aC A o la z) hO (fun H locs hO hS => ?_)
  unfold FB16_caresFor_5 at h
  refine lv_aload_n hx hb dX16_caresFor_0 rfl (lv_at hl 0 rfl) ?_
  refine nd_getS hx hb hts in_X19 hown hK hO (ci := 17) rfl him (v := .ref o) 2 (by decide) rfl (hts _ q1082) dX16_caresFor_1 ?_
  refine lv_bipush (v := 30) hx hb dX16_caresFor_4 (by decide) ?_
  obtain ⟨z1, e2, h⟩ := bn1_e h
  refine g_runG (mc := 0) (ms := 0) (va_runVN (As := [.int 30]) (rest := []) hf (metX0_ran l D aC A o la 30 z _ e2) ⟨va_cnB 1 hf.2.2.2.2 (lw_meth q1180) rfl rfl rfl (hK.2.1 _ q1239 rfl) (hts _ q90) (by decide +kernel) ⟨Nat.le_of_ble_eq_true rfl, Nat.le_of_ble_eq_true rfl⟩, hts _ q1179, hts _ qs48⟩ ⟨PC.blind, OC.recv hK hO, fun U hU hW => ⟨rfl, PC.at hO hK hA hZ hS hU hW⟩⟩ rfl rfl hl.1 rfl (lv_room (Nat.le_of_ble_eq_true rfl)) dX16_caresFor_6 ⟨Nat.le_of_ble_eq_true rfl, Nat.le_of_ble_eq_true rfl⟩) hS (fun H locs hO hS _ _ => ?_)
  refine W.eq (g2 := F0 m 9 ls []) rfl ?_
  refine lv_aload_n hx hb dX16_caresFor_9 rfl (lv_at hl 0 rfl) ?_
  refine lv_iload_n hx hb dX16_caresFor_10 rfl (lv_at hl 1 rfl) ?_
  obtain ⟨a3, z4, e5, h⟩ := bnd_e h
  refine g_runG (mc := 0) (ms := 0) (va_runUp (x := ⟨"ShieldLine$Shield", "caresFor", "(I)I"⟩) (n := 1) (As := [.int x]) (rest := []) hf (metX14_caresFor_5 l D aC A o la b j him (x) z1 _ _ e5) (hts _ q1240) (hts _ q1231) (hts _ q1087) rfl (hts _ q1229) (subUp0 hts) rfl (lw_meth q1241) (hts _ q119) (by decide) (by decide +kernel) ⟨Nat.le_of_ble_eq_true rfl, Nat.le_of_ble_eq_true rfl⟩ ⟨PC.blind, nd_recv hK hO (ci := 17) rfl him, fun U hU hW => ⟨rfl, PC.at hO hK hA hZ hS hU hW⟩⟩ rfl rfl hl.1 rfl (lv_room (Nat.le_of_ble_eq_true rfl)) dX16_caresFor_11 ⟨Nat.le_of_ble_eq_true rfl, Nat.le_of_ble_eq_true rfl⟩ rfl rfl ⟨_, (hK.1.1 17 _ rfl).2⟩) hS (fun H locs hO hS _ _ => ?_)
  refine W.eq (g2 := F0 m 14 ls (.int a3 :: [])) rfl ?_
  refine lv_ineg hx hb dX16_caresFor_14 ?_
  obtain ⟨e9, rfl⟩ := Prod.mk.inj (Option.some.inj h)
  exact g_retG hx hb hr hlocks e9 hO hS dX16_caresFor_15
theorem metX17_caresFor_5 (l : Launch) (D : va_G) (aC : Nat → ClassId) (A : Nat → Prop) (o : Nat) (la : LC) (b j : Nat) (him : lIm la b = some (17, bodF o j)) (x : Int32) (z : GS) (r : Int32) (zq : GS) (h : FB17_caresFor_5 (nI j) x z = some (r, zq)) : Met l yX17_caresFor (ws_ yX17_caresFor cX17_caresFor 2 (some .int)) ({ frames := 4, cells := 0, slots := 0, locals := 84 }) (va_Pc [.ref b, .int x] (PC D aC A o la z)) (QG (some (.int r)) (OC D aC A o la zq) A) 0 0 A := by
  refine g_ofW (cc := cX17_caresFor) (maxL := 2) (ret := (some .int)) (own := RX17) (by decide) rfl rfl [.ref b, .int x] (PC D aC A o la z) (Nat.le_of_ble_eq_true rfl) ?_
  intro p e s m below meth c ls hx hb hr hml hts hown hlocks hnm hPre hl
  obtain ⟨hO, hK, hA, hZ⟩ := hPre
  have hf : CallFix p m c cX17_caresFor 2 s _ lw_all RX17 := ⟨hx, hb, hml, hown, hts⟩
  have hl : lv_has ls 2 [(0, .ref b), (1, .int x)] := hl
  refine g_open (A := A) (OC D aC A o la z) hO (fun H locs hO hS => ?_)
  unfold FB17_caresFor_5 at h
  refine lv_aload_n hx hb dX17_caresFor_0 rfl (lv_at hl 0 rfl) ?_
  refine nd_getS hx hb hts in_X19 hown hK hO (ci := 17) rfl him (v := .ref o) 3 (by decide) rfl (hts _ q1094) dX17_caresFor_1 ?_
  refine lv_bipush (v := 41) hx hb dX17_caresFor_4 (by decide) ?_
  obtain ⟨z1, e2, h⟩ := bn1_e h
  refine g_runG (mc := 0) (ms := 0) (va_runVN (As := [.int 41]) (rest := []) hf (metX0_ran l D aC A o la 41 z _ e2) ⟨va_cnB 1 hf.2.2.2.2 (lw_meth q1180) rfl rfl rfl (hK.2.1 _ q1235 rfl) (hts _ q90) (by decide +kernel) ⟨Nat.le_of_ble_eq_true rfl, Nat.le_of_ble_eq_true rfl⟩, hts _ q1179, hts _ qs48⟩ ⟨PC.blind, OC.recv hK hO, fun U hU hW => ⟨rfl, PC.at hO hK hA hZ hS hU hW⟩⟩ rfl rfl hl.1 rfl (lv_room (Nat.le_of_ble_eq_true rfl)) dX17_caresFor_6 ⟨Nat.le_of_ble_eq_true rfl, Nat.le_of_ble_eq_true rfl⟩) hS (fun H locs hO hS _ _ => ?_)
  refine W.eq (g2 := F0 m 9 ls []) rfl ?_
  refine lv_aload_n hx hb dX17_caresFor_9 rfl (lv_at hl 0 rfl) ?_
  refine lv_iload_n hx hb dX17_caresFor_10 rfl (lv_at hl 1 rfl) ?_
  refine lv_iconst (v := 1) hx hb dX17_caresFor_11 (by decide) ?_
  refine lv_iadd hx hb dX17_caresFor_12 ?_
  obtain ⟨a3, z4, e5, h⟩ := bnd_e h
  refine g_runG (mc := 0) (ms := 0) (va_runUp (x := ⟨"ShieldLine$Lamp", "caresFor", "(I)I"⟩) (n := 1) (As := [.int (x + 1)]) (rest := []) hf (metX16_caresFor_5 l D aC A o la b j him ((x + 1)) z1 _ _ e5) (hts _ q1236) (hts _ q2009) (hts _ q1100) rfl (hts _ q1237) (subUp0 hts) rfl (lw_meth q1238) (hts _ q121) (by decide) (by decide +kernel) ⟨Nat.le_of_ble_eq_true rfl, Nat.le_of_ble_eq_true rfl⟩ ⟨PC.blind, nd_recv hK hO (ci := 17) rfl him, fun U hU hW => ⟨rfl, PC.at hO hK hA hZ hS hU hW⟩⟩ rfl rfl hl.1 rfl (lv_room (Nat.le_of_ble_eq_true rfl)) dX17_caresFor_13 ⟨Nat.le_of_ble_eq_true rfl, Nat.le_of_ble_eq_true rfl⟩ rfl rfl ⟨_, (hK.1.1 17 _ rfl).2⟩) hS (fun H locs hO hS _ _ => ?_)
  refine W.eq (g2 := F0 m 16 ls (.int a3 :: [])) rfl ?_
  obtain ⟨e9, rfl⟩ := Prod.mk.inj (Option.some.inj h)
  exact g_retG hx hb hr hlocks e9 hO hS dX17_caresFor_16
theorem metX14_caresFor_6 (l : Launch) (D : va_G) (aC : Nat → ClassId) (A : Nat → Prop) (o : Nat) (la : LC) (b j : Nat) (him : lIm la b = some (18, bodF o j)) (x : Int32) (z : GS) (r : Int32) (zq : GS) (h : FB14_caresFor_6 (nI j) x z = some (r, zq)) : Met l yX14_caresFor (ws_ yX14_caresFor cX14_caresFor 2 (some .int)) ({ frames := 3, cells := 0, slots := 0, locals := 63 }) (va_Pc [.ref b, .int x] (PC D aC A o la z)) (QG (some (.int r)) (OC D aC A o la zq) A) 0 0 A := by
  refine g_ofW (cc := cX14_caresFor) (maxL := 2) (ret := (some .int)) (own := RX14) (by decide) rfl rfl [.ref b, .int x] (PC D aC A o la z) (Nat.le_of_ble_eq_true rfl) ?_
  intro p e s m below meth c ls hx hb hr hml hts hown hlocks hnm hPre hl
  obtain ⟨hO, hK, hA, hZ⟩ := hPre
  have hf : CallFix p m c cX14_caresFor 2 s _ lw_all RX14 := ⟨hx, hb, hml, hown, hts⟩
  have hl : lv_has ls 2 [(0, .ref b), (1, .int x)] := hl
  refine g_open (A := A) (OC D aC A o la z) hO (fun H locs hO hS => ?_)
  unfold FB14_caresFor_6 at h
  refine lv_aload_n hx hb dX14_caresFor_0 rfl (lv_at hl 0 rfl) ?_
  refine nd_getS hx hb hts in_X20 hown hK hO (ci := 18) rfl him (v := .ref o) 1 (by decide) rfl (hts _ q1068) dX14_caresFor_1 ?_
  refine lv_bipush (v := 10) hx hb dX14_caresFor_4 (by decide) ?_
  obtain ⟨z1, e2, h⟩ := bn1_e h
  refine g_runG (mc := 0) (ms := 0) (va_runVN (As := [.int 10]) (rest := []) hf (metX0_ran l D aC A o la 10 z _ e2) ⟨va_cnB 1 hf.2.2.2.2 (lw_meth q1180) rfl rfl rfl (hK.2.1 _ q1177 rfl) (hts _ q90) (by decide +kernel) ⟨Nat.le_of_ble_eq_true rfl, Nat.le_of_ble_eq_true rfl⟩, hts _ q1179, hts _ qs48⟩ ⟨PC.blind, OC.recv hK hO, fun U hU hW => ⟨rfl, PC.at hO hK hA hZ hS hU hW⟩⟩ rfl rfl hl.1 rfl (lv_room (Nat.le_of_ble_eq_true rfl)) dX14_caresFor_6 ⟨Nat.le_of_ble_eq_true rfl, Nat.le_of_ble_eq_true rfl⟩) hS (fun H locs hO hS _ _ => ?_)
  refine W.eq (g2 := F0 m 9 ls []) rfl ?_
  refine lv_aload_n hx hb dX14_caresFor_9 rfl (lv_at hl 0 rfl) ?_
  refine lv_iload_n hx hb dX14_caresFor_10 rfl (lv_at hl 1 rfl) ?_
  obtain ⟨a3, z4, e5, h⟩ := bnd_e h
  refine g_runG (mc := 0) (ms := 0) (va_runU (x := ⟨"ShieldLine$Shield", "bears", "(I)I"⟩) (owner := "ShieldLine$Shield") (C := "ShieldLine$Kiln") (As := [.int x]) (rest := []) hf (metX20_bears_6 l D aC A o la b j him (x) z1 _ _ e5) (va_cwO 1 hf.2.2.2.2 (lw_app (absO q1242 q2008 q1174 q2012 q1192 q125) (lw_meth q1194)) rfl rfl rfl q1176 (by decide +kernel) ⟨Nat.le_of_ble_eq_true rfl, Nat.le_of_ble_eq_true rfl⟩) ⟨PC.blind, nd_recv hK hO (ci := 18) rfl him, fun U hU hW => ⟨rfl, PC.at hO hK hA hZ hS hU hW⟩⟩ rfl rfl hl.1 rfl (lv_room (Nat.le_of_ble_eq_true rfl)) dX14_caresFor_11 ⟨Nat.le_of_ble_eq_true rfl, Nat.le_of_ble_eq_true rfl⟩) hS (fun H locs hO hS _ _ => ?_)
  refine W.eq (g2 := F0 m 14 ls (.int a3 :: [])) rfl ?_
  refine lv_iconst (v := 2) hx hb dX14_caresFor_14 (by decide) ?_
  refine lv_imul hx hb dX14_caresFor_15 ?_
  obtain ⟨e9, rfl⟩ := Prod.mk.inj (Option.some.inj h)
  exact g_retG hx hb hr hlocks e9 hO hS dX14_caresFor_16
theorem metX14_caresFor_7 (l : Launch) (D : va_G) (aC : Nat → ClassId) (A : Nat → Prop) (o : Nat) (la : LC) (b j : Nat) (him : lIm la b = some (19, bodF o j)) (x : Int32) (z : GS) (r : Int32) (zq : GS) (h : FB14_caresFor_7 (nI j) x z = some (r, zq)) : Met l yX14_caresFor (ws_ yX14_caresFor cX14_caresFor 2 (some .int)) ({ frames := 3, cells := 0, slots := 0, locals := 63 }) (va_Pc [.ref b, .int x] (PC D aC A o la z)) (QG (some (.int r)) (OC D aC A o la zq) A) 0 0 A := by
  refine g_ofW (cc := cX14_caresFor) (maxL := 2) (ret := (some .int)) (own := RX14) (by decide) rfl rfl [.ref b, .int x] (PC D aC A o la z) (Nat.le_of_ble_eq_true rfl) ?_
  intro p e s m below meth c ls hx hb hr hml hts hown hlocks hnm hPre hl
  obtain ⟨hO, hK, hA, hZ⟩ := hPre
  have hf : CallFix p m c cX14_caresFor 2 s _ lw_all RX14 := ⟨hx, hb, hml, hown, hts⟩
  have hl : lv_has ls 2 [(0, .ref b), (1, .int x)] := hl
  refine g_open (A := A) (OC D aC A o la z) hO (fun H locs hO hS => ?_)
  unfold FB14_caresFor_7 at h
  refine lv_aload_n hx hb dX14_caresFor_0 rfl (lv_at hl 0 rfl) ?_
  refine nd_getS hx hb hts in_X21 hown hK hO (ci := 19) rfl him (v := .ref o) 1 (by decide) rfl (hts _ q1068) dX14_caresFor_1 ?_
  refine lv_bipush (v := 10) hx hb dX14_caresFor_4 (by decide) ?_
  obtain ⟨z1, e2, h⟩ := bn1_e h
  refine g_runG (mc := 0) (ms := 0) (va_runVN (As := [.int 10]) (rest := []) hf (metX0_ran l D aC A o la 10 z _ e2) ⟨va_cnB 1 hf.2.2.2.2 (lw_meth q1180) rfl rfl rfl (hK.2.1 _ q1177 rfl) (hts _ q90) (by decide +kernel) ⟨Nat.le_of_ble_eq_true rfl, Nat.le_of_ble_eq_true rfl⟩, hts _ q1179, hts _ qs48⟩ ⟨PC.blind, OC.recv hK hO, fun U hU hW => ⟨rfl, PC.at hO hK hA hZ hS hU hW⟩⟩ rfl rfl hl.1 rfl (lv_room (Nat.le_of_ble_eq_true rfl)) dX14_caresFor_6 ⟨Nat.le_of_ble_eq_true rfl, Nat.le_of_ble_eq_true rfl⟩) hS (fun H locs hO hS _ _ => ?_)
  refine W.eq (g2 := F0 m 9 ls []) rfl ?_
  refine lv_aload_n hx hb dX14_caresFor_9 rfl (lv_at hl 0 rfl) ?_
  refine lv_iload_n hx hb dX14_caresFor_10 rfl (lv_at hl 1 rfl) ?_
  obtain ⟨a3, z4, e5, h⟩ := bnd_e h
  refine g_runG (mc := 0) (ms := 0) (va_runU (x := ⟨"ShieldLine$Shield", "bears", "(I)I"⟩) (owner := "ShieldLine$Shield") (C := "ShieldLine$Hill") (As := [.int x]) (rest := []) hf (metX15_bears_7 l D aC A o la b j him (x) z1 _ _ e5) (va_cwO 1 hf.2.2.2.2 (lw_app (absO q1242 q2008 q1174 q2011 q1184 q120) (lw_meth q1186)) rfl rfl rfl q1176 (by decide +kernel) ⟨Nat.le_of_ble_eq_true rfl, Nat.le_of_ble_eq_true rfl⟩) ⟨PC.blind, nd_recv hK hO (ci := 19) rfl him, fun U hU hW => ⟨rfl, PC.at hO hK hA hZ hS hU hW⟩⟩ rfl rfl hl.1 rfl (lv_room (Nat.le_of_ble_eq_true rfl)) dX14_caresFor_11 ⟨Nat.le_of_ble_eq_true rfl, Nat.le_of_ble_eq_true rfl⟩) hS (fun H locs hO hS _ _ => ?_)
  refine W.eq (g2 := F0 m 14 ls (.int a3 :: [])) rfl ?_
  refine lv_iconst (v := 2) hx hb dX14_caresFor_14 (by decide) ?_
  refine lv_imul hx hb dX14_caresFor_15 ?_
  obtain ⟨e9, rfl⟩ := Prod.mk.inj (Option.some.inj h)
  exact g_retG hx hb hr hlocks e9 hO hS dX14_caresFor_16
theorem metX14_lacksIt_7 (l : Launch) (D : va_G) (aC : Nat → ClassId) (A : Nat → Prop) (o : Nat) (la : LC) (b j : Nat) (him : lIm la b = some (19, bodF o j)) (x : Int32) (z : GS) (r : Int32) (zq : GS) (h : FB14_lacksIt_7 (nI j) x z = some (r, zq)) : Met l yX14_lacksIt (ws_ yX14_lacksIt cX14_lacksIt 2 (some .int)) ({ frames := 1, cells := 0, slots := 0, locals := 21 }) (va_Pc [.ref b, .int x] (PC D aC A o la z)) (QG (some (.int r)) (OC D aC A o la zq) A) 0 0 A := by
  refine g_ofW (cc := cX14_lacksIt) (maxL := 2) (ret := (some .int)) (own := RX14) (by decide) rfl rfl [.ref b, .int x] (PC D aC A o la z) (Nat.le_of_ble_eq_true rfl) ?_
  intro p e s m below meth c ls hx hb hr hml hts hown hlocks hnm hPre hl
  obtain ⟨hO, hK, hA, hZ⟩ := hPre
  have hf : CallFix p m c cX14_lacksIt 2 s _ lw_all RX14 := ⟨hx, hb, hml, hown, hts⟩
  have hl : lv_has ls 2 [(0, .ref b), (1, .int x)] := hl
  refine g_open (A := A) (OC D aC A o la z) hO (fun H locs hO hS => ?_)
  unfold FB14_lacksIt_7 at h
  refine lv_aload_n hx hb dX14_lacksIt_0 rfl (lv_at hl 0 rfl) ?_
  refine nd_getS hx hb hts in_X21 hown hK hO (ci := 19) rfl him (v := .ref o) 1 (by decide) rfl (hts _ q1068) dX14_lacksIt_1 ?_
  refine lv_bipush (v := 11) hx hb dX14_lacksIt_4 (by decide) ?_
  obtain ⟨z1, e2, h⟩ := bn1_e h
  refine g_runG (mc := 0) (ms := 0) (va_runVN (As := [.int 11]) (rest := []) hf (metX0_ran l D aC A o la 11 z _ e2) ⟨va_cnB 1 hf.2.2.2.2 (lw_meth q1180) rfl rfl rfl (hK.2.1 _ q1177 rfl) (hts _ q90) (by decide +kernel) ⟨Nat.le_of_ble_eq_true rfl, Nat.le_of_ble_eq_true rfl⟩, hts _ q1179, hts _ qs48⟩ ⟨PC.blind, OC.recv hK hO, fun U hU hW => ⟨rfl, PC.at hO hK hA hZ hS hU hW⟩⟩ rfl rfl hl.1 rfl (lv_room (Nat.le_of_ble_eq_true rfl)) dX14_lacksIt_6 ⟨Nat.le_of_ble_eq_true rfl, Nat.le_of_ble_eq_true rfl⟩) hS (fun H locs hO hS _ _ => ?_)
  refine W.eq (g2 := F0 m 9 ls []) rfl ?_
  refine lv_iload_n hx hb dX14_lacksIt_9 rfl (lv_at hl 1 rfl) ?_
  refine lv_aload_n hx hb dX14_lacksIt_10 rfl (lv_at hl 0 rfl) ?_
  refine nd_getS hx hb hts in_X21 hown hK hO (ci := 19) rfl him (v := .int (nI j)) 0 (by decide) rfl (hts _ q1067) dX14_lacksIt_11 ?_
  refine lv_ixor hx hb dX14_lacksIt_14 ?_
  obtain ⟨e9, rfl⟩ := Prod.mk.inj (Option.some.inj h)
  exact g_retG hx hb hr hlocks e9 hO hS dX14_lacksIt_15
theorem metX18_lacksIt_7 (l : Launch) (D : va_G) (aC : Nat → ClassId) (A : Nat → Prop) (o : Nat) (la : LC) (b j : Nat) (him : lIm la b = some (19, bodF o j)) (x : Int32) (z : GS) (r : Int32) (zq : GS) (h : FB18_lacksIt_7 (nI j) x z = some (r, zq)) : Met l yX18_lacksIt (ws_ yX18_lacksIt cX18_lacksIt 3 (some .int)) ({ frames := 3, cells := 0, slots := 0, locals := 63 }) (va_Pc [.ref b, .int x] (PC D aC A o la z)) (QG (some (.int r)) (OC D aC A o la zq) A) 0 0 A := by
  refine g_ofW (cc := cX18_lacksIt) (maxL := 3) (ret := (some .int)) (own := RX18) (by decide) rfl rfl [.ref b, .int x] (PC D aC A o la z) (Nat.le_of_ble_eq_true rfl) ?_
  intro p e s m below meth c ls hx hb hr hml hts hown hlocks hnm hPre hl
  obtain ⟨hO, hK, hA, hZ⟩ := hPre
  have hf : CallFix p m c cX18_lacksIt 3 s _ lw_all RX18 := ⟨hx, hb, hml, hown, hts⟩
  have hl : lv_has ls 3 [(0, .ref b), (1, .int x)] := hl
  refine g_open (A := A) (OC D aC A o la z) hO (fun H locs hO hS => ?_)
  unfold FB18_lacksIt_7 at h
  refine lv_aload_n hx hb dX18_lacksIt_0 rfl (lv_at hl 0 rfl) ?_
  refine nd_getS hx hb hts in_X21 hown hK hO (ci := 19) rfl him (v := .ref o) 3 (by decide) rfl (hts _ q1107) dX18_lacksIt_1 ?_
  refine lv_bipush (v := 50) hx hb dX18_lacksIt_4 (by decide) ?_
  obtain ⟨z1, e2, h⟩ := bn1_e h
  refine g_runG (mc := 0) (ms := 0) (va_runVN (As := [.int 50]) (rest := []) hf (metX0_ran l D aC A o la 50 z _ e2) ⟨va_cnB 1 hf.2.2.2.2 (lw_meth q1180) rfl rfl rfl (hK.2.1 _ q1256 rfl) (hts _ q90) (by decide +kernel) ⟨Nat.le_of_ble_eq_true rfl, Nat.le_of_ble_eq_true rfl⟩, hts _ q1179, hts _ qs48⟩ ⟨PC.blind, OC.recv hK hO, fun U hU hW => ⟨rfl, PC.at hO hK hA hZ hS hU hW⟩⟩ rfl rfl hl.1 rfl (lv_room (Nat.le_of_ble_eq_true rfl)) dX18_lacksIt_6 ⟨Nat.le_of_ble_eq_true rfl, Nat.le_of_ble_eq_true rfl⟩) hS (fun H locs hO hS _ _ => ?_)
  refine W.eq (g2 := F0 m 9 ls []) rfl ?_
  refine lv_aload_n hx hb dX18_lacksIt_9 rfl (lv_at hl 0 rfl) ?_
  refine lv_iload_n hx hb dX18_lacksIt_10 rfl (lv_at hl 1 rfl) ?_
  obtain ⟨a3, z4, e5, h⟩ := bnd_e h
  refine g_runG (mc := 0) (ms := 0) (va_runUp (x := ⟨"ShieldLine$Roof", "lacksIt", "(I)I"⟩) (n := 1) (As := [.int x]) (rest := []) hf (metX14_lacksIt_7 l D aC A o la b j him (x) z1 _ _ e5) (hts _ q1257) (hts _ q1258) (hts _ q1113) rfl (hts _ q1260) (subUp1 hts q1075) rfl (lw_meth q1261) (hts _ q119) (by decide) (by decide +kernel) ⟨Nat.le_of_ble_eq_true rfl, Nat.le_of_ble_eq_true rfl⟩ ⟨PC.blind, nd_recv hK hO (ci := 19) rfl him, fun U hU hW => ⟨rfl, PC.at hO hK hA hZ hS hU hW⟩⟩ rfl rfl hl.1 rfl (lv_room (Nat.le_of_ble_eq_true rfl)) dX18_lacksIt_11 ⟨Nat.le_of_ble_eq_true rfl, Nat.le_of_ble_eq_true rfl⟩ rfl rfl ⟨_, (hK.1.1 19 _ rfl).2⟩) hS (fun H locs hO hS _ _ => ?_)
  refine W.eq (g2 := F0 m 14 ls (.int a3 :: [])) rfl ?_
  refine lv_istore_n (lv' := [(2, .int a3), (0, .ref b), (1, .int x)]) hx hb dX18_lacksIt_14 rfl hl (by decide) rfl (fun ls hl => ?_)
  refine lv_iload_n hx hb dX18_lacksIt_15 rfl (lv_at hl 0 rfl) ?_
  refine lv_aload_n hx hb dX18_lacksIt_16 rfl (lv_at hl 1 rfl) ?_
  refine lv_iconst (v := 2) hx hb dX18_lacksIt_17 (by decide) ?_
  obtain ⟨a6, z7, e8, h⟩ := bnd_e h
  refine g_runG (mc := 0) (ms := 0) (va_runU (x := ⟨"ShieldLine$Widow", "bears", "(I)I"⟩) (owner := "ShieldLine$Roof") (C := "ShieldLine$Hill") (As := [.int 2]) (rest := [.int a3]) hf (metX15_bears_7 l D aC A o la b j him (2) z4 _ _ e8) (va_cwU 1 hf.2.2.2.2 (lw_app (absW q1262 q1263 q1265 q1184 q120) (lw_meth q1186)) rfl rfl rfl rfl (by decide +kernel) ⟨Nat.le_of_ble_eq_true rfl, Nat.le_of_ble_eq_true rfl⟩) ⟨PC.blind, nd_recv hK hO (ci := 19) rfl him, fun U hU hW => ⟨rfl, PC.at hO hK hA hZ hS hU hW⟩⟩ rfl rfl hl.1 rfl (lv_room (Nat.le_of_ble_eq_true rfl)) dX18_lacksIt_18 ⟨Nat.le_of_ble_eq_true rfl, Nat.le_of_ble_eq_true rfl⟩) hS (fun H locs hO hS _ _ => ?_)
  refine W.eq (g2 := F0 m 21 ls (.int a6 :: [.int a3])) rfl ?_
  refine lv_isub hx hb dX18_lacksIt_21 ?_
  obtain ⟨e9, rfl⟩ := Prod.mk.inj (Option.some.inj h)
  exact g_retG hx hb hr hlocks e9 hO hS dX18_lacksIt_22
theorem metX21_caresFor_7 (l : Launch) (D : va_G) (aC : Nat → ClassId) (A : Nat → Prop) (o : Nat) (la : LC) (b j : Nat) (him : lIm la b = some (19, bodF o j)) (x : Int32) (z : GS) (r : Int32) (zq : GS) (h : FB21_caresFor_7 (nI j) x z = some (r, zq)) : Met l yX21_caresFor (ws_ yX21_caresFor cX21_caresFor 3 (some .int)) ({ frames := 4, cells := 0, slots := 0, locals := 85 }) (va_Pc [.ref b, .int x] (PC D aC A o la z)) (QG (some (.int r)) (OC D aC A o la zq) A) 0 0 A := by
  refine g_ofW (cc := cX21_caresFor) (maxL := 3) (ret := (some .int)) (own := RX21) (by decide) rfl rfl [.ref b, .int x] (PC D aC A o la z) (Nat.le_of_ble_eq_true rfl) ?_
  intro p e s m below meth c ls hx hb hr hml hts hown hlocks hnm hPre hl
  obtain ⟨hO, hK, hA, hZ⟩ := hPre
  have hf : CallFix p m c cX21_caresFor 3 s _ lw_all RX21 := ⟨hx, hb, hml, hown, hts⟩
  have hl : lv_has ls 3 [(0, .ref b), (1, .int x)] := hl
  refine g_open (A := A) (OC D aC A o la z) hO (fun H locs hO hS => ?_)
  unfold FB21_caresFor_7 at h
  refine lv_aload_n hx hb dX21_caresFor_0 rfl (lv_at hl 0 rfl) ?_
  refine nd_getS hx hb hts in_X21 hown hK hO (ci := 19) rfl him (v := .ref o) 4 (by decide) rfl (hts _ q1146) dX21_caresFor_1 ?_
  refine lv_bipush (v := 80) hx hb dX21_caresFor_4 (by decide) ?_
  obtain ⟨z1, e2, h⟩ := bn1_e h
  refine g_runG (mc := 0) (ms := 0) (va_runVN (As := [.int 80]) (rest := []) hf (metX0_ran l D aC A o la 80 z _ e2) ⟨va_cnB 1 hf.2.2.2.2 (lw_meth q1180) rfl rfl rfl (hK.2.1 _ q1246 rfl) (hts _ q90) (by decide +kernel) ⟨Nat.le_of_ble_eq_true rfl, Nat.le_of_ble_eq_true rfl⟩, hts _ q1179, hts _ qs48⟩ ⟨PC.blind, OC.recv hK hO, fun U hU hW => ⟨rfl, PC.at hO hK hA hZ hS hU hW⟩⟩ rfl rfl hl.1 rfl (lv_room (Nat.le_of_ble_eq_true rfl)) dX21_caresFor_6 ⟨Nat.le_of_ble_eq_true rfl, Nat.le_of_ble_eq_true rfl⟩) hS (fun H locs hO hS _ _ => ?_)
  refine W.eq (g2 := F0 m 9 ls []) rfl ?_
  refine lv_aload_n hx hb dX21_caresFor_9 rfl (lv_at hl 0 rfl) ?_
  refine lv_iload_n hx hb dX21_caresFor_10 rfl (lv_at hl 1 rfl) ?_
  obtain ⟨a3, z4, e5, h⟩ := bnd_e h
  refine g_runG (mc := 0) (ms := 0) (va_runUp (x := ⟨"ShieldLine$Widow", "caresFor", "(I)I"⟩) (n := 1) (As := [.int x]) (rest := []) hf (metX14_caresFor_7 l D aC A o la b j him (x) z1 _ _ e5) (hts _ q1247) (hts _ q1248) (hts _ q1153) rfl (hts _ q1229) (subUp2 hts q1113 q1075 (by decide)) rfl (lw_meth q1241) (hts _ q119) (by decide) (by decide +kernel) ⟨Nat.le_of_ble_eq_true rfl, Nat.le_of_ble_eq_true rfl⟩ ⟨PC.blind, nd_recv hK hO (ci := 19) rfl him, fun U hU hW => ⟨rfl, PC.at hO hK hA hZ hS hU hW⟩⟩ rfl rfl hl.1 rfl (lv_room (Nat.le_of_ble_eq_true rfl)) dX21_caresFor_11 ⟨Nat.le_of_ble_eq_true rfl, Nat.le_of_ble_eq_true rfl⟩ rfl rfl ⟨_, (hK.1.1 19 _ rfl).2⟩) hS (fun H locs hO hS _ _ => ?_)
  refine W.eq (g2 := F0 m 14 ls (.int a3 :: [])) rfl ?_
  refine lv_istore_n (lv' := [(2, .int a3), (0, .ref b), (1, .int x)]) hx hb dX21_caresFor_14 rfl hl (by decide) rfl (fun ls hl => ?_)
  refine lv_iload_n hx hb dX21_caresFor_15 rfl (lv_at hl 0 rfl) ?_
  refine lv_aload_n hx hb dX21_caresFor_16 rfl (lv_at hl 1 rfl) ?_
  refine lv_iconst (v := 2) hx hb dX21_caresFor_17 (by decide) ?_
  obtain ⟨a6, z7, e8, h⟩ := bnd_e h
  refine g_runG (mc := 0) (ms := 0) (va_runU (x := ⟨"ShieldLine$Hill", "lacksIt", "(I)I"⟩) (owner := "ShieldLine$Widow") (C := "ShieldLine$Hill") (As := [.int 2]) (rest := [.int a3]) hf (metX18_lacksIt_7 l D aC A o la b j him (2) z4 _ _ e8) (va_cwU 1 hf.2.2.2.2 (lw_app (absW q1250 q1251 q1253 q1254 q123) (lw_meth q1255)) rfl rfl rfl rfl (by decide +kernel) ⟨Nat.le_of_ble_eq_true rfl, Nat.le_of_ble_eq_true rfl⟩) ⟨PC.blind, nd_recv hK hO (ci := 19) rfl him, fun U hU hW => ⟨rfl, PC.at hO hK hA hZ hS hU hW⟩⟩ rfl rfl hl.1 rfl (lv_room (Nat.le_of_ble_eq_true rfl)) dX21_caresFor_18 ⟨Nat.le_of_ble_eq_true rfl, Nat.le_of_ble_eq_true rfl⟩) hS (fun H locs hO hS _ _ => ?_)
  refine W.eq (g2 := F0 m 21 ls (.int a6 :: [.int a3])) rfl ?_
  refine lv_iadd hx hb dX21_caresFor_21 ?_
  obtain ⟨e9, rfl⟩ := Prod.mk.inj (Option.some.inj h)
  exact g_retG hx hb hr hlocks e9 hO hS dX21_caresFor_22
theorem metX14_lacksIt_0 (l : Launch) (D : va_G) (aC : Nat → ClassId) (A : Nat → Prop) (o : Nat) (la : LC) (b j : Nat) (him : lIm la b = some (12, bodF o j)) (x : Int32) (z : GS) (r : Int32) (zq : GS) (h : FB14_lacksIt_0 (nI j) x z = some (r, zq)) : Met l yX14_lacksIt (ws_ yX14_lacksIt cX14_lacksIt 2 (some .int)) ({ frames := 1, cells := 0, slots := 0, locals := 21 }) (va_Pc [.ref b, .int x] (PC D aC A o la z)) (QG (some (.int r)) (OC D aC A o la zq) A) 0 0 A := by
  refine g_ofW (cc := cX14_lacksIt) (maxL := 2) (ret := (some .int)) (own := RX14) (by decide) rfl rfl [.ref b, .int x] (PC D aC A o la z) (Nat.le_of_ble_eq_true rfl) ?_
  intro p e s m below meth c ls hx hb hr hml hts hown hlocks hnm hPre hl
  obtain ⟨hO, hK, hA, hZ⟩ := hPre
  have hf : CallFix p m c cX14_lacksIt 2 s _ lw_all RX14 := ⟨hx, hb, hml, hown, hts⟩
  have hl : lv_has ls 2 [(0, .ref b), (1, .int x)] := hl
  refine g_open (A := A) (OC D aC A o la z) hO (fun H locs hO hS => ?_)
  unfold FB14_lacksIt_0 at h
  refine lv_aload_n hx hb dX14_lacksIt_0 rfl (lv_at hl 0 rfl) ?_
  refine nd_getS hx hb hts in_X14 hown hK hO (ci := 12) rfl him (v := .ref o) 1 (by decide) rfl (hts _ q1068) dX14_lacksIt_1 ?_
  refine lv_bipush (v := 11) hx hb dX14_lacksIt_4 (by decide) ?_
  obtain ⟨z1, e2, h⟩ := bn1_e h
  refine g_runG (mc := 0) (ms := 0) (va_runVN (As := [.int 11]) (rest := []) hf (metX0_ran l D aC A o la 11 z _ e2) ⟨va_cnB 1 hf.2.2.2.2 (lw_meth q1180) rfl rfl rfl (hK.2.1 _ q1177 rfl) (hts _ q90) (by decide +kernel) ⟨Nat.le_of_ble_eq_true rfl, Nat.le_of_ble_eq_true rfl⟩, hts _ q1179, hts _ qs48⟩ ⟨PC.blind, OC.recv hK hO, fun U hU hW => ⟨rfl, PC.at hO hK hA hZ hS hU hW⟩⟩ rfl rfl hl.1 rfl (lv_room (Nat.le_of_ble_eq_true rfl)) dX14_lacksIt_6 ⟨Nat.le_of_ble_eq_true rfl, Nat.le_of_ble_eq_true rfl⟩) hS (fun H locs hO hS _ _ => ?_)
  refine W.eq (g2 := F0 m 9 ls []) rfl ?_
  refine lv_iload_n hx hb dX14_lacksIt_9 rfl (lv_at hl 1 rfl) ?_
  refine lv_aload_n hx hb dX14_lacksIt_10 rfl (lv_at hl 0 rfl) ?_
  refine nd_getS hx hb hts in_X14 hown hK hO (ci := 12) rfl him (v := .int (nI j)) 0 (by decide) rfl (hts _ q1067) dX14_lacksIt_11 ?_
  refine lv_ixor hx hb dX14_lacksIt_14 ?_
  obtain ⟨e9, rfl⟩ := Prod.mk.inj (Option.some.inj h)
  exact g_retG hx hb hr hlocks e9 hO hS dX14_lacksIt_15
theorem metX14_lacksIt_1 (l : Launch) (D : va_G) (aC : Nat → ClassId) (A : Nat → Prop) (o : Nat) (la : LC) (b j : Nat) (him : lIm la b = some (13, bodF o j)) (x : Int32) (z : GS) (r : Int32) (zq : GS) (h : FB14_lacksIt_1 (nI j) x z = some (r, zq)) : Met l yX14_lacksIt (ws_ yX14_lacksIt cX14_lacksIt 2 (some .int)) ({ frames := 1, cells := 0, slots := 0, locals := 21 }) (va_Pc [.ref b, .int x] (PC D aC A o la z)) (QG (some (.int r)) (OC D aC A o la zq) A) 0 0 A := by
  refine g_ofW (cc := cX14_lacksIt) (maxL := 2) (ret := (some .int)) (own := RX14) (by decide) rfl rfl [.ref b, .int x] (PC D aC A o la z) (Nat.le_of_ble_eq_true rfl) ?_
  intro p e s m below meth c ls hx hb hr hml hts hown hlocks hnm hPre hl
  obtain ⟨hO, hK, hA, hZ⟩ := hPre
  have hf : CallFix p m c cX14_lacksIt 2 s _ lw_all RX14 := ⟨hx, hb, hml, hown, hts⟩
  have hl : lv_has ls 2 [(0, .ref b), (1, .int x)] := hl
  refine g_open (A := A) (OC D aC A o la z) hO (fun H locs hO hS => ?_)
  unfold FB14_lacksIt_1 at h
  refine lv_aload_n hx hb dX14_lacksIt_0 rfl (lv_at hl 0 rfl) ?_
  refine nd_getS hx hb hts in_X15 hown hK hO (ci := 13) rfl him (v := .ref o) 1 (by decide) rfl (hts _ q1068) dX14_lacksIt_1 ?_
  refine lv_bipush (v := 11) hx hb dX14_lacksIt_4 (by decide) ?_
  obtain ⟨z1, e2, h⟩ := bn1_e h
  refine g_runG (mc := 0) (ms := 0) (va_runVN (As := [.int 11]) (rest := []) hf (metX0_ran l D aC A o la 11 z _ e2) ⟨va_cnB 1 hf.2.2.2.2 (lw_meth q1180) rfl rfl rfl (hK.2.1 _ q1177 rfl) (hts _ q90) (by decide +kernel) ⟨Nat.le_of_ble_eq_true rfl, Nat.le_of_ble_eq_true rfl⟩, hts _ q1179, hts _ qs48⟩ ⟨PC.blind, OC.recv hK hO, fun U hU hW => ⟨rfl, PC.at hO hK hA hZ hS hU hW⟩⟩ rfl rfl hl.1 rfl (lv_room (Nat.le_of_ble_eq_true rfl)) dX14_lacksIt_6 ⟨Nat.le_of_ble_eq_true rfl, Nat.le_of_ble_eq_true rfl⟩) hS (fun H locs hO hS _ _ => ?_)
  refine W.eq (g2 := F0 m 9 ls []) rfl ?_
  refine lv_iload_n hx hb dX14_lacksIt_9 rfl (lv_at hl 1 rfl) ?_
  refine lv_aload_n hx hb dX14_lacksIt_10 rfl (lv_at hl 0 rfl) ?_
  refine nd_getS hx hb hts in_X15 hown hK hO (ci := 13) rfl him (v := .int (nI j)) 0 (by decide) rfl (hts _ q1067) dX14_lacksIt_11 ?_
  refine lv_ixor hx hb dX14_lacksIt_14 ?_
  obtain ⟨e9, rfl⟩ := Prod.mk.inj (Option.some.inj h)
  exact g_retG hx hb hr hlocks e9 hO hS dX14_lacksIt_15
theorem metX14_lacksIt_2 (l : Launch) (D : va_G) (aC : Nat → ClassId) (A : Nat → Prop) (o : Nat) (la : LC) (b j : Nat) (him : lIm la b = some (14, bodF o j)) (x : Int32) (z : GS) (r : Int32) (zq : GS) (h : FB14_lacksIt_2 (nI j) x z = some (r, zq)) : Met l yX14_lacksIt (ws_ yX14_lacksIt cX14_lacksIt 2 (some .int)) ({ frames := 1, cells := 0, slots := 0, locals := 21 }) (va_Pc [.ref b, .int x] (PC D aC A o la z)) (QG (some (.int r)) (OC D aC A o la zq) A) 0 0 A := by
  refine g_ofW (cc := cX14_lacksIt) (maxL := 2) (ret := (some .int)) (own := RX14) (by decide) rfl rfl [.ref b, .int x] (PC D aC A o la z) (Nat.le_of_ble_eq_true rfl) ?_
  intro p e s m below meth c ls hx hb hr hml hts hown hlocks hnm hPre hl
  obtain ⟨hO, hK, hA, hZ⟩ := hPre
  have hf : CallFix p m c cX14_lacksIt 2 s _ lw_all RX14 := ⟨hx, hb, hml, hown, hts⟩
  have hl : lv_has ls 2 [(0, .ref b), (1, .int x)] := hl
  refine g_open (A := A) (OC D aC A o la z) hO (fun H locs hO hS => ?_)
  unfold FB14_lacksIt_2 at h
  refine lv_aload_n hx hb dX14_lacksIt_0 rfl (lv_at hl 0 rfl) ?_
  refine nd_getS hx hb hts in_X16 hown hK hO (ci := 14) rfl him (v := .ref o) 1 (by decide) rfl (hts _ q1068) dX14_lacksIt_1 ?_
  refine lv_bipush (v := 11) hx hb dX14_lacksIt_4 (by decide) ?_
  obtain ⟨z1, e2, h⟩ := bn1_e h
  refine g_runG (mc := 0) (ms := 0) (va_runVN (As := [.int 11]) (rest := []) hf (metX0_ran l D aC A o la 11 z _ e2) ⟨va_cnB 1 hf.2.2.2.2 (lw_meth q1180) rfl rfl rfl (hK.2.1 _ q1177 rfl) (hts _ q90) (by decide +kernel) ⟨Nat.le_of_ble_eq_true rfl, Nat.le_of_ble_eq_true rfl⟩, hts _ q1179, hts _ qs48⟩ ⟨PC.blind, OC.recv hK hO, fun U hU hW => ⟨rfl, PC.at hO hK hA hZ hS hU hW⟩⟩ rfl rfl hl.1 rfl (lv_room (Nat.le_of_ble_eq_true rfl)) dX14_lacksIt_6 ⟨Nat.le_of_ble_eq_true rfl, Nat.le_of_ble_eq_true rfl⟩) hS (fun H locs hO hS _ _ => ?_)
  refine W.eq (g2 := F0 m 9 ls []) rfl ?_
  refine lv_iload_n hx hb dX14_lacksIt_9 rfl (lv_at hl 1 rfl) ?_
  refine lv_aload_n hx hb dX14_lacksIt_10 rfl (lv_at hl 0 rfl) ?_
  refine nd_getS hx hb hts in_X16 hown hK hO (ci := 14) rfl him (v := .int (nI j)) 0 (by decide) rfl (hts _ q1067) dX14_lacksIt_11 ?_
  refine lv_ixor hx hb dX14_lacksIt_14 ?_
  obtain ⟨e9, rfl⟩ := Prod.mk.inj (Option.some.inj h)
  exact g_retG hx hb hr hlocks e9 hO hS dX14_lacksIt_15
theorem metX14_lacksIt_3 (l : Launch) (D : va_G) (aC : Nat → ClassId) (A : Nat → Prop) (o : Nat) (la : LC) (b j : Nat) (him : lIm la b = some (15, bodF o j)) (x : Int32) (z : GS) (r : Int32) (zq : GS) (h : FB14_lacksIt_3 (nI j) x z = some (r, zq)) : Met l yX14_lacksIt (ws_ yX14_lacksIt cX14_lacksIt 2 (some .int)) ({ frames := 1, cells := 0, slots := 0, locals := 21 }) (va_Pc [.ref b, .int x] (PC D aC A o la z)) (QG (some (.int r)) (OC D aC A o la zq) A) 0 0 A := by
  refine g_ofW (cc := cX14_lacksIt) (maxL := 2) (ret := (some .int)) (own := RX14) (by decide) rfl rfl [.ref b, .int x] (PC D aC A o la z) (Nat.le_of_ble_eq_true rfl) ?_
  intro p e s m below meth c ls hx hb hr hml hts hown hlocks hnm hPre hl
  obtain ⟨hO, hK, hA, hZ⟩ := hPre
  have hf : CallFix p m c cX14_lacksIt 2 s _ lw_all RX14 := ⟨hx, hb, hml, hown, hts⟩
  have hl : lv_has ls 2 [(0, .ref b), (1, .int x)] := hl
  refine g_open (A := A) (OC D aC A o la z) hO (fun H locs hO hS => ?_)
  unfold FB14_lacksIt_3 at h
  refine lv_aload_n hx hb dX14_lacksIt_0 rfl (lv_at hl 0 rfl) ?_
  refine nd_getS hx hb hts in_X17 hown hK hO (ci := 15) rfl him (v := .ref o) 1 (by decide) rfl (hts _ q1068) dX14_lacksIt_1 ?_
  refine lv_bipush (v := 11) hx hb dX14_lacksIt_4 (by decide) ?_
  obtain ⟨z1, e2, h⟩ := bn1_e h
  refine g_runG (mc := 0) (ms := 0) (va_runVN (As := [.int 11]) (rest := []) hf (metX0_ran l D aC A o la 11 z _ e2) ⟨va_cnB 1 hf.2.2.2.2 (lw_meth q1180) rfl rfl rfl (hK.2.1 _ q1177 rfl) (hts _ q90) (by decide +kernel) ⟨Nat.le_of_ble_eq_true rfl, Nat.le_of_ble_eq_true rfl⟩, hts _ q1179, hts _ qs48⟩ ⟨PC.blind, OC.recv hK hO, fun U hU hW => ⟨rfl, PC.at hO hK hA hZ hS hU hW⟩⟩ rfl rfl hl.1 rfl (lv_room (Nat.le_of_ble_eq_true rfl)) dX14_lacksIt_6 ⟨Nat.le_of_ble_eq_true rfl, Nat.le_of_ble_eq_true rfl⟩) hS (fun H locs hO hS _ _ => ?_)
  refine W.eq (g2 := F0 m 9 ls []) rfl ?_
  refine lv_iload_n hx hb dX14_lacksIt_9 rfl (lv_at hl 1 rfl) ?_
  refine lv_aload_n hx hb dX14_lacksIt_10 rfl (lv_at hl 0 rfl) ?_
  refine nd_getS hx hb hts in_X17 hown hK hO (ci := 15) rfl him (v := .int (nI j)) 0 (by decide) rfl (hts _ q1067) dX14_lacksIt_11 ?_
  refine lv_ixor hx hb dX14_lacksIt_14 ?_
  obtain ⟨e9, rfl⟩ := Prod.mk.inj (Option.some.inj h)
  exact g_retG hx hb hr hlocks e9 hO hS dX14_lacksIt_15
theorem metX17_lacksIt_3 (l : Launch) (D : va_G) (aC : Nat → ClassId) (A : Nat → Prop) (o : Nat) (la : LC) (b j : Nat) (him : lIm la b = some (15, bodF o j)) (x : Int32) (z : GS) (r : Int32) (zq : GS) (h : FB17_lacksIt_3 (nI j) x z = some (r, zq)) : Met l yX17_lacksIt (ws_ yX17_lacksIt cX17_lacksIt 2 (some .int)) ({ frames := 2, cells := 0, slots := 0, locals := 42 }) (va_Pc [.ref b, .int x] (PC D aC A o la z)) (QG (some (.int r)) (OC D aC A o la zq) A) 0 0 A := by
  refine g_ofW (cc := cX17_lacksIt) (maxL := 2) (ret := (some .int)) (own := RX17) (by decide) rfl rfl [.ref b, .int x] (PC D aC A o la z) (Nat.le_of_ble_eq_true rfl) ?_
  intro p e s m below meth c ls hx hb hr hml hts hown hlocks hnm hPre hl
  obtain ⟨hO, hK, hA, hZ⟩ := hPre
  have hf : CallFix p m c cX17_lacksIt 2 s _ lw_all RX17 := ⟨hx, hb, hml, hown, hts⟩
  have hl : lv_has ls 2 [(0, .ref b), (1, .int x)] := hl
  refine g_open (A := A) (OC D aC A o la z) hO (fun H locs hO hS => ?_)
  unfold FB17_lacksIt_3 at h
  refine lv_aload_n hx hb dX17_lacksIt_0 rfl (lv_at hl 0 rfl) ?_
  refine nd_getS hx hb hts in_X17 hown hK hO (ci := 15) rfl him (v := .ref o) 3 (by decide) rfl (hts _ q1094) dX17_lacksIt_1 ?_
  refine lv_bipush (v := 40) hx hb dX17_lacksIt_4 (by decide) ?_
  obtain ⟨z1, e2, h⟩ := bn1_e h
  refine g_runG (mc := 0) (ms := 0) (va_runVN (As := [.int 40]) (rest := []) hf (metX0_ran l D aC A o la 40 z _ e2) ⟨va_cnB 1 hf.2.2.2.2 (lw_meth q1180) rfl rfl rfl (hK.2.1 _ q1235 rfl) (hts _ q90) (by decide +kernel) ⟨Nat.le_of_ble_eq_true rfl, Nat.le_of_ble_eq_true rfl⟩, hts _ q1179, hts _ qs48⟩ ⟨PC.blind, OC.recv hK hO, fun U hU hW => ⟨rfl, PC.at hO hK hA hZ hS hU hW⟩⟩ rfl rfl hl.1 rfl (lv_room (Nat.le_of_ble_eq_true rfl)) dX17_lacksIt_6 ⟨Nat.le_of_ble_eq_true rfl, Nat.le_of_ble_eq_true rfl⟩) hS (fun H locs hO hS _ _ => ?_)
  refine W.eq (g2 := F0 m 9 ls []) rfl ?_
  refine lv_aload_n hx hb dX17_lacksIt_9 rfl (lv_at hl 0 rfl) ?_
  refine lv_iload_n hx hb dX17_lacksIt_10 rfl (lv_at hl 1 rfl) ?_
  obtain ⟨a3, z4, e5, h⟩ := bnd_e h
  refine g_runG (mc := 0) (ms := 0) (va_runUp (x := ⟨"ShieldLine$Lamp", "lacksIt", "(I)I"⟩) (n := 1) (As := [.int x]) (rest := []) hf (metX14_lacksIt_3 l D aC A o la b j him (x) z1 _ _ e5) (hts _ q1275) (hts _ q1276) (hts _ q1100) rfl (hts _ q1260) (subUp1 hts q1087) rfl (lw_meth q1261) (hts _ q119) (by decide) (by decide +kernel) ⟨Nat.le_of_ble_eq_true rfl, Nat.le_of_ble_eq_true rfl⟩ ⟨PC.blind, nd_recv hK hO (ci := 15) rfl him, fun U hU hW => ⟨rfl, PC.at hO hK hA hZ hS hU hW⟩⟩ rfl rfl hl.1 rfl (lv_room (Nat.le_of_ble_eq_true rfl)) dX17_lacksIt_11 ⟨Nat.le_of_ble_eq_true rfl, Nat.le_of_ble_eq_true rfl⟩ rfl rfl ⟨_, (hK.1.1 15 _ rfl).2⟩) hS (fun H locs hO hS _ _ => ?_)
  refine W.eq (g2 := F0 m 14 ls (.int a3 :: [])) rfl ?_
  refine lv_iconst (v := 3) hx hb dX17_lacksIt_14 (by decide) ?_
  refine lv_imul hx hb dX17_lacksIt_15 ?_
  obtain ⟨e9, rfl⟩ := Prod.mk.inj (Option.some.inj h)
  exact g_retG hx hb hr hlocks e9 hO hS dX17_lacksIt_16
theorem metX14_lacksIt_4 (l : Launch) (D : va_G) (aC : Nat → ClassId) (A : Nat → Prop) (o : Nat) (la : LC) (b j : Nat) (him : lIm la b = some (16, bodF o j)) (x : Int32) (z : GS) (r : Int32) (zq : GS) (h : FB14_lacksIt_4 (nI j) x z = some (r, zq)) : Met l yX14_lacksIt (ws_ yX14_lacksIt cX14_lacksIt 2 (some .int)) ({ frames := 1, cells := 0, slots := 0, locals := 21 }) (va_Pc [.ref b, .int x] (PC D aC A o la z)) (QG (some (.int r)) (OC D aC A o la zq) A) 0 0 A := by
  refine g_ofW (cc := cX14_lacksIt) (maxL := 2) (ret := (some .int)) (own := RX14) (by decide) rfl rfl [.ref b, .int x] (PC D aC A o la z) (Nat.le_of_ble_eq_true rfl) ?_
  intro p e s m below meth c ls hx hb hr hml hts hown hlocks hnm hPre hl
  obtain ⟨hO, hK, hA, hZ⟩ := hPre
  have hf : CallFix p m c cX14_lacksIt 2 s _ lw_all RX14 := ⟨hx, hb, hml, hown, hts⟩
  have hl : lv_has ls 2 [(0, .ref b), (1, .int x)] := hl
  refine g_open (A := A) (OC D aC A o la z) hO (fun H locs hO hS => ?_)
  unfold FB14_lacksIt_4 at h
  refine lv_aload_n hx hb dX14_lacksIt_0 rfl (lv_at hl 0 rfl) ?_
  refine nd_getS hx hb hts in_X18 hown hK hO (ci := 16) rfl him (v := .ref o) 1 (by decide) rfl (hts _ q1068) dX14_lacksIt_1 ?_
  refine lv_bipush (v := 11) hx hb dX14_lacksIt_4 (by decide) ?_
  obtain ⟨z1, e2, h⟩ := bn1_e h
  refine g_runG (mc := 0) (ms := 0) (va_runVN (As := [.int 11]) (rest := []) hf (metX0_ran l D aC A o la 11 z _ e2) ⟨va_cnB 1 hf.2.2.2.2 (lw_meth q1180) rfl rfl rfl (hK.2.1 _ q1177 rfl) (hts _ q90) (by decide +kernel) ⟨Nat.le_of_ble_eq_true rfl, Nat.le_of_ble_eq_true rfl⟩, hts _ q1179, hts _ qs48⟩ ⟨PC.blind, OC.recv hK hO, fun U hU hW => ⟨rfl, PC.at hO hK hA hZ hS hU hW⟩⟩ rfl rfl hl.1 rfl (lv_room (Nat.le_of_ble_eq_true rfl)) dX14_lacksIt_6 ⟨Nat.le_of_ble_eq_true rfl, Nat.le_of_ble_eq_true rfl⟩) hS (fun H locs hO hS _ _ => ?_)
  refine W.eq (g2 := F0 m 9 ls []) rfl ?_
  refine lv_iload_n hx hb dX14_lacksIt_9 rfl (lv_at hl 1 rfl) ?_
  refine lv_aload_n hx hb dX14_lacksIt_10 rfl (lv_at hl 0 rfl) ?_
  refine nd_getS hx hb hts in_X18 hown hK hO (ci := 16) rfl him (v := .int (nI j)) 0 (by decide) rfl (hts _ q1067) dX14_lacksIt_11 ?_
  refine lv_ixor hx hb dX14_lacksIt_14 ?_
  obtain ⟨e9, rfl⟩ := Prod.mk.inj (Option.some.inj h)
  exact g_retG hx hb hr hlocks e9 hO hS dX14_lacksIt_15
theorem metX18_lacksIt_4 (l : Launch) (D : va_G) (aC : Nat → ClassId) (A : Nat → Prop) (o : Nat) (la : LC) (b j : Nat) (him : lIm la b = some (16, bodF o j)) (x : Int32) (z : GS) (r : Int32) (zq : GS) (h : FB18_lacksIt_4 (nI j) x z = some (r, zq)) : Met l yX18_lacksIt (ws_ yX18_lacksIt cX18_lacksIt 3 (some .int)) ({ frames := 3, cells := 0, slots := 0, locals := 63 }) (va_Pc [.ref b, .int x] (PC D aC A o la z)) (QG (some (.int r)) (OC D aC A o la zq) A) 0 0 A := by
  refine g_ofW (cc := cX18_lacksIt) (maxL := 3) (ret := (some .int)) (own := RX18) (by decide) rfl rfl [.ref b, .int x] (PC D aC A o la z) (Nat.le_of_ble_eq_true rfl) ?_
  intro p e s m below meth c ls hx hb hr hml hts hown hlocks hnm hPre hl
  obtain ⟨hO, hK, hA, hZ⟩ := hPre
  have hf : CallFix p m c cX18_lacksIt 3 s _ lw_all RX18 := ⟨hx, hb, hml, hown, hts⟩
  have hl : lv_has ls 3 [(0, .ref b), (1, .int x)] := hl
  refine g_open (A := A) (OC D aC A o la z) hO (fun H locs hO hS => ?_)
  unfold FB18_lacksIt_4 at h
  refine lv_aload_n hx hb dX18_lacksIt_0 rfl (lv_at hl 0 rfl) ?_
  refine nd_getS hx hb hts in_X18 hown hK hO (ci := 16) rfl him (v := .ref o) 3 (by decide) rfl (hts _ q1107) dX18_lacksIt_1 ?_
  refine lv_bipush (v := 50) hx hb dX18_lacksIt_4 (by decide) ?_
  obtain ⟨z1, e2, h⟩ := bn1_e h
  refine g_runG (mc := 0) (ms := 0) (va_runVN (As := [.int 50]) (rest := []) hf (metX0_ran l D aC A o la 50 z _ e2) ⟨va_cnB 1 hf.2.2.2.2 (lw_meth q1180) rfl rfl rfl (hK.2.1 _ q1256 rfl) (hts _ q90) (by decide +kernel) ⟨Nat.le_of_ble_eq_true rfl, Nat.le_of_ble_eq_true rfl⟩, hts _ q1179, hts _ qs48⟩ ⟨PC.blind, OC.recv hK hO, fun U hU hW => ⟨rfl, PC.at hO hK hA hZ hS hU hW⟩⟩ rfl rfl hl.1 rfl (lv_room (Nat.le_of_ble_eq_true rfl)) dX18_lacksIt_6 ⟨Nat.le_of_ble_eq_true rfl, Nat.le_of_ble_eq_true rfl⟩) hS (fun H locs hO hS _ _ => ?_)
  refine W.eq (g2 := F0 m 9 ls []) rfl ?_
  refine lv_aload_n hx hb dX18_lacksIt_9 rfl (lv_at hl 0 rfl) ?_
  refine lv_iload_n hx hb dX18_lacksIt_10 rfl (lv_at hl 1 rfl) ?_
  obtain ⟨a3, z4, e5, h⟩ := bnd_e h
  refine g_runG (mc := 0) (ms := 0) (va_runUp (x := ⟨"ShieldLine$Roof", "lacksIt", "(I)I"⟩) (n := 1) (As := [.int x]) (rest := []) hf (metX14_lacksIt_4 l D aC A o la b j him (x) z1 _ _ e5) (hts _ q1257) (hts _ q1258) (hts _ q1113) rfl (hts _ q1260) (subUp1 hts q1075) rfl (lw_meth q1261) (hts _ q119) (by decide) (by decide +kernel) ⟨Nat.le_of_ble_eq_true rfl, Nat.le_of_ble_eq_true rfl⟩ ⟨PC.blind, nd_recv hK hO (ci := 16) rfl him, fun U hU hW => ⟨rfl, PC.at hO hK hA hZ hS hU hW⟩⟩ rfl rfl hl.1 rfl (lv_room (Nat.le_of_ble_eq_true rfl)) dX18_lacksIt_11 ⟨Nat.le_of_ble_eq_true rfl, Nat.le_of_ble_eq_true rfl⟩ rfl rfl ⟨_, (hK.1.1 16 _ rfl).2⟩) hS (fun H locs hO hS _ _ => ?_)
  refine W.eq (g2 := F0 m 14 ls (.int a3 :: [])) rfl ?_
  refine lv_istore_n (lv' := [(2, .int a3), (0, .ref b), (1, .int x)]) hx hb dX18_lacksIt_14 rfl hl (by decide) rfl (fun ls hl => ?_)
  refine lv_iload_n hx hb dX18_lacksIt_15 rfl (lv_at hl 0 rfl) ?_
  refine lv_aload_n hx hb dX18_lacksIt_16 rfl (lv_at hl 1 rfl) ?_
  refine lv_iconst (v := 2) hx hb dX18_lacksIt_17 (by decide) ?_
  obtain ⟨a6, z7, e8, h⟩ := bnd_e h
  refine g_runG (mc := 0) (ms := 0) (va_runU (x := ⟨"ShieldLine$Widow", "bears", "(I)I"⟩) (owner := "ShieldLine$Roof") (C := "ShieldLine$Widow") (As := [.int 2]) (rest := [.int a3]) hf (metX15_bears_4 l D aC A o la b j him (2) z4 _ _ e8) (va_cwU 1 hf.2.2.2.2 (lw_app (absW q1262 q1263 q1266 q1184 q120) (lw_meth q1186)) rfl rfl rfl rfl (by decide +kernel) ⟨Nat.le_of_ble_eq_true rfl, Nat.le_of_ble_eq_true rfl⟩) ⟨PC.blind, nd_recv hK hO (ci := 16) rfl him, fun U hU hW => ⟨rfl, PC.at hO hK hA hZ hS hU hW⟩⟩ rfl rfl hl.1 rfl (lv_room (Nat.le_of_ble_eq_true rfl)) dX18_lacksIt_18 ⟨Nat.le_of_ble_eq_true rfl, Nat.le_of_ble_eq_true rfl⟩) hS (fun H locs hO hS _ _ => ?_)
  refine W.eq (g2 := F0 m 21 ls (.int a6 :: [.int a3])) rfl ?_
  refine lv_isub hx hb dX18_lacksIt_21 ?_
  obtain ⟨e9, rfl⟩ := Prod.mk.inj (Option.some.inj h)
  exact g_retG hx hb hr hlocks e9 hO hS dX18_lacksIt_22
theorem metX14_lacksIt_5 (l : Launch) (D : va_G) (aC : Nat → ClassId) (A : Nat → Prop) (o : Nat) (la : LC) (b j : Nat) (him : lIm la b = some (17, bodF o j)) (x : Int32) (z : GS) (r : Int32) (zq : GS) (h : FB14_lacksIt_5 (nI j) x z = some (r, zq)) : Met l yX14_lacksIt (ws_ yX14_lacksIt cX14_lacksIt 2 (some .int)) ({ frames := 1, cells := 0, slots := 0, locals := 21 }) (va_Pc [.ref b, .int x] (PC D aC A o la z)) (QG (some (.int r)) (OC D aC A o la zq) A) 0 0 A := by
  refine g_ofW (cc := cX14_lacksIt) (maxL := 2) (ret := (some .int)) (own := RX14) (by decide) rfl rfl [.ref b, .int x] (PC D aC A o la z) (Nat.le_of_ble_eq_true rfl) ?_
  intro p e s m below meth c ls hx hb hr hml hts hown hlocks hnm hPre hl
  obtain ⟨hO, hK, hA, hZ⟩ := hPre
  have hf : CallFix p m c cX14_lacksIt 2 s _ lw_all RX14 := ⟨hx, hb, hml, hown, hts⟩
  have hl : lv_has ls 2 [(0, .ref b), (1, .int x)] := hl
  refine g_open (A := A) (OC D aC A o la z) hO (fun H locs hO hS => ?_)
  unfold FB14_lacksIt_5 at h
  refine lv_aload_n hx hb dX14_lacksIt_0 rfl (lv_at hl 0 rfl) ?_
  refine nd_getS hx hb hts in_X19 hown hK hO (ci := 17) rfl him (v := .ref o) 1 (by decide) rfl (hts _ q1068) dX14_lacksIt_1 ?_
  refine lv_bipush (v := 11) hx hb dX14_lacksIt_4 (by decide) ?_
  obtain ⟨z1, e2, h⟩ := bn1_e h
  refine g_runG (mc := 0) (ms := 0) (va_runVN (As := [.int 11]) (rest := []) hf (metX0_ran l D aC A o la 11 z _ e2) ⟨va_cnB 1 hf.2.2.2.2 (lw_meth q1180) rfl rfl rfl (hK.2.1 _ q1177 rfl) (hts _ q90) (by decide +kernel) ⟨Nat.le_of_ble_eq_true rfl, Nat.le_of_ble_eq_true rfl⟩, hts _ q1179, hts _ qs48⟩ ⟨PC.blind, OC.recv hK hO, fun U hU hW => ⟨rfl, PC.at hO hK hA hZ hS hU hW⟩⟩ rfl rfl hl.1 rfl (lv_room (Nat.le_of_ble_eq_true rfl)) dX14_lacksIt_6 ⟨Nat.le_of_ble_eq_true rfl, Nat.le_of_ble_eq_true rfl⟩) hS (fun H locs hO hS _ _ => ?_)
  refine W.eq (g2 := F0 m 9 ls []) rfl ?_
  refine lv_iload_n hx hb dX14_lacksIt_9 rfl (lv_at hl 1 rfl) ?_
  refine lv_aload_n hx hb dX14_lacksIt_10 rfl (lv_at hl 0 rfl) ?_
  refine nd_getS hx hb hts in_X19 hown hK hO (ci := 17) rfl him (v := .int (nI j)) 0 (by decide) rfl (hts _ q1067) dX14_lacksIt_11 ?_
  refine lv_ixor hx hb dX14_lacksIt_14 ?_
  obtain ⟨e9, rfl⟩ := Prod.mk.inj (Option.some.inj h)
  exact g_retG hx hb hr hlocks e9 hO hS dX14_lacksIt_15
theorem metX17_lacksIt_5 (l : Launch) (D : va_G) (aC : Nat → ClassId) (A : Nat → Prop) (o : Nat) (la : LC) (b j : Nat) (him : lIm la b = some (17, bodF o j)) (x : Int32) (z : GS) (r : Int32) (zq : GS) (h : FB17_lacksIt_5 (nI j) x z = some (r, zq)) : Met l yX17_lacksIt (ws_ yX17_lacksIt cX17_lacksIt 2 (some .int)) ({ frames := 2, cells := 0, slots := 0, locals := 42 }) (va_Pc [.ref b, .int x] (PC D aC A o la z)) (QG (some (.int r)) (OC D aC A o la zq) A) 0 0 A := by
  refine g_ofW (cc := cX17_lacksIt) (maxL := 2) (ret := (some .int)) (own := RX17) (by decide) rfl rfl [.ref b, .int x] (PC D aC A o la z) (Nat.le_of_ble_eq_true rfl) ?_
  intro p e s m below meth c ls hx hb hr hml hts hown hlocks hnm hPre hl
  obtain ⟨hO, hK, hA, hZ⟩ := hPre
  have hf : CallFix p m c cX17_lacksIt 2 s _ lw_all RX17 := ⟨hx, hb, hml, hown, hts⟩
  have hl : lv_has ls 2 [(0, .ref b), (1, .int x)] := hl
  refine g_open (A := A) (OC D aC A o la z) hO (fun H locs hO hS => ?_)
  unfold FB17_lacksIt_5 at h
  refine lv_aload_n hx hb dX17_lacksIt_0 rfl (lv_at hl 0 rfl) ?_
  refine nd_getS hx hb hts in_X19 hown hK hO (ci := 17) rfl him (v := .ref o) 3 (by decide) rfl (hts _ q1094) dX17_lacksIt_1 ?_
  refine lv_bipush (v := 40) hx hb dX17_lacksIt_4 (by decide) ?_
  obtain ⟨z1, e2, h⟩ := bn1_e h
  refine g_runG (mc := 0) (ms := 0) (va_runVN (As := [.int 40]) (rest := []) hf (metX0_ran l D aC A o la 40 z _ e2) ⟨va_cnB 1 hf.2.2.2.2 (lw_meth q1180) rfl rfl rfl (hK.2.1 _ q1235 rfl) (hts _ q90) (by decide +kernel) ⟨Nat.le_of_ble_eq_true rfl, Nat.le_of_ble_eq_true rfl⟩, hts _ q1179, hts _ qs48⟩ ⟨PC.blind, OC.recv hK hO, fun U hU hW => ⟨rfl, PC.at hO hK hA hZ hS hU hW⟩⟩ rfl rfl hl.1 rfl (lv_room (Nat.le_of_ble_eq_true rfl)) dX17_lacksIt_6 ⟨Nat.le_of_ble_eq_true rfl, Nat.le_of_ble_eq_true rfl⟩) hS (fun H locs hO hS _ _ => ?_)
  refine W.eq (g2 := F0 m 9 ls []) rfl ?_
  refine lv_aload_n hx hb dX17_lacksIt_9 rfl (lv_at hl 0 rfl) ?_
  refine lv_iload_n hx hb dX17_lacksIt_10 rfl (lv_at hl 1 rfl) ?_
  obtain ⟨a3, z4, e5, h⟩ := bnd_e h
  refine g_runG (mc := 0) (ms := 0) (va_runUp (x := ⟨"ShieldLine$Lamp", "lacksIt", "(I)I"⟩) (n := 1) (As := [.int x]) (rest := []) hf (metX14_lacksIt_5 l D aC A o la b j him (x) z1 _ _ e5) (hts _ q1275) (hts _ q1276) (hts _ q1100) rfl (hts _ q1260) (subUp1 hts q1087) rfl (lw_meth q1261) (hts _ q119) (by decide) (by decide +kernel) ⟨Nat.le_of_ble_eq_true rfl, Nat.le_of_ble_eq_true rfl⟩ ⟨PC.blind, nd_recv hK hO (ci := 17) rfl him, fun U hU hW => ⟨rfl, PC.at hO hK hA hZ hS hU hW⟩⟩ rfl rfl hl.1 rfl (lv_room (Nat.le_of_ble_eq_true rfl)) dX17_lacksIt_11 ⟨Nat.le_of_ble_eq_true rfl, Nat.le_of_ble_eq_true rfl⟩ rfl rfl ⟨_, (hK.1.1 17 _ rfl).2⟩) hS (fun H locs hO hS _ _ => ?_)
  refine W.eq (g2 := F0 m 14 ls (.int a3 :: [])) rfl ?_
  refine lv_iconst (v := 3) hx hb dX17_lacksIt_14 (by decide) ?_
  refine lv_imul hx hb dX17_lacksIt_15 ?_
  obtain ⟨e9, rfl⟩ := Prod.mk.inj (Option.some.inj h)
  exact g_retG hx hb hr hlocks e9 hO hS dX17_lacksIt_16
theorem metX14_lacksIt_6 (l : Launch) (D : va_G) (aC : Nat → ClassId) (A : Nat → Prop) (o : Nat) (la : LC) (b j : Nat) (him : lIm la b = some (18, bodF o j)) (x : Int32) (z : GS) (r : Int32) (zq : GS) (h : FB14_lacksIt_6 (nI j) x z = some (r, zq)) : Met l yX14_lacksIt (ws_ yX14_lacksIt cX14_lacksIt 2 (some .int)) ({ frames := 1, cells := 0, slots := 0, locals := 21 }) (va_Pc [.ref b, .int x] (PC D aC A o la z)) (QG (some (.int r)) (OC D aC A o la zq) A) 0 0 A := by
  refine g_ofW (cc := cX14_lacksIt) (maxL := 2) (ret := (some .int)) (own := RX14) (by decide) rfl rfl [.ref b, .int x] (PC D aC A o la z) (Nat.le_of_ble_eq_true rfl) ?_
  intro p e s m below meth c ls hx hb hr hml hts hown hlocks hnm hPre hl
  obtain ⟨hO, hK, hA, hZ⟩ := hPre
  have hf : CallFix p m c cX14_lacksIt 2 s _ lw_all RX14 := ⟨hx, hb, hml, hown, hts⟩
  have hl : lv_has ls 2 [(0, .ref b), (1, .int x)] := hl
  refine g_open (A := A) (OC D aC A o la z) hO (fun H locs hO hS => ?_)
  unfold FB14_lacksIt_6 at h
  refine lv_aload_n hx hb dX14_lacksIt_0 rfl (lv_at hl 0 rfl) ?_
  refine nd_getS hx hb hts in_X20 hown hK hO (ci := 18) rfl him (v := .ref o) 1 (by decide) rfl (hts _ q1068) dX14_lacksIt_1 ?_
  refine lv_bipush (v := 11) hx hb dX14_lacksIt_4 (by decide) ?_
  obtain ⟨z1, e2, h⟩ := bn1_e h
  refine g_runG (mc := 0) (ms := 0) (va_runVN (As := [.int 11]) (rest := []) hf (metX0_ran l D aC A o la 11 z _ e2) ⟨va_cnB 1 hf.2.2.2.2 (lw_meth q1180) rfl rfl rfl (hK.2.1 _ q1177 rfl) (hts _ q90) (by decide +kernel) ⟨Nat.le_of_ble_eq_true rfl, Nat.le_of_ble_eq_true rfl⟩, hts _ q1179, hts _ qs48⟩ ⟨PC.blind, OC.recv hK hO, fun U hU hW => ⟨rfl, PC.at hO hK hA hZ hS hU hW⟩⟩ rfl rfl hl.1 rfl (lv_room (Nat.le_of_ble_eq_true rfl)) dX14_lacksIt_6 ⟨Nat.le_of_ble_eq_true rfl, Nat.le_of_ble_eq_true rfl⟩) hS (fun H locs hO hS _ _ => ?_)
  refine W.eq (g2 := F0 m 9 ls []) rfl ?_
  refine lv_iload_n hx hb dX14_lacksIt_9 rfl (lv_at hl 1 rfl) ?_
  refine lv_aload_n hx hb dX14_lacksIt_10 rfl (lv_at hl 0 rfl) ?_
  refine nd_getS hx hb hts in_X20 hown hK hO (ci := 18) rfl him (v := .int (nI j)) 0 (by decide) rfl (hts _ q1067) dX14_lacksIt_11 ?_
  refine lv_ixor hx hb dX14_lacksIt_14 ?_
  obtain ⟨e9, rfl⟩ := Prod.mk.inj (Option.some.inj h)
  exact g_retG hx hb hr hlocks e9 hO hS dX14_lacksIt_15
theorem metX14_tells_0 (l : Launch) (D : va_G) (aC : Nat → ClassId) (A : Nat → Prop) (o : Nat) (la : LC) (b j : Nat) (him : lIm la b = some (12, bodF o j)) (x : Int32) (z : GS) (r : Int32) (zq : GS) (h : FB14_tells_0 (nI j) x z = some (r, zq)) : Met l yX14_tells (ws_ yX14_tells cX14_tells 3 (some .int)) ({ frames := 3, cells := 0, slots := 0, locals := 63 }) (va_Pc [.ref b, .int x] (PC D aC A o la z)) (QG (some (.int r)) (OC D aC A o la zq) A) 0 0 A := by
  refine g_ofW (cc := cX14_tells) (maxL := 3) (ret := (some .int)) (own := RX14) (by decide) rfl rfl [.ref b, .int x] (PC D aC A o la z) (Nat.le_of_ble_eq_true rfl) ?_
  intro p e s m below meth c ls hx hb hr hml hts hown hlocks hnm hPre hl
  obtain ⟨hO, hK, hA, hZ⟩ := hPre
  have hf : CallFix p m c cX14_tells 3 s _ lw_all RX14 := ⟨hx, hb, hml, hown, hts⟩
  have hl : lv_has ls 3 [(0, .ref b), (1, .int x)] := hl
  refine g_open (A := A) (OC D aC A o la z) hO (fun H locs hO hS => ?_)
  unfold FB14_tells_0 at h
  refine lv_aload_n hx hb dX14_tells_0 rfl (lv_at hl 0 rfl) ?_
  refine nd_getS hx hb hts in_X14 hown hK hO (ci := 12) rfl him (v := .ref o) 1 (by decide) rfl (hts _ q1068) dX14_tells_1 ?_
  refine lv_iconst (v := 2) hx hb dX14_tells_4 (by decide) ?_
  obtain ⟨z1, e2, h⟩ := bn1_e h
  refine g_runG (mc := 0) (ms := 0) (va_runVN (As := [.int 2]) (rest := []) hf (metX0_ran l D aC A o la 2 z _ e2) ⟨va_cnB 1 hf.2.2.2.2 (lw_meth q1180) rfl rfl rfl (hK.2.1 _ q1177 rfl) (hts _ q90) (by decide +kernel) ⟨Nat.le_of_ble_eq_true rfl, Nat.le_of_ble_eq_true rfl⟩, hts _ q1179, hts _ qs48⟩ ⟨PC.blind, OC.recv hK hO, fun U hU hW => ⟨rfl, PC.at hO hK hA hZ hS hU hW⟩⟩ rfl rfl hl.1 rfl (lv_room (Nat.le_of_ble_eq_true rfl)) dX14_tells_5 ⟨Nat.le_of_ble_eq_true rfl, Nat.le_of_ble_eq_true rfl⟩) hS (fun H locs hO hS _ _ => ?_)
  refine W.eq (g2 := F0 m 8 ls []) rfl ?_
  refine lv_aload_n hx hb dX14_tells_8 rfl (lv_at hl 0 rfl) ?_
  refine lv_iload_n hx hb dX14_tells_9 rfl (lv_at hl 1 rfl) ?_
  obtain ⟨a3, z4, e5, h⟩ := bnd_e h
  refine g_runG (mc := 0) (ms := 0) (va_runU (x := ⟨"ShieldLine$Shield", "caresFor", "(I)I"⟩) (owner := "ShieldLine$Shield") (C := "ShieldLine$Shield") (As := [.int x]) (rest := []) hf (metX14_caresFor_0 l D aC A o la b j him (x) z1 _ _ e5) (va_cwU 1 hf.2.2.2.2 (lw_app (absW q1228 q1231 q1230 q1229 q119) (lw_meth q1241)) rfl rfl rfl rfl (by decide +kernel) ⟨Nat.le_of_ble_eq_true rfl, Nat.le_of_ble_eq_true rfl⟩) ⟨PC.blind, nd_recv hK hO (ci := 12) rfl him, fun U hU hW => ⟨rfl, PC.at hO hK hA hZ hS hU hW⟩⟩ rfl rfl hl.1 rfl (lv_room (Nat.le_of_ble_eq_true rfl)) dX14_tells_10 ⟨Nat.le_of_ble_eq_true rfl, Nat.le_of_ble_eq_true rfl⟩) hS (fun H locs hO hS _ _ => ?_)
  refine W.eq (g2 := F0 m 13 ls (.int a3 :: [])) rfl ?_
  refine lv_istore_n (lv' := [(2, .int a3), (0, .ref b), (1, .int x)]) hx hb dX14_tells_13 rfl hl (by decide) rfl (fun ls hl => ?_)
  refine lv_iload_n hx hb dX14_tells_14 rfl (lv_at hl 0 rfl) ?_
  refine lv_aload_n hx hb dX14_tells_15 rfl (lv_at hl 1 rfl) ?_
  refine lv_iconst (v := 1) hx hb dX14_tells_16 (by decide) ?_
  obtain ⟨a6, z7, e8, h⟩ := bnd_e h
  refine g_runG (mc := 0) (ms := 0) (va_runU (x := ⟨"ShieldLine$Shield", "lacksIt", "(I)I"⟩) (owner := "ShieldLine$Shield") (C := "ShieldLine$Shield") (As := [.int 1]) (rest := [.int a3]) hf (metX14_lacksIt_0 l D aC A o la b j him (1) z4 _ _ e8) (va_cwU 1 hf.2.2.2.2 (lw_app (absW q1272 q2018 q2025 q1260 q119) (lw_meth q1261)) rfl rfl rfl rfl (by decide +kernel) ⟨Nat.le_of_ble_eq_true rfl, Nat.le_of_ble_eq_true rfl⟩) ⟨PC.blind, nd_recv hK hO (ci := 12) rfl him, fun U hU hW => ⟨rfl, PC.at hO hK hA hZ hS hU hW⟩⟩ rfl rfl hl.1 rfl (lv_room (Nat.le_of_ble_eq_true rfl)) dX14_tells_17 ⟨Nat.le_of_ble_eq_true rfl, Nat.le_of_ble_eq_true rfl⟩) hS (fun H locs hO hS _ _ => ?_)
  refine W.eq (g2 := F0 m 20 ls (.int a6 :: [.int a3])) rfl ?_
  refine lv_isub hx hb dX14_tells_20 ?_
  obtain ⟨e9, rfl⟩ := Prod.mk.inj (Option.some.inj h)
  exact g_retG hx hb hr hlocks e9 hO hS dX14_tells_21
theorem metX14_tells_1 (l : Launch) (D : va_G) (aC : Nat → ClassId) (A : Nat → Prop) (o : Nat) (la : LC) (b j : Nat) (him : lIm la b = some (13, bodF o j)) (x : Int32) (z : GS) (r : Int32) (zq : GS) (h : FB14_tells_1 (nI j) x z = some (r, zq)) : Met l yX14_tells (ws_ yX14_tells cX14_tells 3 (some .int)) ({ frames := 4, cells := 0, slots := 0, locals := 84 }) (va_Pc [.ref b, .int x] (PC D aC A o la z)) (QG (some (.int r)) (OC D aC A o la zq) A) 0 0 A := by
  refine g_ofW (cc := cX14_tells) (maxL := 3) (ret := (some .int)) (own := RX14) (by decide) rfl rfl [.ref b, .int x] (PC D aC A o la z) (Nat.le_of_ble_eq_true rfl) ?_
  intro p e s m below meth c ls hx hb hr hml hts hown hlocks hnm hPre hl
  obtain ⟨hO, hK, hA, hZ⟩ := hPre
  have hf : CallFix p m c cX14_tells 3 s _ lw_all RX14 := ⟨hx, hb, hml, hown, hts⟩
  have hl : lv_has ls 3 [(0, .ref b), (1, .int x)] := hl
  refine g_open (A := A) (OC D aC A o la z) hO (fun H locs hO hS => ?_)
  unfold FB14_tells_1 at h
  refine lv_aload_n hx hb dX14_tells_0 rfl (lv_at hl 0 rfl) ?_
  refine nd_getS hx hb hts in_X15 hown hK hO (ci := 13) rfl him (v := .ref o) 1 (by decide) rfl (hts _ q1068) dX14_tells_1 ?_
  refine lv_iconst (v := 2) hx hb dX14_tells_4 (by decide) ?_
  obtain ⟨z1, e2, h⟩ := bn1_e h
  refine g_runG (mc := 0) (ms := 0) (va_runVN (As := [.int 2]) (rest := []) hf (metX0_ran l D aC A o la 2 z _ e2) ⟨va_cnB 1 hf.2.2.2.2 (lw_meth q1180) rfl rfl rfl (hK.2.1 _ q1177 rfl) (hts _ q90) (by decide +kernel) ⟨Nat.le_of_ble_eq_true rfl, Nat.le_of_ble_eq_true rfl⟩, hts _ q1179, hts _ qs48⟩ ⟨PC.blind, OC.recv hK hO, fun U hU hW => ⟨rfl, PC.at hO hK hA hZ hS hU hW⟩⟩ rfl rfl hl.1 rfl (lv_room (Nat.le_of_ble_eq_true rfl)) dX14_tells_5 ⟨Nat.le_of_ble_eq_true rfl, Nat.le_of_ble_eq_true rfl⟩) hS (fun H locs hO hS _ _ => ?_)
  refine W.eq (g2 := F0 m 8 ls []) rfl ?_
  refine lv_aload_n hx hb dX14_tells_8 rfl (lv_at hl 0 rfl) ?_
  refine lv_iload_n hx hb dX14_tells_9 rfl (lv_at hl 1 rfl) ?_
  obtain ⟨a3, z4, e5, h⟩ := bnd_e h
  refine g_runG (mc := 0) (ms := 0) (va_runU (x := ⟨"ShieldLine$Shield", "caresFor", "(I)I"⟩) (owner := "ShieldLine$Shield") (C := "ShieldLine$Roof") (As := [.int x]) (rest := []) hf (metX14_caresFor_1 l D aC A o la b j him (x) z1 _ _ e5) (va_cwU 1 hf.2.2.2.2 (lw_app (absW q1228 q1231 q1270 q1229 q119) (lw_meth q1241)) rfl rfl rfl rfl (by decide +kernel) ⟨Nat.le_of_ble_eq_true rfl, Nat.le_of_ble_eq_true rfl⟩) ⟨PC.blind, nd_recv hK hO (ci := 13) rfl him, fun U hU hW => ⟨rfl, PC.at hO hK hA hZ hS hU hW⟩⟩ rfl rfl hl.1 rfl (lv_room (Nat.le_of_ble_eq_true rfl)) dX14_tells_10 ⟨Nat.le_of_ble_eq_true rfl, Nat.le_of_ble_eq_true rfl⟩) hS (fun H locs hO hS _ _ => ?_)
  refine W.eq (g2 := F0 m 13 ls (.int a3 :: [])) rfl ?_
  refine lv_istore_n (lv' := [(2, .int a3), (0, .ref b), (1, .int x)]) hx hb dX14_tells_13 rfl hl (by decide) rfl (fun ls hl => ?_)
  refine lv_iload_n hx hb dX14_tells_14 rfl (lv_at hl 0 rfl) ?_
  refine lv_aload_n hx hb dX14_tells_15 rfl (lv_at hl 1 rfl) ?_
  refine lv_iconst (v := 1) hx hb dX14_tells_16 (by decide) ?_
  obtain ⟨a6, z7, e8, h⟩ := bnd_e h
  refine g_runG (mc := 0) (ms := 0) (va_runU (x := ⟨"ShieldLine$Shield", "lacksIt", "(I)I"⟩) (owner := "ShieldLine$Shield") (C := "ShieldLine$Roof") (As := [.int 1]) (rest := [.int a3]) hf (metX14_lacksIt_1 l D aC A o la b j him (1) z4 _ _ e8) (va_cwU 1 hf.2.2.2.2 (lw_app (absW q1272 q2018 q2024 q1260 q119) (lw_meth q1261)) rfl rfl rfl rfl (by decide +kernel) ⟨Nat.le_of_ble_eq_true rfl, Nat.le_of_ble_eq_true rfl⟩) ⟨PC.blind, nd_recv hK hO (ci := 13) rfl him, fun U hU hW => ⟨rfl, PC.at hO hK hA hZ hS hU hW⟩⟩ rfl rfl hl.1 rfl (lv_room (Nat.le_of_ble_eq_true rfl)) dX14_tells_17 ⟨Nat.le_of_ble_eq_true rfl, Nat.le_of_ble_eq_true rfl⟩) hS (fun H locs hO hS _ _ => ?_)
  refine W.eq (g2 := F0 m 20 ls (.int a6 :: [.int a3])) rfl ?_
  refine lv_isub hx hb dX14_tells_20 ?_
  obtain ⟨e9, rfl⟩ := Prod.mk.inj (Option.some.inj h)
  exact g_retG hx hb hr hlocks e9 hO hS dX14_tells_21
theorem metX14_tells_2 (l : Launch) (D : va_G) (aC : Nat → ClassId) (A : Nat → Prop) (o : Nat) (la : LC) (b j : Nat) (him : lIm la b = some (14, bodF o j)) (x : Int32) (z : GS) (r : Int32) (zq : GS) (h : FB14_tells_2 (nI j) x z = some (r, zq)) : Met l yX14_tells (ws_ yX14_tells cX14_tells 3 (some .int)) ({ frames := 4, cells := 0, slots := 0, locals := 84 }) (va_Pc [.ref b, .int x] (PC D aC A o la z)) (QG (some (.int r)) (OC D aC A o la zq) A) 0 0 A := by
  refine g_ofW (cc := cX14_tells) (maxL := 3) (ret := (some .int)) (own := RX14) (by decide) rfl rfl [.ref b, .int x] (PC D aC A o la z) (Nat.le_of_ble_eq_true rfl) ?_
  intro p e s m below meth c ls hx hb hr hml hts hown hlocks hnm hPre hl
  obtain ⟨hO, hK, hA, hZ⟩ := hPre
  have hf : CallFix p m c cX14_tells 3 s _ lw_all RX14 := ⟨hx, hb, hml, hown, hts⟩
  have hl : lv_has ls 3 [(0, .ref b), (1, .int x)] := hl
  refine g_open (A := A) (OC D aC A o la z) hO (fun H locs hO hS => ?_)
  unfold FB14_tells_2 at h
  refine lv_aload_n hx hb dX14_tells_0 rfl (lv_at hl 0 rfl) ?_
  refine nd_getS hx hb hts in_X16 hown hK hO (ci := 14) rfl him (v := .ref o) 1 (by decide) rfl (hts _ q1068) dX14_tells_1 ?_
  refine lv_iconst (v := 2) hx hb dX14_tells_4 (by decide) ?_
  obtain ⟨z1, e2, h⟩ := bn1_e h
  refine g_runG (mc := 0) (ms := 0) (va_runVN (As := [.int 2]) (rest := []) hf (metX0_ran l D aC A o la 2 z _ e2) ⟨va_cnB 1 hf.2.2.2.2 (lw_meth q1180) rfl rfl rfl (hK.2.1 _ q1177 rfl) (hts _ q90) (by decide +kernel) ⟨Nat.le_of_ble_eq_true rfl, Nat.le_of_ble_eq_true rfl⟩, hts _ q1179, hts _ qs48⟩ ⟨PC.blind, OC.recv hK hO, fun U hU hW => ⟨rfl, PC.at hO hK hA hZ hS hU hW⟩⟩ rfl rfl hl.1 rfl (lv_room (Nat.le_of_ble_eq_true rfl)) dX14_tells_5 ⟨Nat.le_of_ble_eq_true rfl, Nat.le_of_ble_eq_true rfl⟩) hS (fun H locs hO hS _ _ => ?_)
  refine W.eq (g2 := F0 m 8 ls []) rfl ?_
  refine lv_aload_n hx hb dX14_tells_8 rfl (lv_at hl 0 rfl) ?_
  refine lv_iload_n hx hb dX14_tells_9 rfl (lv_at hl 1 rfl) ?_
  obtain ⟨a3, z4, e5, h⟩ := bnd_e h
  refine g_runG (mc := 0) (ms := 0) (va_runU (x := ⟨"ShieldLine$Shield", "caresFor", "(I)I"⟩) (owner := "ShieldLine$Shield") (C := "ShieldLine$Lamp") (As := [.int x]) (rest := []) hf (metX16_caresFor_2 l D aC A o la b j him (x) z1 _ _ e5) (va_cwO 1 hf.2.2.2.2 (lw_app (absO q1228 q1231 q1229 q1268 q1237 q121) (lw_meth q1238)) rfl rfl rfl q1241 (by decide +kernel) ⟨Nat.le_of_ble_eq_true rfl, Nat.le_of_ble_eq_true rfl⟩) ⟨PC.blind, nd_recv hK hO (ci := 14) rfl him, fun U hU hW => ⟨rfl, PC.at hO hK hA hZ hS hU hW⟩⟩ rfl rfl hl.1 rfl (lv_room (Nat.le_of_ble_eq_true rfl)) dX14_tells_10 ⟨Nat.le_of_ble_eq_true rfl, Nat.le_of_ble_eq_true rfl⟩) hS (fun H locs hO hS _ _ => ?_)
  refine W.eq (g2 := F0 m 13 ls (.int a3 :: [])) rfl ?_
  refine lv_istore_n (lv' := [(2, .int a3), (0, .ref b), (1, .int x)]) hx hb dX14_tells_13 rfl hl (by decide) rfl (fun ls hl => ?_)
  refine lv_iload_n hx hb dX14_tells_14 rfl (lv_at hl 0 rfl) ?_
  refine lv_aload_n hx hb dX14_tells_15 rfl (lv_at hl 1 rfl) ?_
  refine lv_iconst (v := 1) hx hb dX14_tells_16 (by decide) ?_
  obtain ⟨a6, z7, e8, h⟩ := bnd_e h
  refine g_runG (mc := 0) (ms := 0) (va_runU (x := ⟨"ShieldLine$Shield", "lacksIt", "(I)I"⟩) (owner := "ShieldLine$Shield") (C := "ShieldLine$Lamp") (As := [.int 1]) (rest := [.int a3]) hf (metX14_lacksIt_2 l D aC A o la b j him (1) z4 _ _ e8) (va_cwU 1 hf.2.2.2.2 (lw_app (absW q1272 q2018 q2022 q1260 q119) (lw_meth q1261)) rfl rfl rfl rfl (by decide +kernel) ⟨Nat.le_of_ble_eq_true rfl, Nat.le_of_ble_eq_true rfl⟩) ⟨PC.blind, nd_recv hK hO (ci := 14) rfl him, fun U hU hW => ⟨rfl, PC.at hO hK hA hZ hS hU hW⟩⟩ rfl rfl hl.1 rfl (lv_room (Nat.le_of_ble_eq_true rfl)) dX14_tells_17 ⟨Nat.le_of_ble_eq_true rfl, Nat.le_of_ble_eq_true rfl⟩) hS (fun H locs hO hS _ _ => ?_)
  refine W.eq (g2 := F0 m 20 ls (.int a6 :: [.int a3])) rfl ?_
  refine lv_isub hx hb dX14_tells_20 ?_
  obtain ⟨e9, rfl⟩ := Prod.mk.inj (Option.some.inj h)
  exact g_retG hx hb hr hlocks e9 hO hS dX14_tells_21
theorem metX14_tells_3 (l : Launch) (D : va_G) (aC : Nat → ClassId) (A : Nat → Prop) (o : Nat) (la : LC) (b j : Nat) (him : lIm la b = some (15, bodF o j)) (x : Int32) (z : GS) (r : Int32) (zq : GS) (h : FB14_tells_3 (nI j) x z = some (r, zq)) : Met l yX14_tells (ws_ yX14_tells cX14_tells 3 (some .int)) ({ frames := 5, cells := 0, slots := 0, locals := 105 }) (va_Pc [.ref b, .int x] (PC D aC A o la z)) (QG (some (.int r)) (OC D aC A o la zq) A) 0 0 A := by
  refine g_ofW (cc := cX14_tells) (maxL := 3) (ret := (some .int)) (own := RX14) (by decide) rfl rfl [.ref b, .int x] (PC D aC A o la z) (Nat.le_of_ble_eq_true rfl) ?_
  intro p e s m below meth c ls hx hb hr hml hts hown hlocks hnm hPre hl
  obtain ⟨hO, hK, hA, hZ⟩ := hPre
  have hf : CallFix p m c cX14_tells 3 s _ lw_all RX14 := ⟨hx, hb, hml, hown, hts⟩
  have hl : lv_has ls 3 [(0, .ref b), (1, .int x)] := hl
  refine g_open (A := A) (OC D aC A o la z) hO (fun H locs hO hS => ?_)
  unfold FB14_tells_3 at h
  refine lv_aload_n hx hb dX14_tells_0 rfl (lv_at hl 0 rfl) ?_
  refine nd_getS hx hb hts in_X17 hown hK hO (ci := 15) rfl him (v := .ref o) 1 (by decide) rfl (hts _ q1068) dX14_tells_1 ?_
  refine lv_iconst (v := 2) hx hb dX14_tells_4 (by decide) ?_
  obtain ⟨z1, e2, h⟩ := bn1_e h
  refine g_runG (mc := 0) (ms := 0) (va_runVN (As := [.int 2]) (rest := []) hf (metX0_ran l D aC A o la 2 z _ e2) ⟨va_cnB 1 hf.2.2.2.2 (lw_meth q1180) rfl rfl rfl (hK.2.1 _ q1177 rfl) (hts _ q90) (by decide +kernel) ⟨Nat.le_of_ble_eq_true rfl, Nat.le_of_ble_eq_true rfl⟩, hts _ q1179, hts _ qs48⟩ ⟨PC.blind, OC.recv hK hO, fun U hU hW => ⟨rfl, PC.at hO hK hA hZ hS hU hW⟩⟩ rfl rfl hl.1 rfl (lv_room (Nat.le_of_ble_eq_true rfl)) dX14_tells_5 ⟨Nat.le_of_ble_eq_true rfl, Nat.le_of_ble_eq_true rfl⟩) hS (fun H locs hO hS _ _ => ?_)
  refine W.eq (g2 := F0 m 8 ls []) rfl ?_
  refine lv_aload_n hx hb dX14_tells_8 rfl (lv_at hl 0 rfl) ?_
  refine lv_iload_n hx hb dX14_tells_9 rfl (lv_at hl 1 rfl) ?_
  obtain ⟨a3, z4, e5, h⟩ := bnd_e h
  refine g_runG (mc := 0) (ms := 0) (va_runU (x := ⟨"ShieldLine$Shield", "caresFor", "(I)I"⟩) (owner := "ShieldLine$Shield") (C := "ShieldLine$Post") (As := [.int x]) (rest := []) hf (metX17_caresFor_3 l D aC A o la b j him (x) z1 _ _ e5) (va_cwO 1 hf.2.2.2.2 (lw_app (absO q1228 q1231 q1229 q1269 q1233 q122) (lw_meth q1234)) rfl rfl rfl q1241 (by decide +kernel) ⟨Nat.le_of_ble_eq_true rfl, Nat.le_of_ble_eq_true rfl⟩) ⟨PC.blind, nd_recv hK hO (ci := 15) rfl him, fun U hU hW => ⟨rfl, PC.at hO hK hA hZ hS hU hW⟩⟩ rfl rfl hl.1 rfl (lv_room (Nat.le_of_ble_eq_true rfl)) dX14_tells_10 ⟨Nat.le_of_ble_eq_true rfl, Nat.le_of_ble_eq_true rfl⟩) hS (fun H locs hO hS _ _ => ?_)
  refine W.eq (g2 := F0 m 13 ls (.int a3 :: [])) rfl ?_
  refine lv_istore_n (lv' := [(2, .int a3), (0, .ref b), (1, .int x)]) hx hb dX14_tells_13 rfl hl (by decide) rfl (fun ls hl => ?_)
  refine lv_iload_n hx hb dX14_tells_14 rfl (lv_at hl 0 rfl) ?_
  refine lv_aload_n hx hb dX14_tells_15 rfl (lv_at hl 1 rfl) ?_
  refine lv_iconst (v := 1) hx hb dX14_tells_16 (by decide) ?_
  obtain ⟨a6, z7, e8, h⟩ := bnd_e h
  refine g_runG (mc := 0) (ms := 0) (va_runU (x := ⟨"ShieldLine$Shield", "lacksIt", "(I)I"⟩) (owner := "ShieldLine$Shield") (C := "ShieldLine$Post") (As := [.int 1]) (rest := [.int a3]) hf (metX17_lacksIt_3 l D aC A o la b j him (1) z4 _ _ e8) (va_cwO 1 hf.2.2.2.2 (lw_app (absO q1272 q2018 q1260 q2023 q1273 q122) (lw_meth q1274)) rfl rfl rfl q1261 (by decide +kernel) ⟨Nat.le_of_ble_eq_true rfl, Nat.le_of_ble_eq_true rfl⟩) ⟨PC.blind, nd_recv hK hO (ci := 15) rfl him, fun U hU hW => ⟨rfl, PC.at hO hK hA hZ hS hU hW⟩⟩ rfl rfl hl.1 rfl (lv_room (Nat.le_of_ble_eq_true rfl)) dX14_tells_17 ⟨Nat.le_of_ble_eq_true rfl, Nat.le_of_ble_eq_true rfl⟩) hS (fun H locs hO hS _ _ => ?_)
  refine W.eq (g2 := F0 m 20 ls (.int a6 :: [.int a3])) rfl ?_
  refine lv_isub hx hb dX14_tells_20 ?_
  obtain ⟨e9, rfl⟩ := Prod.mk.inj (Option.some.inj h)
  exact g_retG hx hb hr hlocks e9 hO hS dX14_tells_21
theorem metX14_tells_4 (l : Launch) (D : va_G) (aC : Nat → ClassId) (A : Nat → Prop) (o : Nat) (la : LC) (b j : Nat) (him : lIm la b = some (16, bodF o j)) (x : Int32) (z : GS) (r : Int32) (zq : GS) (h : FB14_tells_4 (nI j) x z = some (r, zq)) : Met l yX14_tells (ws_ yX14_tells cX14_tells 3 (some .int)) ({ frames := 4, cells := 0, slots := 0, locals := 85 }) (va_Pc [.ref b, .int x] (PC D aC A o la z)) (QG (some (.int r)) (OC D aC A o la zq) A) 0 0 A := by
  refine g_ofW (cc := cX14_tells) (maxL := 3) (ret := (some .int)) (own := RX14) (by decide) rfl rfl [.ref b, .int x] (PC D aC A o la z) (Nat.le_of_ble_eq_true rfl) ?_
  intro p e s m below meth c ls hx hb hr hml hts hown hlocks hnm hPre hl
  obtain ⟨hO, hK, hA, hZ⟩ := hPre
  have hf : CallFix p m c cX14_tells 3 s _ lw_all RX14 := ⟨hx, hb, hml, hown, hts⟩
  have hl : lv_has ls 3 [(0, .ref b), (1, .int x)] := hl
  refine g_open (A := A) (OC D aC A o la z) hO (fun H locs hO hS => ?_)
  unfold FB14_tells_4 at h
  refine lv_aload_n hx hb dX14_tells_0 rfl (lv_at hl 0 rfl) ?_
  refine nd_getS hx hb hts in_X18 hown hK hO (ci := 16) rfl him (v := .ref o) 1 (by decide) rfl (hts _ q1068) dX14_tells_1 ?_
  refine lv_iconst (v := 2) hx hb dX14_tells_4 (by decide) ?_
  obtain ⟨z1, e2, h⟩ := bn1_e h
  refine g_runG (mc := 0) (ms := 0) (va_runVN (As := [.int 2]) (rest := []) hf (metX0_ran l D aC A o la 2 z _ e2) ⟨va_cnB 1 hf.2.2.2.2 (lw_meth q1180) rfl rfl rfl (hK.2.1 _ q1177 rfl) (hts _ q90) (by decide +kernel) ⟨Nat.le_of_ble_eq_true rfl, Nat.le_of_ble_eq_true rfl⟩, hts _ q1179, hts _ qs48⟩ ⟨PC.blind, OC.recv hK hO, fun U hU hW => ⟨rfl, PC.at hO hK hA hZ hS hU hW⟩⟩ rfl rfl hl.1 rfl (lv_room (Nat.le_of_ble_eq_true rfl)) dX14_tells_5 ⟨Nat.le_of_ble_eq_true rfl, Nat.le_of_ble_eq_true rfl⟩) hS (fun H locs hO hS _ _ => ?_)
  refine W.eq (g2 := F0 m 8 ls []) rfl ?_
  refine lv_aload_n hx hb dX14_tells_8 rfl (lv_at hl 0 rfl) ?_
  refine lv_iload_n hx hb dX14_tells_9 rfl (lv_at hl 1 rfl) ?_
  obtain ⟨a3, z4, e5, h⟩ := bnd_e h
  refine g_runG (mc := 0) (ms := 0) (va_runU (x := ⟨"ShieldLine$Shield", "caresFor", "(I)I"⟩) (owner := "ShieldLine$Shield") (C := "ShieldLine$Widow") (As := [.int x]) (rest := []) hf (metX14_caresFor_4 l D aC A o la b j him (x) z1 _ _ e5) (va_cwU 1 hf.2.2.2.2 (lw_app (absW q1228 q1231 q1271 q1229 q119) (lw_meth q1241)) rfl rfl rfl rfl (by decide +kernel) ⟨Nat.le_of_ble_eq_true rfl, Nat.le_of_ble_eq_true rfl⟩) ⟨PC.blind, nd_recv hK hO (ci := 16) rfl him, fun U hU hW => ⟨rfl, PC.at hO hK hA hZ hS hU hW⟩⟩ rfl rfl hl.1 rfl (lv_room (Nat.le_of_ble_eq_true rfl)) dX14_tells_10 ⟨Nat.le_of_ble_eq_true rfl, Nat.le_of_ble_eq_true rfl⟩) hS (fun H locs hO hS _ _ => ?_)
  refine W.eq (g2 := F0 m 13 ls (.int a3 :: [])) rfl ?_
  refine lv_istore_n (lv' := [(2, .int a3), (0, .ref b), (1, .int x)]) hx hb dX14_tells_13 rfl hl (by decide) rfl (fun ls hl => ?_)
  refine lv_iload_n hx hb dX14_tells_14 rfl (lv_at hl 0 rfl) ?_
  refine lv_aload_n hx hb dX14_tells_15 rfl (lv_at hl 1 rfl) ?_
  refine lv_iconst (v := 1) hx hb dX14_tells_16 (by decide) ?_
  obtain ⟨a6, z7, e8, h⟩ := bnd_e h
  refine g_runG (mc := 0) (ms := 0) (va_runU (x := ⟨"ShieldLine$Shield", "lacksIt", "(I)I"⟩) (owner := "ShieldLine$Shield") (C := "ShieldLine$Widow") (As := [.int 1]) (rest := [.int a3]) hf (metX18_lacksIt_4 l D aC A o la b j him (1) z4 _ _ e8) (va_cwO 1 hf.2.2.2.2 (lw_app (absO q1272 q2018 q1260 q2026 q1254 q123) (lw_meth q1255)) rfl rfl rfl q1261 (by decide +kernel) ⟨Nat.le_of_ble_eq_true rfl, Nat.le_of_ble_eq_true rfl⟩) ⟨PC.blind, nd_recv hK hO (ci := 16) rfl him, fun U hU hW => ⟨rfl, PC.at hO hK hA hZ hS hU hW⟩⟩ rfl rfl hl.1 rfl (lv_room (Nat.le_of_ble_eq_true rfl)) dX14_tells_17 ⟨Nat.le_of_ble_eq_true rfl, Nat.le_of_ble_eq_true rfl⟩) hS (fun H locs hO hS _ _ => ?_)
  refine W.eq (g2 := F0 m 20 ls (.int a6 :: [.int a3])) rfl ?_
  refine lv_isub hx hb dX14_tells_20 ?_
  obtain ⟨e9, rfl⟩ := Prod.mk.inj (Option.some.inj h)
  exact g_retG hx hb hr hlocks e9 hO hS dX14_tells_21
theorem metX14_tells_5 (l : Launch) (D : va_G) (aC : Nat → ClassId) (A : Nat → Prop) (o : Nat) (la : LC) (b j : Nat) (him : lIm la b = some (17, bodF o j)) (x : Int32) (z : GS) (r : Int32) (zq : GS) (h : FB14_tells_5 (nI j) x z = some (r, zq)) : Met l yX14_tells (ws_ yX14_tells cX14_tells 3 (some .int)) ({ frames := 5, cells := 0, slots := 0, locals := 105 }) (va_Pc [.ref b, .int x] (PC D aC A o la z)) (QG (some (.int r)) (OC D aC A o la zq) A) 0 0 A := by
  refine g_ofW (cc := cX14_tells) (maxL := 3) (ret := (some .int)) (own := RX14) (by decide) rfl rfl [.ref b, .int x] (PC D aC A o la z) (Nat.le_of_ble_eq_true rfl) ?_
  intro p e s m below meth c ls hx hb hr hml hts hown hlocks hnm hPre hl
  obtain ⟨hO, hK, hA, hZ⟩ := hPre
  have hf : CallFix p m c cX14_tells 3 s _ lw_all RX14 := ⟨hx, hb, hml, hown, hts⟩
  have hl : lv_has ls 3 [(0, .ref b), (1, .int x)] := hl
  refine g_open (A := A) (OC D aC A o la z) hO (fun H locs hO hS => ?_)
  unfold FB14_tells_5 at h
  refine lv_aload_n hx hb dX14_tells_0 rfl (lv_at hl 0 rfl) ?_
  refine nd_getS hx hb hts in_X19 hown hK hO (ci := 17) rfl him (v := .ref o) 1 (by decide) rfl (hts _ q1068) dX14_tells_1 ?_
  refine lv_iconst (v := 2) hx hb dX14_tells_4 (by decide) ?_
  obtain ⟨z1, e2, h⟩ := bn1_e h
  refine g_runG (mc := 0) (ms := 0) (va_runVN (As := [.int 2]) (rest := []) hf (metX0_ran l D aC A o la 2 z _ e2) ⟨va_cnB 1 hf.2.2.2.2 (lw_meth q1180) rfl rfl rfl (hK.2.1 _ q1177 rfl) (hts _ q90) (by decide +kernel) ⟨Nat.le_of_ble_eq_true rfl, Nat.le_of_ble_eq_true rfl⟩, hts _ q1179, hts _ qs48⟩ ⟨PC.blind, OC.recv hK hO, fun U hU hW => ⟨rfl, PC.at hO hK hA hZ hS hU hW⟩⟩ rfl rfl hl.1 rfl (lv_room (Nat.le_of_ble_eq_true rfl)) dX14_tells_5 ⟨Nat.le_of_ble_eq_true rfl, Nat.le_of_ble_eq_true rfl⟩) hS (fun H locs hO hS _ _ => ?_)
  refine W.eq (g2 := F0 m 8 ls []) rfl ?_
  refine lv_aload_n hx hb dX14_tells_8 rfl (lv_at hl 0 rfl) ?_
  refine lv_iload_n hx hb dX14_tells_9 rfl (lv_at hl 1 rfl) ?_
  obtain ⟨a3, z4, e5, h⟩ := bnd_e h
  refine g_runG (mc := 0) (ms := 0) (va_runU (x := ⟨"ShieldLine$Shield", "caresFor", "(I)I"⟩) (owner := "ShieldLine$Shield") (C := "ShieldLine$Can") (As := [.int x]) (rest := []) hf (metX17_caresFor_5 l D aC A o la b j him (x) z1 _ _ e5) (va_cwO 1 hf.2.2.2.2 (lw_app (absO q1228 q1231 q1229 q1232 q1233 q122) (lw_meth q1234)) rfl rfl rfl q1241 (by decide +kernel) ⟨Nat.le_of_ble_eq_true rfl, Nat.le_of_ble_eq_true rfl⟩) ⟨PC.blind, nd_recv hK hO (ci := 17) rfl him, fun U hU hW => ⟨rfl, PC.at hO hK hA hZ hS hU hW⟩⟩ rfl rfl hl.1 rfl (lv_room (Nat.le_of_ble_eq_true rfl)) dX14_tells_10 ⟨Nat.le_of_ble_eq_true rfl, Nat.le_of_ble_eq_true rfl⟩) hS (fun H locs hO hS _ _ => ?_)
  refine W.eq (g2 := F0 m 13 ls (.int a3 :: [])) rfl ?_
  refine lv_istore_n (lv' := [(2, .int a3), (0, .ref b), (1, .int x)]) hx hb dX14_tells_13 rfl hl (by decide) rfl (fun ls hl => ?_)
  refine lv_iload_n hx hb dX14_tells_14 rfl (lv_at hl 0 rfl) ?_
  refine lv_aload_n hx hb dX14_tells_15 rfl (lv_at hl 1 rfl) ?_
  refine lv_iconst (v := 1) hx hb dX14_tells_16 (by decide) ?_
  obtain ⟨a6, z7, e8, h⟩ := bnd_e h
  refine g_runG (mc := 0) (ms := 0) (va_runU (x := ⟨"ShieldLine$Shield", "lacksIt", "(I)I"⟩) (owner := "ShieldLine$Shield") (C := "ShieldLine$Can") (As := [.int 1]) (rest := [.int a3]) hf (metX17_lacksIt_5 l D aC A o la b j him (1) z4 _ _ e8) (va_cwO 1 hf.2.2.2.2 (lw_app (absO q1272 q2018 q1260 q2019 q1273 q122) (lw_meth q1274)) rfl rfl rfl q1261 (by decide +kernel) ⟨Nat.le_of_ble_eq_true rfl, Nat.le_of_ble_eq_true rfl⟩) ⟨PC.blind, nd_recv hK hO (ci := 17) rfl him, fun U hU hW => ⟨rfl, PC.at hO hK hA hZ hS hU hW⟩⟩ rfl rfl hl.1 rfl (lv_room (Nat.le_of_ble_eq_true rfl)) dX14_tells_17 ⟨Nat.le_of_ble_eq_true rfl, Nat.le_of_ble_eq_true rfl⟩) hS (fun H locs hO hS _ _ => ?_)
  refine W.eq (g2 := F0 m 20 ls (.int a6 :: [.int a3])) rfl ?_
  refine lv_isub hx hb dX14_tells_20 ?_
  obtain ⟨e9, rfl⟩ := Prod.mk.inj (Option.some.inj h)
  exact g_retG hx hb hr hlocks e9 hO hS dX14_tells_21
theorem metX19_tells_5 (l : Launch) (D : va_G) (aC : Nat → ClassId) (A : Nat → Prop) (o : Nat) (la : LC) (b j : Nat) (him : lIm la b = some (17, bodF o j)) (x : Int32) (z : GS) (r : Int32) (zq : GS) (h : FB19_tells_5 (nI j) x z = some (r, zq)) : Met l yX19_tells (ws_ yX19_tells cX19_tells 2 (some .int)) ({ frames := 6, cells := 0, slots := 0, locals := 127 }) (va_Pc [.ref b, .int x] (PC D aC A o la z)) (QG (some (.int r)) (OC D aC A o la zq) A) 0 0 A := by
  refine g_ofW (cc := cX19_tells) (maxL := 2) (ret := (some .int)) (own := RX19) (by decide) rfl rfl [.ref b, .int x] (PC D aC A o la z) (Nat.le_of_ble_eq_true rfl) ?_
  intro p e s m below meth c ls hx hb hr hml hts hown hlocks hnm hPre hl
  obtain ⟨hO, hK, hA, hZ⟩ := hPre
  have hf : CallFix p m c cX19_tells 2 s _ lw_all RX19 := ⟨hx, hb, hml, hown, hts⟩
  have hl : lv_has ls 2 [(0, .ref b), (1, .int x)] := hl
  refine g_open (A := A) (OC D aC A o la z) hO (fun H locs hO hS => ?_)
  unfold FB19_tells_5 at h
  refine lv_aload_n hx hb dX19_tells_0 rfl (lv_at hl 0 rfl) ?_
  refine nd_getS hx hb hts in_X19 hown hK hO (ci := 17) rfl him (v := .ref o) 4 (by decide) rfl (hts _ q1120) dX19_tells_1 ?_
  refine lv_bipush (v := 60) hx hb dX19_tells_4 (by decide) ?_
  obtain ⟨z1, e2, h⟩ := bn1_e h
  refine g_runG (mc := 0) (ms := 0) (va_runVN (As := [.int 60]) (rest := []) hf (metX0_ran l D aC A o la 60 z _ e2) ⟨va_cnB 1 hf.2.2.2.2 (lw_meth q1180) rfl rfl rfl (hK.2.1 _ q1222 rfl) (hts _ q90) (by decide +kernel) ⟨Nat.le_of_ble_eq_true rfl, Nat.le_of_ble_eq_true rfl⟩, hts _ q1179, hts _ qs48⟩ ⟨PC.blind, OC.recv hK hO, fun U hU hW => ⟨rfl, PC.at hO hK hA hZ hS hU hW⟩⟩ rfl rfl hl.1 rfl (lv_room (Nat.le_of_ble_eq_true rfl)) dX19_tells_6 ⟨Nat.le_of_ble_eq_true rfl, Nat.le_of_ble_eq_true rfl⟩) hS (fun H locs hO hS _ _ => ?_)
  refine W.eq (g2 := F0 m 9 ls []) rfl ?_
  refine lv_aload_n hx hb dX19_tells_9 rfl (lv_at hl 0 rfl) ?_
  refine lv_iload_n hx hb dX19_tells_10 rfl (lv_at hl 1 rfl) ?_
  obtain ⟨a3, z4, e5, h⟩ := bnd_e h
  refine g_runG (mc := 0) (ms := 0) (va_runUp (x := ⟨"ShieldLine$Post", "tells", "(I)I"⟩) (n := 1) (As := [.int x]) (rest := []) hf (metX14_tells_5 l D aC A o la b j him (x) z1 _ _ e5) (hts _ q1223) (hts _ q1224) (hts _ q1127) rfl (hts _ q1226) (subUp2 hts q1100 q1087 (by decide)) rfl (lw_meth q1227) (hts _ q119) (by decide) (by decide +kernel) ⟨Nat.le_of_ble_eq_true rfl, Nat.le_of_ble_eq_true rfl⟩ ⟨PC.blind, nd_recv hK hO (ci := 17) rfl him, fun U hU hW => ⟨rfl, PC.at hO hK hA hZ hS hU hW⟩⟩ rfl rfl hl.1 rfl (lv_room (Nat.le_of_ble_eq_true rfl)) dX19_tells_11 ⟨Nat.le_of_ble_eq_true rfl, Nat.le_of_ble_eq_true rfl⟩ rfl rfl ⟨_, (hK.1.1 17 _ rfl).2⟩) hS (fun H locs hO hS _ _ => ?_)
  refine W.eq (g2 := F0 m 14 ls (.int a3 :: [])) rfl ?_
  refine lv_iconst (v := 5) hx hb dX19_tells_14 (by decide) ?_
  refine lv_ixor hx hb dX19_tells_15 ?_
  obtain ⟨e9, rfl⟩ := Prod.mk.inj (Option.some.inj h)
  exact g_retG hx hb hr hlocks e9 hO hS dX19_tells_16
theorem metX14_tells_6 (l : Launch) (D : va_G) (aC : Nat → ClassId) (A : Nat → Prop) (o : Nat) (la : LC) (b j : Nat) (him : lIm la b = some (18, bodF o j)) (x : Int32) (z : GS) (r : Int32) (zq : GS) (h : FB14_tells_6 (nI j) x z = some (r, zq)) : Met l yX14_tells (ws_ yX14_tells cX14_tells 3 (some .int)) ({ frames := 4, cells := 0, slots := 0, locals := 84 }) (va_Pc [.ref b, .int x] (PC D aC A o la z)) (QG (some (.int r)) (OC D aC A o la zq) A) 0 0 A := by
  refine g_ofW (cc := cX14_tells) (maxL := 3) (ret := (some .int)) (own := RX14) (by decide) rfl rfl [.ref b, .int x] (PC D aC A o la z) (Nat.le_of_ble_eq_true rfl) ?_
  intro p e s m below meth c ls hx hb hr hml hts hown hlocks hnm hPre hl
  obtain ⟨hO, hK, hA, hZ⟩ := hPre
  have hf : CallFix p m c cX14_tells 3 s _ lw_all RX14 := ⟨hx, hb, hml, hown, hts⟩
  have hl : lv_has ls 3 [(0, .ref b), (1, .int x)] := hl
  refine g_open (A := A) (OC D aC A o la z) hO (fun H locs hO hS => ?_)
  unfold FB14_tells_6 at h
  refine lv_aload_n hx hb dX14_tells_0 rfl (lv_at hl 0 rfl) ?_
  refine nd_getS hx hb hts in_X20 hown hK hO (ci := 18) rfl him (v := .ref o) 1 (by decide) rfl (hts _ q1068) dX14_tells_1 ?_
  refine lv_iconst (v := 2) hx hb dX14_tells_4 (by decide) ?_
  obtain ⟨z1, e2, h⟩ := bn1_e h
  refine g_runG (mc := 0) (ms := 0) (va_runVN (As := [.int 2]) (rest := []) hf (metX0_ran l D aC A o la 2 z _ e2) ⟨va_cnB 1 hf.2.2.2.2 (lw_meth q1180) rfl rfl rfl (hK.2.1 _ q1177 rfl) (hts _ q90) (by decide +kernel) ⟨Nat.le_of_ble_eq_true rfl, Nat.le_of_ble_eq_true rfl⟩, hts _ q1179, hts _ qs48⟩ ⟨PC.blind, OC.recv hK hO, fun U hU hW => ⟨rfl, PC.at hO hK hA hZ hS hU hW⟩⟩ rfl rfl hl.1 rfl (lv_room (Nat.le_of_ble_eq_true rfl)) dX14_tells_5 ⟨Nat.le_of_ble_eq_true rfl, Nat.le_of_ble_eq_true rfl⟩) hS (fun H locs hO hS _ _ => ?_)
  refine W.eq (g2 := F0 m 8 ls []) rfl ?_
  refine lv_aload_n hx hb dX14_tells_8 rfl (lv_at hl 0 rfl) ?_
  refine lv_iload_n hx hb dX14_tells_9 rfl (lv_at hl 1 rfl) ?_
  obtain ⟨a3, z4, e5, h⟩ := bnd_e h
  refine g_runG (mc := 0) (ms := 0) (va_runU (x := ⟨"ShieldLine$Shield", "caresFor", "(I)I"⟩) (owner := "ShieldLine$Shield") (C := "ShieldLine$Kiln") (As := [.int x]) (rest := []) hf (metX14_caresFor_6 l D aC A o la b j him (x) z1 _ _ e5) (va_cwU 1 hf.2.2.2.2 (lw_app (absW q1228 q1231 q1267 q1229 q119) (lw_meth q1241)) rfl rfl rfl rfl (by decide +kernel) ⟨Nat.le_of_ble_eq_true rfl, Nat.le_of_ble_eq_true rfl⟩) ⟨PC.blind, nd_recv hK hO (ci := 18) rfl him, fun U hU hW => ⟨rfl, PC.at hO hK hA hZ hS hU hW⟩⟩ rfl rfl hl.1 rfl (lv_room (Nat.le_of_ble_eq_true rfl)) dX14_tells_10 ⟨Nat.le_of_ble_eq_true rfl, Nat.le_of_ble_eq_true rfl⟩) hS (fun H locs hO hS _ _ => ?_)
  refine W.eq (g2 := F0 m 13 ls (.int a3 :: [])) rfl ?_
  refine lv_istore_n (lv' := [(2, .int a3), (0, .ref b), (1, .int x)]) hx hb dX14_tells_13 rfl hl (by decide) rfl (fun ls hl => ?_)
  refine lv_iload_n hx hb dX14_tells_14 rfl (lv_at hl 0 rfl) ?_
  refine lv_aload_n hx hb dX14_tells_15 rfl (lv_at hl 1 rfl) ?_
  refine lv_iconst (v := 1) hx hb dX14_tells_16 (by decide) ?_
  obtain ⟨a6, z7, e8, h⟩ := bnd_e h
  refine g_runG (mc := 0) (ms := 0) (va_runU (x := ⟨"ShieldLine$Shield", "lacksIt", "(I)I"⟩) (owner := "ShieldLine$Shield") (C := "ShieldLine$Kiln") (As := [.int 1]) (rest := [.int a3]) hf (metX14_lacksIt_6 l D aC A o la b j him (1) z4 _ _ e8) (va_cwU 1 hf.2.2.2.2 (lw_app (absW q1272 q2018 q2021 q1260 q119) (lw_meth q1261)) rfl rfl rfl rfl (by decide +kernel) ⟨Nat.le_of_ble_eq_true rfl, Nat.le_of_ble_eq_true rfl⟩) ⟨PC.blind, nd_recv hK hO (ci := 18) rfl him, fun U hU hW => ⟨rfl, PC.at hO hK hA hZ hS hU hW⟩⟩ rfl rfl hl.1 rfl (lv_room (Nat.le_of_ble_eq_true rfl)) dX14_tells_17 ⟨Nat.le_of_ble_eq_true rfl, Nat.le_of_ble_eq_true rfl⟩) hS (fun H locs hO hS _ _ => ?_)
  refine W.eq (g2 := F0 m 20 ls (.int a6 :: [.int a3])) rfl ?_
  refine lv_isub hx hb dX14_tells_20 ?_
  obtain ⟨e9, rfl⟩ := Prod.mk.inj (Option.some.inj h)
  exact g_retG hx hb hr hlocks e9 hO hS dX14_tells_21
theorem metX14_tells_7 (l : Launch) (D : va_G) (aC : Nat → ClassId) (A : Nat → Prop) (o : Nat) (la : LC) (b j : Nat) (him : lIm la b = some (19, bodF o j)) (x : Int32) (z : GS) (r : Int32) (zq : GS) (h : FB14_tells_7 (nI j) x z = some (r, zq)) : Met l yX14_tells (ws_ yX14_tells cX14_tells 3 (some .int)) ({ frames := 5, cells := 0, slots := 0, locals := 107 }) (va_Pc [.ref b, .int x] (PC D aC A o la z)) (QG (some (.int r)) (OC D aC A o la zq) A) 0 0 A := by
  refine g_ofW (cc := cX14_tells) (maxL := 3) (ret := (some .int)) (own := RX14) (by decide) rfl rfl [.ref b, .int x] (PC D aC A o la z) (Nat.le_of_ble_eq_true rfl) ?_
  intro p e s m below meth c ls hx hb hr hml hts hown hlocks hnm hPre hl
  obtain ⟨hO, hK, hA, hZ⟩ := hPre
  have hf : CallFix p m c cX14_tells 3 s _ lw_all RX14 := ⟨hx, hb, hml, hown, hts⟩
  have hl : lv_has ls 3 [(0, .ref b), (1, .int x)] := hl
  refine g_open (A := A) (OC D aC A o la z) hO (fun H locs hO hS => ?_)
  unfold FB14_tells_7 at h
  refine lv_aload_n hx hb dX14_tells_0 rfl (lv_at hl 0 rfl) ?_
  refine nd_getS hx hb hts in_X21 hown hK hO (ci := 19) rfl him (v := .ref o) 1 (by decide) rfl (hts _ q1068) dX14_tells_1 ?_
  refine lv_iconst (v := 2) hx hb dX14_tells_4 (by decide) ?_
  obtain ⟨z1, e2, h⟩ := bn1_e h
  refine g_runG (mc := 0) (ms := 0) (va_runVN (As := [.int 2]) (rest := []) hf (metX0_ran l D aC A o la 2 z _ e2) ⟨va_cnB 1 hf.2.2.2.2 (lw_meth q1180) rfl rfl rfl (hK.2.1 _ q1177 rfl) (hts _ q90) (by decide +kernel) ⟨Nat.le_of_ble_eq_true rfl, Nat.le_of_ble_eq_true rfl⟩, hts _ q1179, hts _ qs48⟩ ⟨PC.blind, OC.recv hK hO, fun U hU hW => ⟨rfl, PC.at hO hK hA hZ hS hU hW⟩⟩ rfl rfl hl.1 rfl (lv_room (Nat.le_of_ble_eq_true rfl)) dX14_tells_5 ⟨Nat.le_of_ble_eq_true rfl, Nat.le_of_ble_eq_true rfl⟩) hS (fun H locs hO hS _ _ => ?_)
  refine W.eq (g2 := F0 m 8 ls []) rfl ?_
  refine lv_aload_n hx hb dX14_tells_8 rfl (lv_at hl 0 rfl) ?_
  refine lv_iload_n hx hb dX14_tells_9 rfl (lv_at hl 1 rfl) ?_
  obtain ⟨a3, z4, e5, h⟩ := bnd_e h
  refine g_runG (mc := 0) (ms := 0) (va_runU (x := ⟨"ShieldLine$Shield", "caresFor", "(I)I"⟩) (owner := "ShieldLine$Shield") (C := "ShieldLine$Hill") (As := [.int x]) (rest := []) hf (metX21_caresFor_7 l D aC A o la b j him (x) z1 _ _ e5) (va_cwO 1 hf.2.2.2.2 (lw_app (absO q1228 q1231 q1229 q1243 q1244 q126) (lw_meth q1245)) rfl rfl rfl q1241 (by decide +kernel) ⟨Nat.le_of_ble_eq_true rfl, Nat.le_of_ble_eq_true rfl⟩) ⟨PC.blind, nd_recv hK hO (ci := 19) rfl him, fun U hU hW => ⟨rfl, PC.at hO hK hA hZ hS hU hW⟩⟩ rfl rfl hl.1 rfl (lv_room (Nat.le_of_ble_eq_true rfl)) dX14_tells_10 ⟨Nat.le_of_ble_eq_true rfl, Nat.le_of_ble_eq_true rfl⟩) hS (fun H locs hO hS _ _ => ?_)
  refine W.eq (g2 := F0 m 13 ls (.int a3 :: [])) rfl ?_
  refine lv_istore_n (lv' := [(2, .int a3), (0, .ref b), (1, .int x)]) hx hb dX14_tells_13 rfl hl (by decide) rfl (fun ls hl => ?_)
  refine lv_iload_n hx hb dX14_tells_14 rfl (lv_at hl 0 rfl) ?_
  refine lv_aload_n hx hb dX14_tells_15 rfl (lv_at hl 1 rfl) ?_
  refine lv_iconst (v := 1) hx hb dX14_tells_16 (by decide) ?_
  obtain ⟨a6, z7, e8, h⟩ := bnd_e h
  refine g_runG (mc := 0) (ms := 0) (va_runU (x := ⟨"ShieldLine$Shield", "lacksIt", "(I)I"⟩) (owner := "ShieldLine$Shield") (C := "ShieldLine$Hill") (As := [.int 1]) (rest := [.int a3]) hf (metX18_lacksIt_7 l D aC A o la b j him (1) z4 _ _ e8) (va_cwO 1 hf.2.2.2.2 (lw_app (absO q1272 q2018 q1260 q2020 q1254 q123) (lw_meth q1255)) rfl rfl rfl q1261 (by decide +kernel) ⟨Nat.le_of_ble_eq_true rfl, Nat.le_of_ble_eq_true rfl⟩) ⟨PC.blind, nd_recv hK hO (ci := 19) rfl him, fun U hU hW => ⟨rfl, PC.at hO hK hA hZ hS hU hW⟩⟩ rfl rfl hl.1 rfl (lv_room (Nat.le_of_ble_eq_true rfl)) dX14_tells_17 ⟨Nat.le_of_ble_eq_true rfl, Nat.le_of_ble_eq_true rfl⟩) hS (fun H locs hO hS _ _ => ?_)
  refine W.eq (g2 := F0 m 20 ls (.int a6 :: [.int a3])) rfl ?_
  refine lv_isub hx hb dX14_tells_20 ?_
  obtain ⟨e9, rfl⟩ := Prod.mk.inj (Option.some.inj h)
  exact g_retG hx hb hr hlocks e9 hO hS dX14_tells_21
theorem metX21_tells_7 (l : Launch) (D : va_G) (aC : Nat → ClassId) (A : Nat → Prop) (o : Nat) (la : LC) (b j : Nat) (him : lIm la b = some (19, bodF o j)) (x : Int32) (z : GS) (r : Int32) (zq : GS) (h : FB21_tells_7 (nI j) x z = some (r, zq)) : Met l yX21_tells (ws_ yX21_tells cX21_tells 2 (some .int)) ({ frames := 6, cells := 0, slots := 0, locals := 129 }) (va_Pc [.ref b, .int x] (PC D aC A o la z)) (QG (some (.int r)) (OC D aC A o la zq) A) 0 0 A := by
  refine g_ofW (cc := cX21_tells) (maxL := 2) (ret := (some .int)) (own := RX21) (by decide) rfl rfl [.ref b, .int x] (PC D aC A o la z) (Nat.le_of_ble_eq_true rfl) ?_
  intro p e s m below meth c ls hx hb hr hml hts hown hlocks hnm hPre hl
  obtain ⟨hO, hK, hA, hZ⟩ := hPre
  have hf : CallFix p m c cX21_tells 2 s _ lw_all RX21 := ⟨hx, hb, hml, hown, hts⟩
  have hl : lv_has ls 2 [(0, .ref b), (1, .int x)] := hl
  refine g_open (A := A) (OC D aC A o la z) hO (fun H locs hO hS => ?_)
  unfold FB21_tells_7 at h
  refine lv_aload_n hx hb dX21_tells_0 rfl (lv_at hl 0 rfl) ?_
  refine nd_getS hx hb hts in_X21 hown hK hO (ci := 19) rfl him (v := .ref o) 4 (by decide) rfl (hts _ q1146) dX21_tells_1 ?_
  refine lv_bipush (v := 81) hx hb dX21_tells_4 (by decide) ?_
  obtain ⟨z1, e2, h⟩ := bn1_e h
  refine g_runG (mc := 0) (ms := 0) (va_runVN (As := [.int 81]) (rest := []) hf (metX0_ran l D aC A o la 81 z _ e2) ⟨va_cnB 1 hf.2.2.2.2 (lw_meth q1180) rfl rfl rfl (hK.2.1 _ q1246 rfl) (hts _ q90) (by decide +kernel) ⟨Nat.le_of_ble_eq_true rfl, Nat.le_of_ble_eq_true rfl⟩, hts _ q1179, hts _ qs48⟩ ⟨PC.blind, OC.recv hK hO, fun U hU hW => ⟨rfl, PC.at hO hK hA hZ hS hU hW⟩⟩ rfl rfl hl.1 rfl (lv_room (Nat.le_of_ble_eq_true rfl)) dX21_tells_6 ⟨Nat.le_of_ble_eq_true rfl, Nat.le_of_ble_eq_true rfl⟩) hS (fun H locs hO hS _ _ => ?_)
  refine W.eq (g2 := F0 m 9 ls []) rfl ?_
  refine lv_aload_n hx hb dX21_tells_9 rfl (lv_at hl 0 rfl) ?_
  refine lv_iload_n hx hb dX21_tells_10 rfl (lv_at hl 1 rfl) ?_
  obtain ⟨a3, z4, e5, h⟩ := bnd_e h
  refine g_runG (mc := 0) (ms := 0) (va_runUp (x := ⟨"ShieldLine$Widow", "tells", "(I)I"⟩) (n := 1) (As := [.int x]) (rest := []) hf (metX14_tells_7 l D aC A o la b j him (x) z1 _ _ e5) (hts _ q1283) (hts _ q1284) (hts _ q1153) rfl (hts _ q1226) (subUp2 hts q1113 q1075 (by decide)) rfl (lw_meth q1227) (hts _ q119) (by decide) (by decide +kernel) ⟨Nat.le_of_ble_eq_true rfl, Nat.le_of_ble_eq_true rfl⟩ ⟨PC.blind, nd_recv hK hO (ci := 19) rfl him, fun U hU hW => ⟨rfl, PC.at hO hK hA hZ hS hU hW⟩⟩ rfl rfl hl.1 rfl (lv_room (Nat.le_of_ble_eq_true rfl)) dX21_tells_11 ⟨Nat.le_of_ble_eq_true rfl, Nat.le_of_ble_eq_true rfl⟩ rfl rfl ⟨_, (hK.1.1 19 _ rfl).2⟩) hS (fun H locs hO hS _ _ => ?_)
  refine W.eq (g2 := F0 m 14 ls (.int a3 :: [])) rfl ?_
  refine lv_iconst (v := 1) hx hb dX21_tells_14 (by decide) ?_
  refine lv_isub hx hb dX21_tells_15 ?_
  obtain ⟨e9, rfl⟩ := Prod.mk.inj (Option.some.inj h)
  exact g_retG hx hb hr hlocks e9 hO hS dX21_tells_16
