set_option maxRecDepth 100000
/-! ===== new objects and constructors ===== -/
section AL
variable {p : Program} {l : Launch} {e : Env} {R : Room} {s : State} {m : MethodId} {args : Array Value} {below : List Frame} {meth : Method} {c : Code} {H H0 : Heap} {locs : List Loc} {cells slots : Nat} {Q : State → Prop}
variable {cc : ByteArray} {pc index n : Nat} {ls : Array Slot} {rest : List Value} {D : va_G} {A : Nat → Prop} {aC : Nat → ClassId}
theorem g_new {own C : String} {T : u_T} {N ci : Nat} (ty : Nat → FieldType) (hty : ∀ k, k < N → parseFieldDescriptor (T k).2.2.1 = some (ty k)) (hx : p.tables.exec = Jvm.exec) (hb : c.code = cc) (hts : ∀ w ∈ lw_all, w.before args s = true) (hin : ∀ w ∈ u_ws C T N, w ∈ lw_all) (hown : s.vm.findClass own = some m.cls) (hK : KC D aC s) (hc : vwCl[ci]? = some (C, T, N)) (hcl : (Cond.classLink own index C).before args s = true) (hinst : (Cond.instantiable C N).before args s = true) (hini : (Cond.initialized C).before args s = true) (hS : va_S A H0 H locs) (hcells : cells + 1 ≤ R.cells) (hslots : slots + N ≤ R.slots) (hdg : decode cc pc = .ok (.new index, 3))
    (kk : ∀ H1 : Heap, H1.size = H.size + 1 → (∀ q : Nat, q < H.size → H1[q]? = H[q]?) → t_OB H.size (D.1 ci) N (D.2 ci) H1 (fun k => defaultValue (ty k)) → va_S A H0 H1 locs → W p l e R s m args below meth c H1 locs (cells + 1) (slots + N) Q (F0 m (pc + 3) ls (.ref H.size :: rest))) : W p l e R s m args below meth c H locs cells slots Q (F0 m pc ls rest) := by
  refine W.newc hx hb hown hcl hinst hini rfl hdg hcells hslots fun cC kC f1 f2 f3 f4 => ?_
  have hz : (H.push { cls := cC, slots := kC.instanceTypes.map defaultValue, vm := .none }).size = H.size + 1 := by simp
  have hq : ∀ q : Nat, q < H.size → (H.push { cls := cC, slots := kC.instanceTypes.map defaultValue, vm := .none })[q]? = H[q]? := fun q hq => by
    rw [Array.getElem?_push, if_neg (by omega)]
  refine kk _ hz hq ?_ ⟨by rw [hz]; exact Nat.le_trans hS.1 (Nat.le_succ _), fun q h1 h2 => by rw [hq q (Nat.lt_of_lt_of_le h1 hS.1)]; exact hS.2.1 q h1 h2, hS.2.2⟩
  have hKn := hK.1.1 ci _ hc
  have e1 : D.1 ci = cC := Option.some.inj (hKn.2.1.symm.trans f1)
  have := u_born (s := s) (args := args) (ws := lw_all) (cC := D.1 ci) (kC := kC) (o := H.size) (H := H.push { cls := cC, slots := kC.instanceTypes.map defaultValue, vm := .none }) ty hts hin hKn (by rw [e1]; exact f2) (by rw [Array.getElem?_push, if_pos rfl, e1]; rfl) hty
  exact this
theorem g_putO {own ref C : String} {T : u_T} {N ci q : Nat} {V : Nat → Value} (ty0 : Nat → FieldType) (hty : ∀ k, k < N → parseFieldDescriptor (T k).2.2.1 = some (ty0 k)) (hnm : ∀ a, a < N → ∀ b, b < N → a ≠ b → (T a).2.1 ≠ (T b).2.1 ∨ D.2 ci a ≠ D.2 ci b) (hap : ∀ a b, a < N → b < N → a ≠ b → D.2 ci a ≠ D.2 ci b) (hx : p.tables.exec = Jvm.exec) (hb : c.code = cc) (hts : ∀ w ∈ lw_all, w.before args s = true) (hin : ∀ w ∈ u_ws C T N, w ∈ lw_all) (hown : s.vm.findClass own = some m.cls) (hK : KC D aC s) (hc : vwCl[ci]? = some (C, T, N)) (hB : t_OB q (D.1 ci) N (D.2 ci) H V) (hS : va_S A H0 H locs) (hAq : A q) (k : Nat) (hk : k < N) (hlink : (Cond.fieldLink own index ref (T k).2.1 (T k).2.2.1).before args s = true) (hsame : ∀ x, s.fieldFound? (T k).1 (T k).2.1 (T k).2.2.1 = some x → s.fieldFound? ref (T k).2.1 (T k).2.2.1 = some x) (hfin : (T k).2.2.2 = false ∨ (meth.name = "<init>" ∧ (T k).1 = own)) {ty : FieldType} {v : Value} (hd : parseFieldDescriptor (T k).2.2.1 = some ty) (hn : narrow ty v = v) (hfit : fits ty v = true)
    (hdg : decode cc pc = .ok (.putfield index, 3)) (kk : ∀ (H1 : Heap) (locs1 : List Loc), H1.size = H.size → t_OB q (D.1 ci) N (D.2 ci) H1 (updV V k v) → (∀ x : Nat, x ≠ q → H1[x]? = H[x]?) → va_S A H0 H1 locs1 → W p l e R s m args below meth c H1 locs1 cells slots Q (F0 m (pc + 3) ls rest)) : W p l e R s m args below meth c H locs cells slots Q (F0 m pc ls (v :: .ref q :: rest)) := by
  obtain ⟨cell, q1, q2, q3, q4⟩ := hB
  obtain ⟨hSl, hfc, kC, hkC, hkind⟩ := hK.1.1 ci _ hc
  obtain ⟨cf, kf, fi, fd, hi, hsl⟩ := hSl k hk
  have hlay := hts _ (hin _ (u_in_lay hk))
  have hst := (u_facts hfc hkC (u_lays hts hin hk) hi).1
  cases hf9 : (T k).2.2.2 with
  | false =>
    unfold u_lay at hlay
    rw [if_neg (by rw [hf9]; decide)] at hlay
    have h6 := u_store hfc hkC hkind hlay hi hd hn hfit
    refine W.putK hx hb (f := fd) ⟨hown, hlink, ⟨_, _, _, hsame _ hi⟩, hst⟩ (by rw [q2]; exact h6) q1 q3 (by rw [hsl]; exact k2_hasslot (q4 k hk)) rfl rfl hdg fun H' e1 e2 e3 => ?_
    rw [hsl] at e1 ⊢
    exact kk H' _ e2 ⟨_, e1, q2, q3, t_set q4 hap hk v⟩ e3 (hS.put e2 e3 hAq)
  | true =>
    unfold u_lay at hlay
    rw [if_pos hf9] at hlay
    rcases hfin with h | ⟨hin2, hdecl⟩
    · rw [hf9] at h; cases h
    have hcf : m.cls = cf := by
      obtain ⟨_, _, c', _, _, _, -, -, hf', -, -, -, hown2, -⟩ := Cond.laysFinal_spec hlay
      have e1 : c' = cf := by have := hi.symm.trans hf'; simp at this; exact this.1.symm
      rw [hdecl] at hown2
      rw [← e1]; exact Option.some.inj (hown.symm.trans hown2)
    have h6 := u_fits hfc hkC hkind (Or.inr hlay) hi hd hn hfit
    refine W.putFinK hx hb hown hlink (hsame _ hi) hst hcf hin2 (by rw [q2]; exact h6) q1 q3 (by rw [hsl]; exact k2_hasslot (q4 k hk)) rfl rfl hdg fun H' e1 e2 e3 => ?_
    rw [hsl] at e1 ⊢
    exact kk H' _ e2 ⟨_, e1, q2, q3, t_set q4 hap hk v⟩ e3 (hS.put e2 e3 hAq)
end AL
def PO (D : va_G) (aC : Nat → ClassId) (ci N q sz : Nat) (V : Nat → Value) (U : State) : Prop := U.heap.size = sz ∧ t_OB q (D.1 ci) N (D.2 ci) U.heap V ∧ KC D aC U
abbrev QO (D : va_G) (ci N q sz : Nat) (V : Nat → Value) : Array Value → State → Outcome → State → Prop := QG none (fun H => H.size = sz ∧ t_OB q (D.1 ci) N (D.2 ci) H V) (fun x => x = q)
theorem PO.blind {D : va_G} {aC : Nat → ClassId} {ci N q sz : Nat} {V : Nat → Value} {av : List Value} : FrameBlind (va_Pc av (PO D aC ci N q sz V)) := fun a U g mk h => ⟨h.1, h.2.1, h.2.2.1, h.2.2.2.same (u := U) (U := U.calling g mk a) rfl⟩
section AC
variable {p : Program} {l : Launch} {e : Env} {R : Room} {s : State} {m : MethodId} {args : Array Value} {below : List Frame} {meth : Method} {c : Code} {H H0 : Heap} {locs : List Loc} {cells slots : Nat} {Q : State → Prop}
variable {cc : ByteArray} {pc index n : Nat} {ls : Array Slot} {rest : List Value} {D : va_G} {A : Nat → Prop} {aC : Nat → ClassId}
theorem QO.step {ci N q sz : Nat} {V : Nat → Value} {g : JFrame} {a : Array Value} {As : List Value}
    (hr : va_Run p l e R s m args below meth c H locs cells slots 0 0 g rest (QO D ci N q sz V a) (fun x => x = q)) (hz : H.size = sz) (hS : va_S A H0 H locs) (hAq : A q)
    (kk : ∀ (H1 : Heap) (locs1 : List Loc), H1.size = H.size → t_OB q (D.1 ci) N (D.2 ci) H1 V → (∀ x : Nat, x ≠ q → H1[x]? = H[x]?) → va_S A H0 H1 locs1 → W p l e R s m args below meth c H1 locs1 cells slots Q { g with pc := g.pc + 3, stack := rest }) : W p l e R s m args below meth c H locs cells slots Q g := by
  intro T hT X
  obtain ⟨v, st₀, t, T', L, h0, X', hL, e1, e2, ⟨hv, ⟨hP1, hP2⟩, hz2, hk⟩, st⟩ := hr T hT X
  cases hv
  rw [h0] at hz2 hk
  have hall : ∀ x : Nat, x ≠ q → t.heap[x]? = H[x]? := fun x hx => by
    rcases Nat.lt_or_ge x H.size with h | h
    · exact hk x h hx
    · rw [Array.getElem?_eq_none (by rw [hP1, ← hz]; exact h), Array.getElem?_eq_none h]
  obtain ⟨t2, a1, b1⟩ := kk t.heap (locs ++ L) (by rw [hP1, hz]) hP2 hall (hS.putL (by rw [hP1, hz]) hall hAq hL) T' e1 X'
  exact ⟨t2, st t2 a1, b1⟩
/-- a constructor's call: same package road, and a nest mate's -/
theorem g_ctor {own : String} {idx : Nat} {y : MethodName} {bytes : ByteArray} {maxL nL fr lo ci N q sz k : Nat} {V V' : Nat → Value} {As : List Value} (hf : CallFix p m c cc nL s args lw_all own) (hK : KC D aC s) (hB : t_OB q (D.1 ci) N (D.2 ci) H V) (hz : H.size = sz) (hS : va_S A H0 H locs) (hAq : A q)
    (hM : Met l y (ws_ y bytes maxL none) ({ frames := fr, cells := 0, slots := 0, locals := lo }) (va_Pc (.ref q :: As) (PO D aC ci N q sz V)) (QO D ci N q sz V') 0 0 (fun x => x = q))
    (hq : Cond.methodLink own idx y ∈ lw_all) (hi : Cond.instanceMethod y ∈ lw_all) (hini : Cond.initialized y.cls ∈ lw_all) (hcode : Cond.code y bytes maxL none ∈ lw_all) (hnm : y.name = "<init>") (hk : As.length = k) (hds : y.cls ≠ "java/lang/invoke/MethodHandle" ∧ y.cls ≠ "java/lang/invoke/VarHandle" ∧ (parseMethodDescriptor y.desc).map (fun d => d.parameters.length) = some k) (hs : ls.size = nL) (hr : (rest.map fun v => v.category).sum ≤ 8) (hR : fr + 1 ≤ R.frames ∧ 8 + (maxL + 11) + lo ≤ R.locals) (hcs : cells ≤ R.cells ∧ slots ≤ R.slots) (hd : decode cc pc = .ok (.invokespecial idx, 3))
    (kk : ∀ (H1 : Heap) (locs1 : List Loc), H1.size = H.size → t_OB q (D.1 ci) N (D.2 ci) H1 V' → (∀ x : Nat, x ≠ q → H1[x]? = H[x]?) → va_S A H0 H1 locs1 → W p l e R s m args below meth c H1 locs1 cells slots Q (F0 m (pc + 3) ls rest)) : W p l e R s m args below meth c H locs cells slots Q (F0 m pc ls (As.reverse ++ .ref q :: rest)) :=
  QO.step (As := As) (va_runI (As := As) (rest := rest) hf hM (cwI k hf.2.2.2.2 (lw_meth hcode) rfl rfl rfl (hf.2.2.2.2 _ hini) (hf.2.2.2.2 _ hq) (hf.2.2.2.2 _ hi) hnm hds hR) ⟨PO.blind, fun U hU hW => ⟨rfl, by rw [hU]; exact hz, by rw [hU]; exact hB, hK.moved hW⟩⟩ rfl hk hs rfl (lv_room hr) hd hcs) hz hS hAq kk
theorem g_ctorN {own host : String} {idx : Nat} {y : MethodName} {bytes : ByteArray} {maxL nL fr lo ci N q sz k : Nat} {V V' : Nat → Value} {As : List Value} (hf : CallFix p m c cc nL s args lw_all own) (hK : KC D aC s) (hB : t_OB q (D.1 ci) N (D.2 ci) H V) (hz : H.size = sz) (hS : va_S A H0 H locs) (hAq : A q)
    (hM : Met l y (ws_ y bytes maxL none) ({ frames := fr, cells := 0, slots := 0, locals := lo }) (va_Pc (.ref q :: As) (PO D aC ci N q sz V)) (QO D ci N q sz V') 0 0 (fun x => x = q))
    (hq : Cond.methodLinkNest own idx y host ∈ lw_tbl) (hi : Cond.instanceMethod y ∈ lw_all) (hini : Cond.initialized y.cls ∈ lw_all) (hcode : Cond.code y bytes maxL none ∈ lw_all) (hnm : y.name = "<init>") (hk : As.length = k) (hds : y.cls ≠ "java/lang/invoke/MethodHandle" ∧ y.cls ≠ "java/lang/invoke/VarHandle" ∧ (parseMethodDescriptor y.desc).map (fun d => d.parameters.length) = some k) (hs : ls.size = nL) (hr : (rest.map fun v => v.category).sum ≤ 8) (hR : fr + 1 ≤ R.frames ∧ 8 + (maxL + 11) + lo ≤ R.locals) (hcs : cells ≤ R.cells ∧ slots ≤ R.slots) (hd : decode cc pc = .ok (.invokespecial idx, 3))
    (kk : ∀ (H1 : Heap) (locs1 : List Loc), H1.size = H.size → t_OB q (D.1 ci) N (D.2 ci) H1 V' → (∀ x : Nat, x ≠ q → H1[x]? = H[x]?) → va_S A H0 H1 locs1 → W p l e R s m args below meth c H1 locs1 cells slots Q (F0 m (pc + 3) ls rest)) : W p l e R s m args below meth c H locs cells slots Q (F0 m pc ls (As.reverse ++ .ref q :: rest)) :=
  QO.step (As := As) (va_runIN (As := As) (rest := rest) hf hM ⟨va_cnB k hf.2.2.2.2 (lw_meth hcode) rfl rfl rfl (hK.2.1 _ hq rfl) (hf.2.2.2.2 _ hini) hds hR, hnm, hf.2.2.2.2 _ hi⟩ ⟨PO.blind, fun U hU hW => ⟨rfl, by rw [hU]; exact hz, by rw [hU]; exact hB, hK.moved hW⟩⟩ rfl hk hs rfl (lv_room hr) hd hcs) hz hS hAq kk
theorem X_apart {own C : String} {T : u_T} {N ci : Nat} (ty : Nat → FieldType) (hty : ∀ k, k < N → parseFieldDescriptor (T k).2.2.1 = some (ty k)) (hnm : ∀ a, a < N → ∀ b, b < N → a ≠ b → (T a).2.1 ≠ (T b).2.1) (hts : ∀ w ∈ lw_all, w.before args s = true) (hin : ∀ w ∈ u_ws C T N, w ∈ lw_all) (hK : KC D aC s) (hc : vwCl[ci]? = some (C, T, N)) : ∀ x y, x < N → y < N → x ≠ y → (D.2 ci) x ≠ (D.2 ci) y :=
  va_apart (own := own) hts hin ty hty hnm hK.1 hc
/-- what a superclass's empty constructor does: nothing -/
theorem g_super {own host : String} {idx : Nat} {y : MethodName} {bytes : ByteArray} {maxL nL fr lo q : Nat} (hf : CallFix p m c cc nL s args lw_all own) (hK : KC D aC s)
    (hM : Met l y (ws_ y bytes maxL none) ({ frames := fr, cells := 0, slots := 0, locals := lo }) (va_Pc [.ref q] (KC D aC)) (QR none) 0 0 (fun _ => False))
    (hq : Cond.methodLinkNest own idx y host ∈ lw_tbl) (hi : Cond.instanceMethod y ∈ lw_all) (hini : Cond.initialized y.cls ∈ lw_all) (hcode : Cond.code y bytes maxL none ∈ lw_all) (hnm : y.name = "<init>") (hds : y.cls ≠ "java/lang/invoke/MethodHandle" ∧ y.cls ≠ "java/lang/invoke/VarHandle" ∧ (parseMethodDescriptor y.desc).map (fun d => d.parameters.length) = some 0) (hs : ls.size = nL) (hr : (rest.map fun v => v.category).sum ≤ 8) (hR : fr + 1 ≤ R.frames ∧ 8 + (maxL + 11) + lo ≤ R.locals) (hcs : cells ≤ R.cells ∧ slots ≤ R.slots) (hd : decode cc pc = .ok (.invokespecial idx, 3))
    (kk : W p l e R s m args below meth c H locs cells slots Q (F0 m (pc + 3) ls rest)) : W p l e R s m args below meth c H locs cells slots Q (F0 m pc ls (.ref q :: rest)) :=
  g_runR (mc := 0) (ms := 0) (va_runIN (As := []) (rest := rest) hf hM ⟨va_cnB 0 hf.2.2.2.2 (lw_meth hcode) rfl rfl rfl (hK.2.1 _ hq rfl) (hf.2.2.2.2 _ hini) hds hR, hnm, hf.2.2.2.2 _ hi⟩ ⟨fun a U g mk h => ⟨h.1, h.2.same (u := U) (U := U.calling g mk a) rfl⟩, fun U hU hW => ⟨rfl, hK.moved hW⟩⟩ rfl rfl hs rfl (lv_room hr) hd hcs) kk
end AC
theorem metX7_init (l : Launch) (D : va_G) (aC : Nat → ClassId) (q : Nat) : Met l yX7_init (ws_ yX7_init cX7_init 1 none) ({ frames := 1, cells := 0, slots := 0, locals := 40 }) (va_Pc [.ref q] (KC D aC)) (QR none) 0 0 (fun _ => False) := by
  refine g_ofW (cc := cX7_init) (maxL := 1) (ret := none) (own := RX7) (by decide) rfl rfl [.ref q] (KC D aC) (Nat.le_of_ble_eq_true rfl) ?_
  intro p e s m below meth c ls hx hb hr hml hts hown hlocks hnm hK hl
  have hf : CallFix p m c cX7_init 1 s _ lw_all RX7 := ⟨hx, hb, hml, hown, hts⟩
  have hl : lv_has ls 1 [(0, .ref q)] := hl
  refine lv_aload_n hx hb dX7_init_0 rfl (lv_at hl 0 rfl) ?_
  refine W.objInit hx hb hown (hts _ q731) (hts _ q140) (hts _ q141) rfl (by rw [hml]; exact hl.1) rfl dX7_init_1 (Nat.le_of_ble_eq_true rfl) (Nat.le_of_ble_eq_true rfl) ?_
  refine W.eq (g2 := F0 m 4 ls []) rfl ?_
  exact W.vret hx hb hr (fun t ht _ => ⟨rfl, ht⟩) (fun _ h => by cases h) dX7_init_4
theorem metX13_init (l : Launch) (D : va_G) (aC : Nat → ClassId) (q : Nat) : Met l yX13_init (ws_ yX13_init cX13_init 1 none) ({ frames := 1, cells := 0, slots := 0, locals := 40 }) (va_Pc [.ref q] (KC D aC)) (QR none) 0 0 (fun _ => False) := by
  refine g_ofW (cc := cX13_init) (maxL := 1) (ret := none) (own := RX13) (by decide) rfl rfl [.ref q] (KC D aC) (Nat.le_of_ble_eq_true rfl) ?_
  intro p e s m below meth c ls hx hb hr hml hts hown hlocks hnm hK hl
  have hf : CallFix p m c cX13_init 1 s _ lw_all RX13 := ⟨hx, hb, hml, hown, hts⟩
  have hl : lv_has ls 1 [(0, .ref q)] := hl
  refine lv_aload_n hx hb dX13_init_0 rfl (lv_at hl 0 rfl) ?_
  refine W.objInit hx hb hown (hts _ q1065) (hts _ q140) (hts _ q141) rfl (by rw [hml]; exact hl.1) rfl dX13_init_1 (Nat.le_of_ble_eq_true rfl) (Nat.le_of_ble_eq_true rfl) ?_
  refine W.eq (g2 := F0 m 4 ls []) rfl ?_
  exact W.vret hx hb hr (fun t ht _ => ⟨rfl, ht⟩) (fun _ h => by cases h) dX13_init_4
theorem metX22_init (l : Launch) (D : va_G) (aC : Nat → ClassId) (q : Nat) : Met l yX22_init (ws_ yX22_init cX22_init 1 none) ({ frames := 2, cells := 0, slots := 0, locals := 80 }) (va_Pc [.ref q] (KC D aC)) (QR none) 0 0 (fun _ => False) := by
  refine g_ofW (cc := cX22_init) (maxL := 1) (ret := none) (own := RX22) (by decide) rfl rfl [.ref q] (KC D aC) (Nat.le_of_ble_eq_true rfl) ?_
  intro p e s m below meth c ls hx hb hr hml hts hown hlocks hnm hK hl
  have hf : CallFix p m c cX22_init 1 s _ lw_all RX22 := ⟨hx, hb, hml, hown, hts⟩
  have hl : lv_has ls 1 [(0, .ref q)] := hl
  refine lv_aload_n hx hb dX22_init_0 rfl (lv_at hl 0 rfl) ?_
  refine g_super hf hK (metX13_init l D aC q) q1342 q1063 q118 q1064 rfl (by decide +kernel) hl.1 (Nat.le_of_ble_eq_true rfl) ⟨Nat.le_of_ble_eq_true rfl, Nat.le_of_ble_eq_true rfl⟩ ⟨Nat.le_refl _, Nat.le_refl _⟩ dX22_init_1 ?_
  exact W.vret hx hb hr (fun t ht _ => ⟨rfl, ht⟩) (fun _ h => by cases h) dX22_init_4
theorem metX3_init (l : Launch) (D : va_G) (aC : Nat → ClassId) (q sz : Nat) (V : Nat → Value) (x1 : Int32) : Met l yX3_init (ws_ yX3_init cX3_init 2 none) ({ frames := 1, cells := 0, slots := 0, locals := 40 }) (va_Pc [.ref q, .int x1] (PO D aC 3 5 q sz V)) (QO D 3 5 q sz (updV (updV (updV (updV (updV V 1 (.int 4)) 2 (.int 3)) 3 (.int 20)) 4 (.int (-1))) 0 (.int x1))) 0 0 (fun x => x = q) := by
  refine g_ofW (cc := cX3_init) (maxL := 2) (ret := none) (own := RX3) (by decide) rfl rfl [.ref q, .int x1] (PO D aC 3 5 q sz V) (Nat.le_of_ble_eq_true rfl) ?_
  intro p e s m below meth c ls hx hb hr hml hts hown hlocks hnm hPre hl
  obtain ⟨hz, hB, hK⟩ := hPre
  have hf : CallFix p m c cX3_init 2 s _ lw_all RX3 := ⟨hx, hb, hml, hown, hts⟩
  have hl : lv_has ls 2 [(0, .ref q), (1, .int x1)] := hl
  have hap := X_apart (own := RX3) tyX3 tyX3_ok nmX3 hts in_X3 hK (ci := 3) rfl
  have hPic : s.heap.size = sz ∧ t_OB q (D.1 3) 5 (D.2 3) s.heap V := ⟨hz, hB⟩
  refine g_open (A := fun x => x = q) (fun H => H.size = sz ∧ t_OB q (D.1 3) 5 (D.2 3) H V) hPic (fun H locs hP hS => ?_)
  obtain ⟨hz, hB⟩ := hP
  refine lv_aload_n hx hb dX3_init_0 rfl (lv_at hl 0 rfl) ?_
  refine W.objInit hx hb hown (hts _ q320) (hts _ q140) (hts _ q141) rfl (by rw [hml]; exact hl.1) rfl dX3_init_1 (Nat.le_of_ble_eq_true rfl) (Nat.le_of_ble_eq_true rfl) ?_
  refine W.eq (g2 := F0 m 4 ls []) rfl ?_
  refine lv_aload_n hx hb dX3_init_4 rfl (lv_at hl 0 rfl) ?_
  refine lv_iconst (v := 4) hx hb dX3_init_5 (by decide) ?_
  refine g_putO (ci := 3) (ty := .int) (v := .int 4) tyX3 tyX3_ok (fun a h b h2 h3 => Or.inr (hap a b h h2 h3)) hap hx hb hts in_X3 hown hK rfl hB hS rfl 1 (by decide) (hts _ q323) (fun _ h9 => h9) (Or.inl rfl) rfl rfl rfl dX3_init_6 (fun H locs hz1 hB hoq hS => ?_)
  have hz := hz1.trans hz
  refine lv_aload_n hx hb dX3_init_9 rfl (lv_at hl 0 rfl) ?_
  refine lv_iconst (v := 3) hx hb dX3_init_10 (by decide) ?_
  refine g_putO (ci := 3) (ty := .int) (v := .int 3) tyX3 tyX3_ok (fun a h b h2 h3 => Or.inr (hap a b h h2 h3)) hap hx hb hts in_X3 hown hK rfl hB hS rfl 2 (by decide) (hts _ q325) (fun _ h9 => h9) (Or.inl rfl) rfl rfl rfl dX3_init_11 (fun H locs hz1 hB hoq hS => ?_)
  have hz := hz1.trans hz
  refine lv_aload_n hx hb dX3_init_14 rfl (lv_at hl 0 rfl) ?_
  refine lv_bipush (v := 20) hx hb dX3_init_15 (by decide) ?_
  refine g_putO (ci := 3) (ty := .int) (v := .int 20) tyX3 tyX3_ok (fun a h b h2 h3 => Or.inr (hap a b h h2 h3)) hap hx hb hts in_X3 hown hK rfl hB hS rfl 3 (by decide) (hts _ q327) (fun _ h9 => h9) (Or.inl rfl) rfl rfl rfl dX3_init_17 (fun H locs hz1 hB hoq hS => ?_)
  have hz := hz1.trans hz
  refine lv_aload_n hx hb dX3_init_20 rfl (lv_at hl 0 rfl) ?_
  refine lv_iconst (v := (-1)) hx hb dX3_init_21 (by decide) ?_
  refine g_putO (ci := 3) (ty := .int) (v := .int (-1)) tyX3 tyX3_ok (fun a h b h2 h3 => Or.inr (hap a b h h2 h3)) hap hx hb hts in_X3 hown hK rfl hB hS rfl 4 (by decide) (hts _ q329) (fun _ h9 => h9) (Or.inl rfl) rfl rfl rfl dX3_init_22 (fun H locs hz1 hB hoq hS => ?_)
  have hz := hz1.trans hz
  refine lv_aload_n hx hb dX3_init_25 rfl (lv_at hl 0 rfl) ?_
  refine lv_iload_n hx hb dX3_init_26 rfl (lv_at hl 1 rfl) ?_
  refine g_putO (ci := 3) (ty := .int) (v := .int x1) tyX3 tyX3_ok (fun a h b h2 h3 => Or.inr (hap a b h h2 h3)) hap hx hb hts in_X3 hown hK rfl hB hS rfl 0 (by decide) (hts _ q321) (fun _ h9 => h9) (Or.inl rfl) rfl rfl rfl dX3_init_27 (fun H locs hz1 hB hoq hS => ?_)
  have hz := hz1.trans hz
  exact g_retGv (P := fun H => H.size = sz ∧ t_OB q (D.1 3) 5 (D.2 3) H (updV (updV (updV (updV (updV V 1 (.int 4)) 2 (.int 3)) 3 (.int 20)) 4 (.int (-1))) 0 (.int x1))) hx hb hr hlocks ⟨hz, hB⟩ hS dX3_init_30
theorem metX4_init (l : Launch) (D : va_G) (aC : Nat → ClassId) (q sz : Nat) (V : Nat → Value) (x1 : Int32) (x2 : Int32) (x3 : Int32) (x4 : Int32) : Met l yX4_init (ws_ yX4_init cX4_init 5 none) ({ frames := 1, cells := 0, slots := 0, locals := 40 }) (va_Pc [.ref q, .int x1, .int x2, .int x3, .int x4] (PO D aC 4 4 q sz V)) (QO D 4 4 q sz (updV (updV (updV (updV V 0 (.int x1)) 1 (.int x2)) 2 (.int x3)) 3 (.int x4))) 0 0 (fun x => x = q) := by
  refine g_ofW (cc := cX4_init) (maxL := 5) (ret := none) (own := RX4) (by decide) rfl rfl [.ref q, .int x1, .int x2, .int x3, .int x4] (PO D aC 4 4 q sz V) (Nat.le_of_ble_eq_true rfl) ?_
  intro p e s m below meth c ls hx hb hr hml hts hown hlocks hnm hPre hl
  obtain ⟨hz, hB, hK⟩ := hPre
  have hf : CallFix p m c cX4_init 5 s _ lw_all RX4 := ⟨hx, hb, hml, hown, hts⟩
  have hl : lv_has ls 5 [(0, .ref q), (1, .int x1), (2, .int x2), (3, .int x3), (4, .int x4)] := hl
  have hap := X_apart (own := RX4) tyX4 tyX4_ok nmX4 hts in_X4 hK (ci := 4) rfl
  have hPic : s.heap.size = sz ∧ t_OB q (D.1 4) 4 (D.2 4) s.heap V := ⟨hz, hB⟩
  refine g_open (A := fun x => x = q) (fun H => H.size = sz ∧ t_OB q (D.1 4) 4 (D.2 4) H V) hPic (fun H locs hP hS => ?_)
  obtain ⟨hz, hB⟩ := hP
  refine lv_aload_n hx hb dX4_init_0 rfl (lv_at hl 0 rfl) ?_
  refine W.objInit hx hb hown (hts _ q526) (hts _ q140) (hts _ q141) rfl (by rw [hml]; exact hl.1) rfl dX4_init_1 (Nat.le_of_ble_eq_true rfl) (Nat.le_of_ble_eq_true rfl) ?_
  refine W.eq (g2 := F0 m 4 ls []) rfl ?_
  refine lv_aload_n hx hb dX4_init_4 rfl (lv_at hl 0 rfl) ?_
  refine lv_iload_n hx hb dX4_init_5 rfl (lv_at hl 1 rfl) ?_
  refine g_putO (ci := 4) (ty := .int) (v := .int x1) tyX4 tyX4_ok (fun a h b h2 h3 => Or.inr (hap a b h h2 h3)) hap hx hb hts in_X4 hown hK rfl hB hS rfl 0 (by decide) (hts _ q527) (fun _ h9 => h9) (Or.inr ⟨hnm, rfl⟩) rfl rfl rfl dX4_init_6 (fun H locs hz1 hB hoq hS => ?_)
  have hz := hz1.trans hz
  refine lv_aload_n hx hb dX4_init_9 rfl (lv_at hl 0 rfl) ?_
  refine lv_iload_n hx hb dX4_init_10 rfl (lv_at hl 2 rfl) ?_
  refine g_putO (ci := 4) (ty := .int) (v := .int x2) tyX4 tyX4_ok (fun a h b h2 h3 => Or.inr (hap a b h h2 h3)) hap hx hb hts in_X4 hown hK rfl hB hS rfl 1 (by decide) (hts _ q529) (fun _ h9 => h9) (Or.inr ⟨hnm, rfl⟩) rfl rfl rfl dX4_init_11 (fun H locs hz1 hB hoq hS => ?_)
  have hz := hz1.trans hz
  refine lv_aload_n hx hb dX4_init_14 rfl (lv_at hl 0 rfl) ?_
  refine lv_iload_n hx hb dX4_init_15 rfl (lv_at hl 3 rfl) ?_
  refine g_putO (ci := 4) (ty := .int) (v := .int x3) tyX4 tyX4_ok (fun a h b h2 h3 => Or.inr (hap a b h h2 h3)) hap hx hb hts in_X4 hown hK rfl hB hS rfl 2 (by decide) (hts _ q531) (fun _ h9 => h9) (Or.inr ⟨hnm, rfl⟩) rfl rfl rfl dX4_init_16 (fun H locs hz1 hB hoq hS => ?_)
  have hz := hz1.trans hz
  refine lv_aload_n hx hb dX4_init_19 rfl (lv_at hl 0 rfl) ?_
  refine lv_iload hx hb dX4_init_20 (lv_at hl 4 rfl) ?_
  refine g_putO (ci := 4) (ty := .int) (v := .int x4) tyX4 tyX4_ok (fun a h b h2 h3 => Or.inr (hap a b h h2 h3)) hap hx hb hts in_X4 hown hK rfl hB hS rfl 3 (by decide) (hts _ q533) (fun _ h9 => h9) (Or.inr ⟨hnm, rfl⟩) rfl rfl rfl dX4_init_22 (fun H locs hz1 hB hoq hS => ?_)
  have hz := hz1.trans hz
  exact g_retGv (P := fun H => H.size = sz ∧ t_OB q (D.1 4) 4 (D.2 4) H (updV (updV (updV (updV V 0 (.int x1)) 1 (.int x2)) 2 (.int x3)) 3 (.int x4))) hx hb hr hlocks ⟨hz, hB⟩ hS dX4_init_25
theorem metX5_init (l : Launch) (D : va_G) (aC : Nat → ClassId) (q sz : Nat) (V : Nat → Value) (x1 : Nat) : Met l yX5_init (ws_ yX5_init cX5_init 2 none) ({ frames := 1, cells := 0, slots := 0, locals := 40 }) (va_Pc [.ref q, .ref x1] (PO D aC 5 4 q sz V)) (QO D 5 4 q sz (updV (updV V 3 (.ref x1)) 1 (.int (-1)))) 0 0 (fun x => x = q) := by
  refine g_ofW (cc := cX5_init) (maxL := 2) (ret := none) (own := RX5) (by decide) rfl rfl [.ref q, .ref x1] (PO D aC 5 4 q sz V) (Nat.le_of_ble_eq_true rfl) ?_
  intro p e s m below meth c ls hx hb hr hml hts hown hlocks hnm hPre hl
  obtain ⟨hz, hB, hK⟩ := hPre
  have hf : CallFix p m c cX5_init 2 s _ lw_all RX5 := ⟨hx, hb, hml, hown, hts⟩
  have hl : lv_has ls 2 [(0, .ref q), (1, .ref x1)] := hl
  have hap := X_apart (own := RX5) tyX5 tyX5_ok nmX5 hts in_X5 hK (ci := 5) rfl
  have hPic : s.heap.size = sz ∧ t_OB q (D.1 5) 4 (D.2 5) s.heap V := ⟨hz, hB⟩
  refine g_open (A := fun x => x = q) (fun H => H.size = sz ∧ t_OB q (D.1 5) 4 (D.2 5) H V) hPic (fun H locs hP hS => ?_)
  obtain ⟨hz, hB⟩ := hP
  refine lv_aload_n hx hb dX5_init_0 rfl (lv_at hl 0 rfl) ?_
  refine lv_aload_n hx hb dX5_init_1 rfl (lv_at hl 1 rfl) ?_
  refine g_putO (ci := 5) (ty := (.object "ShieldLine")) (v := .ref x1) tyX5 tyX5_ok (fun a h b h2 h3 => Or.inr (hap a b h h2 h3)) hap hx hb hts in_X5 hown hK rfl hB hS rfl 3 (by decide) (hts _ q567) (fun _ h9 => h9) (Or.inr ⟨hnm, rfl⟩) rfl rfl rfl dX5_init_2 (fun H locs hz1 hB hoq hS => ?_)
  have hz := hz1.trans hz
  refine lv_aload_n hx hb dX5_init_5 rfl (lv_at hl 0 rfl) ?_
  refine W.objInit hx hb hown (hts _ q562) (hts _ q140) (hts _ q141) rfl (by rw [hml]; exact hl.1) rfl dX5_init_6 (Nat.le_of_ble_eq_true rfl) (Nat.le_of_ble_eq_true rfl) ?_
  refine W.eq (g2 := F0 m 9 ls []) rfl ?_
  refine lv_aload_n hx hb dX5_init_9 rfl (lv_at hl 0 rfl) ?_
  refine lv_iconst (v := (-1)) hx hb dX5_init_10 (by decide) ?_
  refine g_putO (ci := 5) (ty := .int) (v := .int (-1)) tyX5 tyX5_ok (fun a h b h2 h3 => Or.inr (hap a b h h2 h3)) hap hx hb hts in_X5 hown hK rfl hB hS rfl 1 (by decide) (hts _ q564) (fun _ h9 => h9) (Or.inl rfl) rfl rfl rfl dX5_init_11 (fun H locs hz1 hB hoq hS => ?_)
  have hz := hz1.trans hz
  exact g_retGv (P := fun H => H.size = sz ∧ t_OB q (D.1 5) 4 (D.2 5) H (updV (updV V 3 (.ref x1)) 1 (.int (-1)))) hx hb hr hlocks ⟨hz, hB⟩ hS dX5_init_14
theorem metX6_init (l : Launch) (D : va_G) (aC : Nat → ClassId) (q sz : Nat) (V : Nat → Value)  : Met l yX6_init (ws_ yX6_init cX6_init 1 none) ({ frames := 1, cells := 0, slots := 0, locals := 40 }) (va_Pc [.ref q] (PO D aC 6 3 q sz V)) (QO D 6 3 q sz V) 0 0 (fun x => x = q) := by
  refine g_ofW (cc := cX6_init) (maxL := 1) (ret := none) (own := RX6) (by decide) rfl rfl [.ref q] (PO D aC 6 3 q sz V) (Nat.le_of_ble_eq_true rfl) ?_
  intro p e s m below meth c ls hx hb hr hml hts hown hlocks hnm hPre hl
  obtain ⟨hz, hB, hK⟩ := hPre
  have hf : CallFix p m c cX6_init 1 s _ lw_all RX6 := ⟨hx, hb, hml, hown, hts⟩
  have hl : lv_has ls 1 [(0, .ref q)] := hl
  have hap := X_apart (own := RX6) tyX6 tyX6_ok nmX6 hts in_X6 hK (ci := 6) rfl
  have hPic : s.heap.size = sz ∧ t_OB q (D.1 6) 3 (D.2 6) s.heap V := ⟨hz, hB⟩
  refine g_open (A := fun x => x = q) (fun H => H.size = sz ∧ t_OB q (D.1 6) 3 (D.2 6) H V) hPic (fun H locs hP hS => ?_)
  obtain ⟨hz, hB⟩ := hP
  refine lv_aload_n hx hb dX6_init_0 rfl (lv_at hl 0 rfl) ?_
  refine W.objInit hx hb hown (hts _ q590) (hts _ q140) (hts _ q141) rfl (by rw [hml]; exact hl.1) rfl dX6_init_1 (Nat.le_of_ble_eq_true rfl) (Nat.le_of_ble_eq_true rfl) ?_
  refine W.eq (g2 := F0 m 4 ls []) rfl ?_
  exact g_retGv (P := fun H => H.size = sz ∧ t_OB q (D.1 6) 3 (D.2 6) H V) hx hb hr hlocks ⟨hz, hB⟩ hS dX6_init_4
theorem metX8_init (l : Launch) (D : va_G) (aC : Nat → ClassId) (q sz : Nat) (V : Nat → Value) (x1 : Int32) : Met l yX8_init (ws_ yX8_init cX8_init 2 none) ({ frames := 3, cells := 0, slots := 0, locals := 120 }) (va_Pc [.ref q, .int x1] (PO D aC 7 1 q sz V)) (QO D 7 1 q sz (updV V 0 (.int x1))) 0 0 (fun x => x = q) := by
  refine g_ofW (cc := cX8_init) (maxL := 2) (ret := none) (own := RX8) (by decide) rfl rfl [.ref q, .int x1] (PO D aC 7 1 q sz V) (Nat.le_of_ble_eq_true rfl) ?_
  intro p e s m below meth c ls hx hb hr hml hts hown hlocks hnm hPre hl
  obtain ⟨hz, hB, hK⟩ := hPre
  have hf : CallFix p m c cX8_init 2 s _ lw_all RX8 := ⟨hx, hb, hml, hown, hts⟩
  have hl : lv_has ls 2 [(0, .ref q), (1, .int x1)] := hl
  have hap := X_apart (own := RX8) tyX8 tyX8_ok nmX8 hts in_X8 hK (ci := 7) rfl
  have hPic : s.heap.size = sz ∧ t_OB q (D.1 7) 1 (D.2 7) s.heap V := ⟨hz, hB⟩
  refine g_open (A := fun x => x = q) (fun H => H.size = sz ∧ t_OB q (D.1 7) 1 (D.2 7) H V) hPic (fun H locs hP hS => ?_)
  obtain ⟨hz, hB⟩ := hP
  refine lv_aload_n hx hb dX8_init_0 rfl (lv_at hl 0 rfl) ?_
  refine g_super hf hK (metX7_init l D aC q) q728 q729 q110 q730 rfl (by decide +kernel) hl.1 (Nat.le_of_ble_eq_true rfl) ⟨Nat.le_of_ble_eq_true rfl, Nat.le_of_ble_eq_true rfl⟩ ⟨Nat.le_of_ble_eq_true rfl, Nat.le_of_ble_eq_true rfl⟩ dX8_init_1 ?_
  refine lv_aload_n hx hb dX8_init_4 rfl (lv_at hl 0 rfl) ?_
  refine lv_iload_n hx hb dX8_init_5 rfl (lv_at hl 1 rfl) ?_
  refine g_putO (ci := 7) (ty := .int) (v := .int x1) tyX8 tyX8_ok (fun a h b h2 h3 => Or.inr (hap a b h h2 h3)) hap hx hb hts in_X8 hown hK rfl hB hS rfl 0 (by decide) (hts _ q732) (fun _ h9 => h9) (Or.inr ⟨hnm, rfl⟩) rfl rfl rfl dX8_init_6 (fun H locs hz1 hB hoq hS => ?_)
  have hz := hz1.trans hz
  exact g_retGv (P := fun H => H.size = sz ∧ t_OB q (D.1 7) 1 (D.2 7) H (updV V 0 (.int x1))) hx hb hr hlocks ⟨hz, hB⟩ hS dX8_init_9
theorem metX9_init (l : Launch) (D : va_G) (aC : Nat → ClassId) (q sz : Nat) (V : Nat → Value) (x1 : Nat) : Met l yX9_init (ws_ yX9_init cX9_init 2 none) ({ frames := 3, cells := 0, slots := 0, locals := 120 }) (va_Pc [.ref q, .ref x1] (PO D aC 8 1 q sz V)) (QO D 8 1 q sz (updV V 0 (.ref x1))) 0 0 (fun x => x = q) := by
  refine g_ofW (cc := cX9_init) (maxL := 2) (ret := none) (own := RX9) (by decide) rfl rfl [.ref q, .ref x1] (PO D aC 8 1 q sz V) (Nat.le_of_ble_eq_true rfl) ?_
  intro p e s m below meth c ls hx hb hr hml hts hown hlocks hnm hPre hl
  obtain ⟨hz, hB, hK⟩ := hPre
  have hf : CallFix p m c cX9_init 2 s _ lw_all RX9 := ⟨hx, hb, hml, hown, hts⟩
  have hl : lv_has ls 2 [(0, .ref q), (1, .ref x1)] := hl
  have hap := X_apart (own := RX9) tyX9 tyX9_ok nmX9 hts in_X9 hK (ci := 8) rfl
  have hPic : s.heap.size = sz ∧ t_OB q (D.1 8) 1 (D.2 8) s.heap V := ⟨hz, hB⟩
  refine g_open (A := fun x => x = q) (fun H => H.size = sz ∧ t_OB q (D.1 8) 1 (D.2 8) H V) hPic (fun H locs hP hS => ?_)
  obtain ⟨hz, hB⟩ := hP
  refine lv_aload_n hx hb dX9_init_0 rfl (lv_at hl 0 rfl) ?_
  refine g_super hf hK (metX7_init l D aC q) q749 q729 q110 q730 rfl (by decide +kernel) hl.1 (Nat.le_of_ble_eq_true rfl) ⟨Nat.le_of_ble_eq_true rfl, Nat.le_of_ble_eq_true rfl⟩ ⟨Nat.le_of_ble_eq_true rfl, Nat.le_of_ble_eq_true rfl⟩ dX9_init_1 ?_
  refine lv_aload_n hx hb dX9_init_4 rfl (lv_at hl 0 rfl) ?_
  refine lv_aload_n hx hb dX9_init_5 rfl (lv_at hl 1 rfl) ?_
  refine g_putO (ci := 8) (ty := (.object "ShieldLine$Node")) (v := .ref x1) tyX9 tyX9_ok (fun a h b h2 h3 => Or.inr (hap a b h h2 h3)) hap hx hb hts in_X9 hown hK rfl hB hS rfl 0 (by decide) (hts _ q750) (fun _ h9 => h9) (Or.inr ⟨hnm, rfl⟩) rfl rfl rfl dX9_init_6 (fun H locs hz1 hB hoq hS => ?_)
  have hz := hz1.trans hz
  exact g_retGv (P := fun H => H.size = sz ∧ t_OB q (D.1 8) 1 (D.2 8) H (updV V 0 (.ref x1))) hx hb hr hlocks ⟨hz, hB⟩ hS dX9_init_9
theorem metX10_init (l : Launch) (D : va_G) (aC : Nat → ClassId) (q sz : Nat) (V : Nat → Value) (x1 : Nat) : Met l yX10_init (ws_ yX10_init cX10_init 2 none) ({ frames := 3, cells := 0, slots := 0, locals := 120 }) (va_Pc [.ref q, .ref x1] (PO D aC 9 1 q sz V)) (QO D 9 1 q sz (updV V 0 (.ref x1))) 0 0 (fun x => x = q) := by
  refine g_ofW (cc := cX10_init) (maxL := 2) (ret := none) (own := RX10) (by decide) rfl rfl [.ref q, .ref x1] (PO D aC 9 1 q sz V) (Nat.le_of_ble_eq_true rfl) ?_
  intro p e s m below meth c ls hx hb hr hml hts hown hlocks hnm hPre hl
  obtain ⟨hz, hB, hK⟩ := hPre
  have hf : CallFix p m c cX10_init 2 s _ lw_all RX10 := ⟨hx, hb, hml, hown, hts⟩
  have hl : lv_has ls 2 [(0, .ref q), (1, .ref x1)] := hl
  have hap := X_apart (own := RX10) tyX10 tyX10_ok nmX10 hts in_X10 hK (ci := 9) rfl
  have hPic : s.heap.size = sz ∧ t_OB q (D.1 9) 1 (D.2 9) s.heap V := ⟨hz, hB⟩
  refine g_open (A := fun x => x = q) (fun H => H.size = sz ∧ t_OB q (D.1 9) 1 (D.2 9) H V) hPic (fun H locs hP hS => ?_)
  obtain ⟨hz, hB⟩ := hP
  refine lv_aload_n hx hb dX10_init_0 rfl (lv_at hl 0 rfl) ?_
  refine g_super hf hK (metX7_init l D aC q) q759 q729 q110 q730 rfl (by decide +kernel) hl.1 (Nat.le_of_ble_eq_true rfl) ⟨Nat.le_of_ble_eq_true rfl, Nat.le_of_ble_eq_true rfl⟩ ⟨Nat.le_of_ble_eq_true rfl, Nat.le_of_ble_eq_true rfl⟩ dX10_init_1 ?_
  refine lv_aload_n hx hb dX10_init_4 rfl (lv_at hl 0 rfl) ?_
  refine lv_aload_n hx hb dX10_init_5 rfl (lv_at hl 1 rfl) ?_
  refine g_putO (ci := 9) (ty := (.object "ShieldLine$Node")) (v := .ref x1) tyX10 tyX10_ok (fun a h b h2 h3 => Or.inr (hap a b h h2 h3)) hap hx hb hts in_X10 hown hK rfl hB hS rfl 0 (by decide) (hts _ q760) (fun _ h9 => h9) (Or.inr ⟨hnm, rfl⟩) rfl rfl rfl dX10_init_6 (fun H locs hz1 hB hoq hS => ?_)
  have hz := hz1.trans hz
  exact g_retGv (P := fun H => H.size = sz ∧ t_OB q (D.1 9) 1 (D.2 9) H (updV V 0 (.ref x1))) hx hb hr hlocks ⟨hz, hB⟩ hS dX10_init_9
theorem metX11_init (l : Launch) (D : va_G) (aC : Nat → ClassId) (q sz : Nat) (V : Nat → Value) (x1 : Int32) : Met l yX11_init (ws_ yX11_init cX11_init 2 none) ({ frames := 3, cells := 0, slots := 0, locals := 120 }) (va_Pc [.ref q, .int x1] (PO D aC 10 1 q sz V)) (QO D 10 1 q sz (updV V 0 (.int x1))) 0 0 (fun x => x = q) := by
  refine g_ofW (cc := cX11_init) (maxL := 2) (ret := none) (own := RX11) (by decide) rfl rfl [.ref q, .int x1] (PO D aC 10 1 q sz V) (Nat.le_of_ble_eq_true rfl) ?_
  intro p e s m below meth c ls hx hb hr hml hts hown hlocks hnm hPre hl
  obtain ⟨hz, hB, hK⟩ := hPre
  have hf : CallFix p m c cX11_init 2 s _ lw_all RX11 := ⟨hx, hb, hml, hown, hts⟩
  have hl : lv_has ls 2 [(0, .ref q), (1, .int x1)] := hl
  have hap := X_apart (own := RX11) tyX11 tyX11_ok nmX11 hts in_X11 hK (ci := 10) rfl
  have hPic : s.heap.size = sz ∧ t_OB q (D.1 10) 1 (D.2 10) s.heap V := ⟨hz, hB⟩
  refine g_open (A := fun x => x = q) (fun H => H.size = sz ∧ t_OB q (D.1 10) 1 (D.2 10) H V) hPic (fun H locs hP hS => ?_)
  obtain ⟨hz, hB⟩ := hP
  refine lv_aload_n hx hb dX11_init_0 rfl (lv_at hl 0 rfl) ?_
  refine g_super hf hK (metX7_init l D aC q) q770 q729 q110 q730 rfl (by decide +kernel) hl.1 (Nat.le_of_ble_eq_true rfl) ⟨Nat.le_of_ble_eq_true rfl, Nat.le_of_ble_eq_true rfl⟩ ⟨Nat.le_of_ble_eq_true rfl, Nat.le_of_ble_eq_true rfl⟩ dX11_init_1 ?_
  refine lv_aload_n hx hb dX11_init_4 rfl (lv_at hl 0 rfl) ?_
  refine lv_iload_n hx hb dX11_init_5 rfl (lv_at hl 1 rfl) ?_
  refine g_putO (ci := 10) (ty := .int) (v := .int x1) tyX11 tyX11_ok (fun a h b h2 h3 => Or.inr (hap a b h h2 h3)) hap hx hb hts in_X11 hown hK rfl hB hS rfl 0 (by decide) (hts _ q771) (fun _ h9 => h9) (Or.inr ⟨hnm, rfl⟩) rfl rfl rfl dX11_init_6 (fun H locs hz1 hB hoq hS => ?_)
  have hz := hz1.trans hz
  exact g_retGv (P := fun H => H.size = sz ∧ t_OB q (D.1 10) 1 (D.2 10) H (updV V 0 (.int x1))) hx hb hr hlocks ⟨hz, hB⟩ hS dX11_init_9
theorem metX12_init (l : Launch) (D : va_G) (aC : Nat → ClassId) (q sz : Nat) (V : Nat → Value) (x1 : Int32) (x2 : Nat) (x3 : Nat) : Met l yX12_init (ws_ yX12_init cX12_init 4 none) ({ frames := 3, cells := 0, slots := 0, locals := 120 }) (va_Pc [.ref q, .int x1, .ref x2, .ref x3] (PO D aC 11 3 q sz V)) (QO D 11 3 q sz (updV (updV (updV V 0 (.int x1)) 1 (.ref x2)) 2 (.ref x3))) 0 0 (fun x => x = q) := by
  refine g_ofW (cc := cX12_init) (maxL := 4) (ret := none) (own := RX12) (by decide) rfl rfl [.ref q, .int x1, .ref x2, .ref x3] (PO D aC 11 3 q sz V) (Nat.le_of_ble_eq_true rfl) ?_
  intro p e s m below meth c ls hx hb hr hml hts hown hlocks hnm hPre hl
  obtain ⟨hz, hB, hK⟩ := hPre
  have hf : CallFix p m c cX12_init 4 s _ lw_all RX12 := ⟨hx, hb, hml, hown, hts⟩
  have hl : lv_has ls 4 [(0, .ref q), (1, .int x1), (2, .ref x2), (3, .ref x3)] := hl
  have hap := X_apart (own := RX12) tyX12 tyX12_ok nmX12 hts in_X12 hK (ci := 11) rfl
  have hPic : s.heap.size = sz ∧ t_OB q (D.1 11) 3 (D.2 11) s.heap V := ⟨hz, hB⟩
  refine g_open (A := fun x => x = q) (fun H => H.size = sz ∧ t_OB q (D.1 11) 3 (D.2 11) H V) hPic (fun H locs hP hS => ?_)
  obtain ⟨hz, hB⟩ := hP
  refine lv_aload_n hx hb dX12_init_0 rfl (lv_at hl 0 rfl) ?_
  refine g_super hf hK (metX7_init l D aC q) q785 q729 q110 q730 rfl (by decide +kernel) hl.1 (Nat.le_of_ble_eq_true rfl) ⟨Nat.le_of_ble_eq_true rfl, Nat.le_of_ble_eq_true rfl⟩ ⟨Nat.le_of_ble_eq_true rfl, Nat.le_of_ble_eq_true rfl⟩ dX12_init_1 ?_
  refine lv_aload_n hx hb dX12_init_4 rfl (lv_at hl 0 rfl) ?_
  refine lv_iload_n hx hb dX12_init_5 rfl (lv_at hl 1 rfl) ?_
  refine g_putO (ci := 11) (ty := .int) (v := .int x1) tyX12 tyX12_ok (fun a h b h2 h3 => Or.inr (hap a b h h2 h3)) hap hx hb hts in_X12 hown hK rfl hB hS rfl 0 (by decide) (hts _ q786) (fun _ h9 => h9) (Or.inr ⟨hnm, rfl⟩) rfl rfl rfl dX12_init_6 (fun H locs hz1 hB hoq hS => ?_)
  have hz := hz1.trans hz
  refine lv_aload_n hx hb dX12_init_9 rfl (lv_at hl 0 rfl) ?_
  refine lv_aload_n hx hb dX12_init_10 rfl (lv_at hl 2 rfl) ?_
  refine g_putO (ci := 11) (ty := (.object "ShieldLine$Node")) (v := .ref x2) tyX12 tyX12_ok (fun a h b h2 h3 => Or.inr (hap a b h h2 h3)) hap hx hb hts in_X12 hown hK rfl hB hS rfl 1 (by decide) (hts _ q787) (fun _ h9 => h9) (Or.inr ⟨hnm, rfl⟩) rfl rfl rfl dX12_init_11 (fun H locs hz1 hB hoq hS => ?_)
  have hz := hz1.trans hz
  refine lv_aload_n hx hb dX12_init_14 rfl (lv_at hl 0 rfl) ?_
  refine lv_aload_n hx hb dX12_init_15 rfl (lv_at hl 3 rfl) ?_
  refine g_putO (ci := 11) (ty := (.object "ShieldLine$Node")) (v := .ref x3) tyX12 tyX12_ok (fun a h b h2 h3 => Or.inr (hap a b h h2 h3)) hap hx hb hts in_X12 hown hK rfl hB hS rfl 2 (by decide) (hts _ q788) (fun _ h9 => h9) (Or.inr ⟨hnm, rfl⟩) rfl rfl rfl dX12_init_16 (fun H locs hz1 hB hoq hS => ?_)
  have hz := hz1.trans hz
  exact g_retGv (P := fun H => H.size = sz ∧ t_OB q (D.1 11) 3 (D.2 11) H (updV (updV (updV V 0 (.int x1)) 1 (.ref x2)) 2 (.ref x3))) hx hb hr hlocks ⟨hz, hB⟩ hS dX12_init_19
