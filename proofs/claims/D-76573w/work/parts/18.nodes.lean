set_option maxRecDepth 100000
/-! ===== the law's tree: Node.value, lawGives ===== -/
theorem tyX10_own (k : Nat) : (TX10 k).1 = RX10 := by unfold TX10; first | rfl | (split <;> rfl)
theorem tyX11_own (k : Nat) : (TX11 k).1 = RX11 := by unfold TX11; first | rfl | (split <;> rfl)
theorem tyX8_own (k : Nat) : (TX8 k).1 = RX8 := by unfold TX8; first | rfl | (split <;> rfl)
theorem tyX9_own (k : Nat) : (TX9 k).1 = RX9 := by unfold TX9; first | rfl | (split <;> rfl)
theorem tyX12_own (k : Nat) : (TX12 k).1 = RX12 := by unfold TX12; first | rfl | (split <;> rfl)
theorem tyX6_own (k : Nat) : (TX6 k).1 = RX6 := by unfold TX6; first | rfl | (split <;> rfl)
section ND
variable {p : Program} {l : Launch} {e : Env} {R : Room} {s : State} {m : MethodId} {args : Array Value} {below : List Frame} {meth : Method} {c : Code} {H H0 : Heap} {locs : List Loc} {cells slots : Nat} {Q : State → Prop}
variable {cc : ByteArray} {pc index n : Nat} {ls : Array Slot} {rest : List Value} {D : va_G} {A : Nat → Prop} {aC : Nat → ClassId} {o : Nat} {la : LC} {z : GS}
/-- a field of an object that doesn't change, in its own class's code -/
theorem nd_get {C : String} {T : u_T} {N ci a : Nat} {F : Nat → Value} {v : Value} (hx : p.tables.exec = Jvm.exec) (hb : c.code = cc) (hts : ∀ w ∈ lw_all, w.before args s = true) (hin : ∀ w ∈ u_ws C T N, w ∈ lw_all) (hT : ∀ k, (T k).1 = C) (hown : s.vm.findClass C = some m.cls) (hK : KC D aC s) (hO : OC D aC A o la z H) (hc : vwCl[ci]? = some (C, T, N)) (him : lIm la a = some (ci, F)) (k : Nat) (hk : k < N) (hv : F k = v) (hlink : (Cond.fieldLink C index C (T k).2.1 (T k).2.2.1).before args s = true) (hdg : decode cc pc = .ok (.getfield index, 3)) (kk : W p l e R s m args below meth c H locs cells slots Q (F0 m (pc + 3) ls (v :: rest))) : W p l e R s m args below meth c H locs cells slots Q (F0 m pc ls (.ref a :: rest)) := by
  obtain ⟨cell, q1, q2, q3, q4⟩ := hO.imm him hc
  obtain ⟨hS, hfc, kC, hkC, hkind⟩ := hK.1.1 ci _ hc
  obtain ⟨cf, kf, fi, fd, hi, hsl⟩ := hS k hk
  refine W.getf hx hb hown hlink (ref := C) (by rw [hT] at hi; exact hi) (u_facts hfc hkC (u_lays hts hin hk) hi).1 q1 (by rw [q3]; exact fun h => by cases h) (v := v) ?_ rfl rfl hdg kk
  rw [hsl, q4 k hk, hv]
/-- the same, in a nest mate's code -/
theorem nd_getN {own C host : String} {T : u_T} {N ci a : Nat} {F : Nat → Value} {v : Value} (hx : p.tables.exec = Jvm.exec) (hb : c.code = cc) (hts : ∀ w ∈ lw_all, w.before args s = true) (hin : ∀ w ∈ u_ws C T N, w ∈ lw_all) (hT : ∀ k, (T k).1 = C) (hown : s.vm.findClass own = some m.cls) (hK : KC D aC s) (hO : OC D aC A o la z H) (hc : vwCl[ci]? = some (C, T, N)) (him : lIm la a = some (ci, F)) (k : Nat) (hk : k < N) (hv : F k = v) (hlink : (Cond.fieldLinkNest own index C (T k).2.1 (T k).2.2.1 host).before args s = true) (hdg : decode cc pc = .ok (.getfield index, 3)) (kk : W p l e R s m args below meth c H locs cells slots Q (F0 m (pc + 3) ls (v :: rest))) : W p l e R s m args below meth c H locs cells slots Q (F0 m pc ls (.ref a :: rest)) := by
  obtain ⟨cell, q1, q2, q3, q4⟩ := hO.imm him hc
  obtain ⟨hS, hfc, kC, hkC, hkind⟩ := hK.1.1 ci _ hc
  obtain ⟨cf, kf, fi, fd, hi, hsl⟩ := hS k hk
  refine va_Wgetf hx hb hown hlink (ref := C) (by rw [hT] at hi; exact hi) (u_facts hfc hkC (u_lays hts hin hk) hi).1 q1 (by rw [q3]; exact fun h => by cases h) (v := v) ?_ rfl rfl hdg kk
  rw [hsl, q4 k hk, hv]
theorem nd_recv {ci a : Nat} {F : Nat → Value} {C : String} {T : u_T} {N : Nat} (hK : KC D aC s) (hO : OC D aC A o la z H) (hc : vwCl[ci]? = some (C, T, N)) (him : lIm la a = some (ci, F)) : ∃ cell : Cell, H[a]? = some cell ∧ cell.vm.isStatics = false ∧ s.vm.findClass C = some cell.cls := by
  obtain ⟨cell, g1, g2, g3, -⟩ := hO.imm him hc
  exact ⟨cell, g1, by rw [g3]; rfl, by rw [g2]; exact (hK.1.1 ci _ hc).2.1⟩
theorem g_runR {mc ms : Nat} {g : JFrame} {ov : Option Value} {a : Array Value} (hr : va_Run p l e R s m args below meth c H locs cells slots 0 0 g rest (QR ov a) (fun _ => False)) (kk : W p l e R s m args below meth c H locs cells slots Q { g with pc := g.pc + 3, stack := ov.toList ++ rest }) : W p l e R s m args below meth c H locs cells slots Q g := by
  intro T hT X
  obtain ⟨v, st₀, t, T', L, h0, X', hL, e1, e2, ⟨hv, hh⟩, st⟩ := hr T hT X
  cases hv
  obtain ⟨t2, a1, b1⟩ := kk T' (by rw [e1, hh, h0]) (Stand.forget X' (fun q h => (hL q h).elim))
  exact ⟨t2, st t2 a1, b1⟩
theorem g_runG {mc ms : Nat} {g : JFrame} {ov : Option Value} {P : Heap → Prop} {a : Array Value} (hr : va_Run p l e R s m args below meth c H locs cells slots mc ms g rest (QG ov P A a) A) (hS : va_S A H0 H locs) (kk : ∀ (H1 : Heap) (locs1 : List Loc), P H1 → va_S A H0 H1 locs1 → H.size ≤ H1.size → (∀ q : Nat, q < H.size → ¬ A q → H1[q]? = H[q]?) → W p l e R s m args below meth c H1 locs1 (cells + mc) (slots + ms) Q { g with pc := g.pc + 3, stack := ov.toList ++ rest }) : W p l e R s m args below meth c H locs cells slots Q g := by
  intro T hT X
  obtain ⟨v, st₀, t, T', L, h0, X', hL, e1, e2, ⟨hv, hP, hz, hk⟩, st⟩ := hr T hT X
  cases hv
  rw [h0] at hz hk
  obtain ⟨t2, a1, b1⟩ := kk t.heap (locs ++ L) hP ⟨Nat.le_trans hS.1 hz, fun q h1 h2 => by rw [hk q (Nat.lt_of_lt_of_le h1 hS.1) h2]; exact hS.2.1 q h1 h2, fun q hq => by
      rcases List.mem_append.mp hq with h | h
      · exact hS.2.2 q h
      · exact hL q h⟩ hz hk T' e1 X'
  exact ⟨t2, st t2 a1, b1⟩
end ND
def yNode : MethodName := ⟨"ShieldLine$Node", "value", "(LShieldLine$Facts;)I"⟩
/-- Node.value may be called on the node at a, by any code, and answers v -/
def NodeCall (l : Launch) (D : va_G) (aC : Nat → ClassId) (A : Nat → Prop) (o : Nat) (la : LC) (z : GS) (n a : Nat) (v : Int32) : Prop :=
  ∀ (p : Program) (e : Env) (R : Room) (s : State) (m : MethodId) (args : Array Value) (below : List Frame) (meth : Method) (c : Code) (H : Heap) (locs : List Loc) (cells slots : Nat) (Q : State → Prop) (cc : ByteArray) (pc nL idx : Nat) (ls : Array Slot) (rest : List Value) (own : String), CallFix p m c cc nL s args lw_all own → KC D aC s → OC D aC A o la z H → (∀ q : Nat, s.heap.size ≤ q → A q) → ZX A s s.heap → va_S A s.heap H locs →
    Cond.methodLink own idx yNode ∈ lw_all → ls.size = nL → (rest.map fun v => v.category).sum ≤ 8 → n + 1 ≤ R.frames ∧ 23 + 40 * n ≤ R.locals → cells ≤ R.cells ∧ slots ≤ R.slots → decode cc pc = .ok (.invokevirtual idx, 3) → W p l e R s m args below meth c H locs cells slots Q (F0 m (pc + 3) ls (.int v :: rest)) → W p l e R s m args below meth c H locs cells slots Q (F0 m pc ls (.ref (lAd la 10) :: .ref a :: rest))
/-- a call of Node.value, out of the contract of the class's own -/
theorem node_of {l : Launch} {D : va_G} {aC : Nat → ClassId} {A : Nat → Prop} {o : Nat} {la : LC} {z : GS} {n a ci : Nat} {v : Int32} {C : String} {T : u_T} {N : Nat} {F : Nat → Value} {y : MethodName} {b : ByteArray} {L : Nat} (hL : L ≤ 4) (hc : vwCl[ci]? = some (C, T, N)) (him : lIm la a = some (ci, F)) (hsel : Cond.selects C yNode y ∈ lw_all) (hinst : Cond.instanceMethod y ∈ lw_all) (hini : Cond.initialized y.cls ∈ lw_all) (hcode : Cond.code y b L (some .int) ∈ lw_all)
    (hM : Met l y (ws_ y b L (some .int)) ({ frames := n, cells := 0, slots := 0, locals := 40 * n }) (va_Pc [.ref a, .ref (lAd la 10)] (PC D aC A o la z)) (QR (some (.int v))) 0 0 (fun _ => False)) : NodeCall l D aC A o la z n a v := by
  intro p e R s m args below meth c H locs cells slots Q cc pc nL idx ls rest own hf hK hO hA hZ hS hq hs hr hR hcs hd kk
  refine g_runR (mc := 0) (ms := 0) (va_runU (x := yNode) (owner := "ShieldLine$Node") (C := C) (As := [.ref (lAd la 10)]) (rest := rest) hf hM (va_cwA 1 hf.2.2.2.2 (lw_app ?_ (lw_meth hcode)) rfl rfl rfl (hK.2.1 _ q832 rfl) (by decide +kernel) ⟨by dsimp only; omega, by dsimp only; omega⟩) ⟨PC.blind, nd_recv hK hO hc him, fun U hU hW => ⟨rfl, PC.at hO hK hA hZ hS hU hW⟩⟩ rfl rfl hs rfl (lv_room hr) hd hcs) kk
  intro w hw
  simp only [List.mem_cons, List.not_mem_nil, or_false] at hw
  rcases hw with e | e | e | e | e
  · rw [e]; exact hq
  · rw [e]; exact q833
  · rw [e]; exact hsel
  · rw [e]; exact hinst
  · rw [e]; exact hini
def FX12_is (x1 : Int32) : Int32 := (if x1 = 0 then 0 else 1)
theorem metX12_is (l : Launch) (x1 : Int32)  (r : Int32) (h : FX12_is x1 = r) : Met l yX12_is (ws_ yX12_is cX12_is 1 (some .int)) ({ frames := 0, cells := 0, slots := 0, locals := 0 }) (va_Pc [.int x1] (fun _ => True)) (QR (some (.int r))) 0 0 (fun _ => False) := by
  refine g_ofW (cc := cX12_is) (maxL := 1) (ret := (some .int)) (own := RX12) (by decide) rfl rfl [.int x1] (fun _ => True) (Nat.le_of_ble_eq_true rfl) ?_
  intro p e s m below meth c ls hx hb hr hml hts hown hlocks hnm hPre hl
  have hf : CallFix p m c cX12_is 1 s _ lw_all RX12 := ⟨hx, hb, hml, hown, hts⟩
  have hl : lv_has ls 1 [(0, .int x1)] := hl
  unfold FX12_is at h
  refine lv_iload_n hx hb dX12_is_0 rfl (lv_at hl 0 rfl) ?_
  refine lv_if_eq (tgt := 8) hx hb dX12_is_1 (by decide) (fun c1 => ?_) (fun c1 => ?_)
  · have h := it_t c1 h
    refine lv_iconst (v := 0) hx hb dX12_is_8 (by decide) ?_
    exact g_retR hx hb hr hlocks h dX12_is_9
  · have h := it_f c1 h
    refine lv_iconst (v := 1) hx hb dX12_is_4 (by decide) ?_
    refine lv_goto (tgt := 9) hx hb dX12_is_5 (by decide) ?_
    exact g_retR hx hb hr hlocks h dX12_is_9
theorem clX12_is {p : Program} {l : Launch} {e : Env} {R : Room} {s : State} {m : MethodId} {args : Array Value} {below : List Frame} {meth : Method} {c : Code} {H : Heap} {locs : List Loc} {cells slots : Nat} {Q : State → Prop} {cc : ByteArray} {pc nL idx fr lo : Nat} {ls : Array Slot} {rest : List Value} {own : String}  {x1 : Int32} {r : Int32} (hf : CallFix p m c cc nL s args lw_all own) (hM : Met l yX12_is (ws_ yX12_is cX12_is 1 (some .int)) ({ frames := fr, cells := 0, slots := 0, locals := lo }) (va_Pc [.int x1] (fun _ => True)) (QR (some (.int r))) 0 0 (fun _ => False)) (hq : Cond.methodLink own idx yX12_is ∈ lw_all) (hs : ls.size = nL) (hr : (rest.map fun v => v.category).sum ≤ 8) (hR : fr + 1 ≤ R.frames ∧ 8 + (1 + 11) + lo ≤ R.locals) (hcs : cells + 0 ≤ R.cells ∧ slots + 0 ≤ R.slots) (hd : decode cc pc = .ok (.invokestatic idx, 3)) (kk : W p l e R s m args below meth c H locs cells slots Q (F0 m (pc + 3) ls (.int r :: rest))) : W p l e R s m args below meth c H locs cells slots Q (F0 m pc ls (.int x1 :: rest)) :=
  g_callR (W.runS (As := [.int x1]) (rest := rest) hf hM (va_cwS 1 hf.2.2.2.2 (lw_S hq q849 q115 q850) rfl rfl rfl (by decide +kernel) hR) ⟨fun a U g mk q => q, fun U hU hW => ⟨rfl, trivial⟩⟩ rfl rfl hs rfl (lv_room hr) hd hcs) kk
def FX12_fin (v x y : Int32) : Option Int32 := (pin (pin (if x = 0 then (if y = 0 then 0 else 1) else 1) (fun (u2 : Int32) => (some (FX12_is u2)))) (fun k1 => (if v = 37 then (pin (some 0) (fun k8 => (if y = 0 then (k8) else (if y = (-1) then (k8) else (if ¬ y = 0 then (some (jrem x y)) else none))))) else (if v = 38 then (pin (if x = 0 then 0 else (if y = 0 then 0 else 1)) (fun (u14 : Int32) => (some (FX12_is u14)))) else (if v = 39 then (k1) else (if v = 40 then (k1) else (if v = 41 then (k1) else (if v = 42 then (some (x * y)) else (if v = 43 then (some (x + y)) else (if v = 44 then (k1) else (if v = 45 then (some (x - y)) else (if v = 46 then (k1) else (if v = 47 then (if y = 0 then (some 0) else (if y = (-1) then (some (-x)) else (if ¬ y = 0 then (some (x / y)) else none))) else (if v = 48 then (k1) else (if v = 49 then (k1) else (if v = 50 then (k1) else (if v = 51 then (k1) else (if v = 52 then (k1) else (if v = 53 then (k1) else (if v = 54 then (k1) else (if v = 55 then (k1) else (if v = 56 then (k1) else (if v = 57 then (k1) else (if v = 58 then (k1) else (if v = 59 then (k1) else (if v = 60 then (pin (if y ≤ x then 0 else 1) (fun (u44 : Int32) => (some (FX12_is u44)))) else (if v = 61 then (pin (if x = y then 1 else 0) (fun (u49 : Int32) => (some (FX12_is u49)))) else (if v = 62 then (pin (if x ≤ y then 0 else 1) (fun (u54 : Int32) => (some (FX12_is u54)))) else (k1)))))))))))))))))))))))))))))
theorem metX11_value (l : Launch) (D : va_G) (aC : Nat → ClassId) (A : Nat → Prop) (o : Nat) (la : LC) (z : GS) (n a : Nat) {F : Nat → Value} {v : Int32} (him : lIm la a = some (10, F)) (hF0 : F 0 = .int v) : Met l yX11_value (ws_ yX11_value cX11_value 2 (some .int)) ({ frames := n + 1, cells := 0, slots := 0, locals := 40 * (n + 1) }) (va_Pc [.ref a, .ref (lAd la 10)] (PC D aC A o la z)) (QR (some (.int (v)))) 0 0 (fun _ => False) := by
  refine g_ofW (cc := cX11_value) (maxL := 2) (ret := (some .int)) (own := RX11) (by decide) rfl rfl [.ref a, .ref (lAd la 10)] (PC D aC A o la z) (Nat.le_of_ble_eq_true rfl) ?_
  intro p e s m below meth c ls hx hb hr hml hts hown hlocks hnm hPre hl
  obtain ⟨hO, hK, hA, hZ⟩ := hPre
  have hS : va_S A s.heap s.heap [] := va_S.rf
  have hf : CallFix p m c cX11_value 2 s _ lw_all RX11 := ⟨hx, hb, hml, hown, hts⟩
  have hl : lv_has ls 2 [(0, .ref a), (1, .ref (lAd la 10))] := hl
  refine lv_aload_n hx hb dX11_value_0 rfl (lv_at hl 0 rfl) ?_
  refine nd_get hx hb hts in_X11 tyX11_own hown hK hO (ci := 10) rfl him 0 (by decide) hF0 (hts _ q771) dX11_value_1 ?_
  exact g_retR hx hb hr hlocks rfl dX11_value_4
theorem metX8_value (l : Launch) (D : va_G) (aC : Nat → ClassId) (A : Nat → Prop) (o : Nat) (la : LC) (z : GS) (n a : Nat) {F : Nat → Value} {v : Int32} (him : lIm la a = some (7, F)) (hF0 : F 0 = .int v) (hv : okI v 128) : Met l yX8_value (ws_ yX8_value cX8_value 2 (some .int)) ({ frames := n + 1, cells := 0, slots := 0, locals := 40 * (n + 1) }) (va_Pc [.ref a, .ref (lAd la 10)] (PC D aC A o la z)) (QR (some (.int (z.2.1 110 v.toNatClampNeg)))) 0 0 (fun _ => False) := by
  refine g_ofW (cc := cX8_value) (maxL := 2) (ret := (some .int)) (own := RX8) (by decide) rfl rfl [.ref a, .ref (lAd la 10)] (PC D aC A o la z) (Nat.le_of_ble_eq_true rfl) ?_
  intro p e s m below meth c ls hx hb hr hml hts hown hlocks hnm hPre hl
  obtain ⟨hO, hK, hA, hZ⟩ := hPre
  have hS : va_S A s.heap s.heap [] := va_S.rf
  have hf : CallFix p m c cX8_value 2 s _ lw_all RX8 := ⟨hx, hb, hml, hown, hts⟩
  have hl : lv_has ls 2 [(0, .ref a), (1, .ref (lAd la 10))] := hl
  refine lv_aload_n hx hb dX8_value_0 rfl (lv_at hl 1 rfl) ?_
  refine nd_getN hx hb hts in_X1 (fun k => by unfold TX1; first | rfl | (split <;> rfl)) hown hK hO (ci := 1) rfl hO.2.2.2.1 0 (by decide) rfl (hK.nw q153 rfl) dX8_value_1 ?_
  refine lv_aload_n hx hb dX8_value_4 rfl (lv_at hl 0 rfl) ?_
  refine nd_get hx hb hts in_X8 tyX8_own hown hK hO (ci := 7) rfl him 0 (by decide) hF0 (hts _ q732) dX8_value_5 ?_
  refine va_iald (ws := [(lFn la, .inl (aC 1, 128, .inl (z.2.1 110)))]) hx hb hK.1 (fun j w hj => by
    cases j with
    | zero => cases hj; exact hO.2.1.1
    | succ j => simp at hj) 0 0 rfl rfl (okI_in hv) dX8_value_8 ?_
  exact g_retR hx hb hr hlocks rfl dX8_value_9
theorem metX10_value (l : Launch) (D : va_G) (aC : Nat → ClassId) (A : Nat → Prop) (o : Nat) (la : LC) (z : GS) (n a : Nat) {F : Nat → Value} {b : Nat} {v : Int32} (him : lIm la a = some (9, F)) (hF0 : F 0 = .ref b) (hch : NodeCall l D aC A o la z n b v) : Met l yX10_value (ws_ yX10_value cX10_value 2 (some .int)) ({ frames := n + 1, cells := 0, slots := 0, locals := 40 * (n + 1) }) (va_Pc [.ref a, .ref (lAd la 10)] (PC D aC A o la z)) (QR (some (.int (-v)))) 0 0 (fun _ => False) := by
  refine g_ofW (cc := cX10_value) (maxL := 2) (ret := (some .int)) (own := RX10) (by decide) rfl rfl [.ref a, .ref (lAd la 10)] (PC D aC A o la z) (Nat.le_of_ble_eq_true rfl) ?_
  intro p e s m below meth c ls hx hb hr hml hts hown hlocks hnm hPre hl
  obtain ⟨hO, hK, hA, hZ⟩ := hPre
  have hS : va_S A s.heap s.heap [] := va_S.rf
  have hf : CallFix p m c cX10_value 2 s _ lw_all RX10 := ⟨hx, hb, hml, hown, hts⟩
  have hl : lv_has ls 2 [(0, .ref a), (1, .ref (lAd la 10))] := hl
  refine lv_aload_n hx hb dX10_value_0 rfl (lv_at hl 0 rfl) ?_
  refine nd_get hx hb hts in_X10 tyX10_own hown hK hO (ci := 9) rfl him 0 (by decide) hF0 (hts _ q760) dX10_value_1 ?_
  refine lv_aload_n hx hb dX10_value_4 rfl (lv_at hl 1 rfl) ?_
  refine hch _ _ _ _ _ _ _ _ _ _ _ _ _ _ _ _ _ _ _ _ _ hf hK hO hA hZ hS q847 hl.1 (Nat.le_of_ble_eq_true rfl) ⟨by dsimp only; omega, by dsimp only; omega⟩ ⟨Nat.le_refl _, Nat.le_refl _⟩ dX10_value_5 ?_
  refine lv_ineg hx hb dX10_value_8 ?_
  exact g_retR hx hb hr hlocks rfl dX10_value_9
theorem metX9_value (l : Launch) (D : va_G) (aC : Nat → ClassId) (A : Nat → Prop) (o : Nat) (la : LC) (z : GS) (n a : Nat) {F : Nat → Value} {b : Nat} {v : Int32} (him : lIm la a = some (8, F)) (hF0 : F 0 = .ref b) (hch : NodeCall l D aC A o la z n b v) : Met l yX9_value (ws_ yX9_value cX9_value 2 (some .int)) ({ frames := n + 1, cells := 0, slots := 0, locals := 40 * (n + 1) }) (va_Pc [.ref a, .ref (lAd la 10)] (PC D aC A o la z)) (QR (some (.int (if v = 0 then 1 else 0)))) 0 0 (fun _ => False) := by
  refine g_ofW (cc := cX9_value) (maxL := 2) (ret := (some .int)) (own := RX9) (by decide) rfl rfl [.ref a, .ref (lAd la 10)] (PC D aC A o la z) (Nat.le_of_ble_eq_true rfl) ?_
  intro p e s m below meth c ls hx hb hr hml hts hown hlocks hnm hPre hl
  obtain ⟨hO, hK, hA, hZ⟩ := hPre
  have hS : va_S A s.heap s.heap [] := va_S.rf
  have hf : CallFix p m c cX9_value 2 s _ lw_all RX9 := ⟨hx, hb, hml, hown, hts⟩
  have hl : lv_has ls 2 [(0, .ref a), (1, .ref (lAd la 10))] := hl
  refine lv_aload_n hx hb dX9_value_0 rfl (lv_at hl 0 rfl) ?_
  refine nd_get hx hb hts in_X9 tyX9_own hown hK hO (ci := 8) rfl him 0 (by decide) hF0 (hts _ q750) dX9_value_1 ?_
  refine lv_aload_n hx hb dX9_value_4 rfl (lv_at hl 1 rfl) ?_
  refine hch _ _ _ _ _ _ _ _ _ _ _ _ _ _ _ _ _ _ _ _ _ hf hK hO hA hZ hS q837 hl.1 (Nat.le_of_ble_eq_true rfl) ⟨by dsimp only; omega, by dsimp only; omega⟩ ⟨Nat.le_refl _, Nat.le_refl _⟩ dX9_value_5 ?_
  refine lv_if_ne (tgt := 15) hx hb dX9_value_8 (by decide) (fun c => ?_) (fun c => ?_)
  · refine lv_iconst (v := 0) hx hb dX9_value_15 (by decide) ?_
    exact g_retR hx hb hr hlocks (by rw [if_neg c]) dX9_value_16
  · refine lv_iconst (v := 1) hx hb dX9_value_11 (by decide) ?_
    refine lv_goto (tgt := 16) hx hb dX9_value_12 (by decide) ?_
    exact g_retR hx hb hr hlocks (by rw [if_pos c]) dX9_value_16
theorem metX12_value (l : Launch) (D : va_G) (aC : Nat → ClassId) (A : Nat → Prop) (o : Nat) (la : LC) (z : GS) (n a : Nat) {F : Nat → Value} {b1 b2 : Nat} {v x y r : Int32} (him : lIm la a = some (11, F)) (hF0 : F 0 = .int v) (hF1 : F 1 = .ref b1) (hF2 : F 2 = .ref b2) (hc1 : NodeCall l D aC A o la z n b1 x) (hc2 : NodeCall l D aC A o la z n b2 y) (h : FX12_fin v x y = some r) : Met l yX12_value (ws_ yX12_value cX12_value 4 (some .int)) ({ frames := n + 1, cells := 0, slots := 0, locals := 40 * (n + 1) }) (va_Pc [.ref a, .ref (lAd la 10)] (PC D aC A o la z)) (QR (some (.int (r)))) 0 0 (fun _ => False) := by
  refine g_ofW (cc := cX12_value) (maxL := 4) (ret := (some .int)) (own := RX12) (by decide) rfl rfl [.ref a, .ref (lAd la 10)] (PC D aC A o la z) (Nat.le_of_ble_eq_true rfl) ?_
  intro p e s m below meth c ls hx hb hr hml hts hown hlocks hnm hPre hl
  obtain ⟨hO, hK, hA, hZ⟩ := hPre
  have hS : va_S A s.heap s.heap [] := va_S.rf
  have hf : CallFix p m c cX12_value 4 s _ lw_all RX12 := ⟨hx, hb, hml, hown, hts⟩
  have hl : lv_has ls 4 [(0, .ref a), (1, .ref (lAd la 10))] := hl
  refine lv_aload_n hx hb dX12_value_0 rfl (lv_at hl 0 rfl) ?_
  refine nd_get hx hb hts in_X12 tyX12_own hown hK hO (ci := 11) rfl him 1 (by decide) hF1 (hts _ q787) dX12_value_1 ?_
  refine lv_aload_n hx hb dX12_value_4 rfl (lv_at hl 1 rfl) ?_
  refine hc1 _ _ _ _ _ _ _ _ _ _ _ _ _ _ _ _ _ _ _ _ _ hf hK hO hA hZ hS q844 hl.1 (Nat.le_of_ble_eq_true rfl) ⟨by dsimp only; omega, by dsimp only; omega⟩ ⟨Nat.le_refl _, Nat.le_refl _⟩ dX12_value_5 ?_
  refine lv_istore_n (lv' := [(2, .int x), (0, .ref a), (1, .ref (lAd la 10))]) hx hb dX12_value_8 rfl hl (by decide) rfl (fun ls hl => ?_)
  refine lv_aload_n hx hb dX12_value_9 rfl (lv_at hl 1 rfl) ?_
  refine nd_get hx hb hts in_X12 tyX12_own hown hK hO (ci := 11) rfl him 2 (by decide) hF2 (hts _ q788) dX12_value_10 ?_
  refine lv_aload_n hx hb dX12_value_13 rfl (lv_at hl 2 rfl) ?_
  refine hc2 _ _ _ _ _ _ _ _ _ _ _ _ _ _ _ _ _ _ _ _ _ hf hK hO hA hZ hS q844 hl.1 (Nat.le_of_ble_eq_true rfl) ⟨by dsimp only; omega, by dsimp only; omega⟩ ⟨Nat.le_refl _, Nat.le_refl _⟩ dX12_value_14 ?_
  refine lv_istore_n (lv' := [(3, .int y), (2, .int x), (0, .ref a), (1, .ref (lAd la 10))]) hx hb dX12_value_17 rfl hl (by decide) rfl (fun ls hl => ?_)
  have hl : lv_has ls 4 [(3, .int y), (2, .int x), (0, .ref a)] := lv_sub hl [0, 1, 2] rfl
  unfold FX12_fin at h
  refine lv_aload_n hx hb dX12_value_18 rfl (lv_at hl 2 rfl) ?_
  refine nd_get hx hb hts in_X12 tyX12_own hown hK hO (ci := 11) rfl him 0 (by decide) hF0 (hts _ q786) dX12_value_19 ?_
  obtain ⟨k1, e58, h⟩ := pin_nm h
  have hk1 : ∀  (ls : Array Slot), k1  = some r → lv_has ls 4 [(0, .ref a), (2, .int x), (3, .int y)] → W p l e ({ frames := n + 1, cells := 0, slots := 0, locals := 40 * (n + 1) }) s m ([.ref a, .ref (lAd la 10)] : List Value).toArray below meth c s.heap [] 0 0 (MQ below (QR (some (.int r))) ([.ref a, .ref (lAd la 10)] : List Value).toArray s 0 0 (fun _ => False)) (F0 m 250 ls []) := by
    intro  ls h hl
    rw [e58] at h
    refine lv_iload_n hx hb dX12_value_250 rfl (lv_at hl 1 rfl) ?_
    obtain ⟨k3, e4, h⟩ := pin_nm2 h
    have hk3 : ∀ (u2 : Int32) (ls : Array Slot), k3 u2 = some r → lv_has ls 4 [(0, .ref a)] → W p l e ({ frames := n + 1, cells := 0, slots := 0, locals := 40 * (n + 1) }) s m ([.ref a, .ref (lAd la 10)] : List Value).toArray below meth c s.heap [] 0 0 (MQ below (QR (some (.int r))) ([.ref a, .ref (lAd la 10)] : List Value).toArray s 0 0 (fun _ => False)) (F0 m 263 ls [.int u2]) := by
      intro u2 ls h hl
      rw [e4] at h
      refine clX12_is hf (metX12_is l u2 _ rfl) q848 hl.1 (Nat.le_of_ble_eq_true rfl) ⟨by dsimp only; omega, by dsimp only; omega⟩ ⟨Nat.le_of_ble_eq_true rfl, Nat.le_of_ble_eq_true rfl⟩ dX12_value_263 ?_
      exact g_retR hx hb hr hlocks (Option.some.inj h) dX12_value_266
    refine lv_if_ne (tgt := 258) hx hb dX12_value_251 (by decide) (fun c5 => ?_) (fun c5 => ?_)
    · have h := pt_f (k := k3) c5 h
      refine lv_iconst (v := 1) hx hb dX12_value_258 (by decide) ?_
      refine lv_goto (tgt := 263) hx hb dX12_value_259 (by decide) ?_
      exact hk3 _ _ h (lv_sub hl [0] rfl)
    · have h := pt_t (k := k3) c5 h
      refine lv_iload_n hx hb dX12_value_254 rfl (lv_at hl 2 rfl) ?_
      refine lv_if_eq (tgt := 262) hx hb dX12_value_255 (by decide) (fun c6 => ?_) (fun c6 => ?_)
      · have h := pt_t (k := k3) c6 h
        refine lv_iconst (v := 0) hx hb dX12_value_262 (by decide) ?_
        exact hk3 _ _ h (lv_sub hl [0] rfl)
      · have h := pt_f (k := k3) c6 h
        refine lv_iconst (v := 1) hx hb dX12_value_258 (by decide) ?_
        refine lv_goto (tgt := 263) hx hb dX12_value_259 (by decide) ?_
        exact hk3 _ _ h (lv_sub hl [0] rfl)
  by_cases c7 : v = 37
  · have h := it_t c7 h
    refine lv_tableIn (off := 152) (tgt := 174) hx hb dX12_value_22 (by rw [c7]; decide) (by rw [c7]; decide) (by rw [c7]; rfl) (by decide) ?_
    refine lv_iload_n hx hb dX12_value_174 rfl (lv_at hl 0 rfl) ?_
    obtain ⟨k8, e12, h⟩ := pin_nm h
    have hk8 : ∀  (ls : Array Slot), k8  = some r → lv_has ls 4 [(0, .ref a)] → W p l e ({ frames := n + 1, cells := 0, slots := 0, locals := 40 * (n + 1) }) s m ([.ref a, .ref (lAd la 10)] : List Value).toArray below meth c s.heap [] 0 0 (MQ below (QR (some (.int r))) ([.ref a, .ref (lAd la 10)] : List Value).toArray s 0 0 (fun _ => False)) (F0 m 183 ls []) := by
      intro  ls h hl
      rw [e12] at h
      refine lv_iconst (v := 0) hx hb dX12_value_183 (by decide) ?_
      refine lv_goto (tgt := 190) hx hb dX12_value_184 (by decide) ?_
      exact g_retR hx hb hr hlocks (Option.some.inj h) dX12_value_190
    refine lv_if_eq (tgt := 183) hx hb dX12_value_175 (by decide) (fun c9 => ?_) (fun c9 => ?_)
    · have h := it_t c9 h
      exact hk8 _ h (lv_sub hl [2] rfl)
    · have h := it_f c9 h
      refine lv_iload_n hx hb dX12_value_178 rfl (lv_at hl 0 rfl) ?_
      refine lv_iconst (v := (-1)) hx hb dX12_value_179 (by decide) ?_
      refine lv_icmp_ne (tgt := 187) hx hb dX12_value_180 (by decide) (fun c10 => ?_) (fun c10 => ?_)
      · have h := it_f c10 h
        refine lv_iload_n hx hb dX12_value_187 rfl (lv_at hl 1 rfl) ?_
        refine lv_iload_n hx hb dX12_value_188 rfl (lv_at hl 0 rfl) ?_
        obtain ⟨g11, h⟩ := grd h
        refine g_irem hx hb dX12_value_189 g11 ?_
        exact g_retR hx hb hr hlocks (Option.some.inj h) dX12_value_190
      · have h := it_t c10 h
        exact hk8 _ h (lv_sub hl [2] rfl)
  have h := it_f c7 h
  by_cases c13 : v = 38
  · have h := it_t c13 h
    refine lv_tableIn (off := 211) (tgt := 233) hx hb dX12_value_22 (by rw [c13]; decide) (by rw [c13]; decide) (by rw [c13]; rfl) (by decide) ?_
    refine lv_iload_n hx hb dX12_value_233 rfl (lv_at hl 1 rfl) ?_
    obtain ⟨k15, e16, h⟩ := pin_nm2 h
    have hk15 : ∀ (u14 : Int32) (ls : Array Slot), k15 u14 = some r → lv_has ls 4 [(0, .ref a)] → W p l e ({ frames := n + 1, cells := 0, slots := 0, locals := 40 * (n + 1) }) s m ([.ref a, .ref (lAd la 10)] : List Value).toArray below meth c s.heap [] 0 0 (MQ below (QR (some (.int r))) ([.ref a, .ref (lAd la 10)] : List Value).toArray s 0 0 (fun _ => False)) (F0 m 246 ls [.int u14]) := by
      intro u14 ls h hl
      rw [e16] at h
      refine clX12_is hf (metX12_is l u14 _ rfl) q848 hl.1 (Nat.le_of_ble_eq_true rfl) ⟨by dsimp only; omega, by dsimp only; omega⟩ ⟨Nat.le_of_ble_eq_true rfl, Nat.le_of_ble_eq_true rfl⟩ dX12_value_246 ?_
      exact g_retR hx hb hr hlocks (Option.some.inj h) dX12_value_249
    refine lv_if_eq (tgt := 245) hx hb dX12_value_234 (by decide) (fun c17 => ?_) (fun c17 => ?_)
    · have h := pt_t (k := k15) c17 h
      refine lv_iconst (v := 0) hx hb dX12_value_245 (by decide) ?_
      exact hk15 _ _ h (lv_sub hl [2] rfl)
    · have h := pt_f (k := k15) c17 h
      refine lv_iload_n hx hb dX12_value_237 rfl (lv_at hl 0 rfl) ?_
      refine lv_if_eq (tgt := 245) hx hb dX12_value_238 (by decide) (fun c18 => ?_) (fun c18 => ?_)
      · have h := pt_t (k := k15) c18 h
        refine lv_iconst (v := 0) hx hb dX12_value_245 (by decide) ?_
        exact hk15 _ _ h (lv_sub hl [2] rfl)
      · have h := pt_f (k := k15) c18 h
        refine lv_iconst (v := 1) hx hb dX12_value_241 (by decide) ?_
        refine lv_goto (tgt := 246) hx hb dX12_value_242 (by decide) ?_
        exact hk15 _ _ h (lv_sub hl [2] rfl)
  have h := it_f c13 h
  by_cases c19 : v = 39
  · have h := it_t c19 h
    refine lv_tableIn (off := 228) (tgt := 250) hx hb dX12_value_22 (by rw [c19]; decide) (by rw [c19]; decide) (by rw [c19]; rfl) (by decide) ?_
    exact hk1 _ h (lv_sub hl [2, 1, 0] rfl)
  have h := it_f c19 h
  by_cases c20 : v = 40
  · have h := it_t c20 h
    refine lv_tableIn (off := 228) (tgt := 250) hx hb dX12_value_22 (by rw [c20]; decide) (by rw [c20]; decide) (by rw [c20]; rfl) (by decide) ?_
    exact hk1 _ h (lv_sub hl [2, 1, 0] rfl)
  have h := it_f c20 h
  by_cases c21 : v = 41
  · have h := it_t c21 h
    refine lv_tableIn (off := 228) (tgt := 250) hx hb dX12_value_22 (by rw [c21]; decide) (by rw [c21]; decide) (by rw [c21]; rfl) (by decide) ?_
    exact hk1 _ h (lv_sub hl [2, 1, 0] rfl)
  have h := it_f c21 h
  by_cases c22 : v = 42
  · have h := it_t c22 h
    refine lv_tableIn (off := 126) (tgt := 148) hx hb dX12_value_22 (by rw [c22]; decide) (by rw [c22]; decide) (by rw [c22]; rfl) (by decide) ?_
    refine lv_iload_n hx hb dX12_value_148 rfl (lv_at hl 1 rfl) ?_
    refine lv_iload_n hx hb dX12_value_149 rfl (lv_at hl 0 rfl) ?_
    refine lv_imul hx hb dX12_value_150 ?_
    exact g_retR hx hb hr hlocks (Option.some.inj h) dX12_value_151
  have h := it_f c22 h
  by_cases c23 : v = 43
  · have h := it_t c23 h
    refine lv_tableIn (off := 118) (tgt := 140) hx hb dX12_value_22 (by rw [c23]; decide) (by rw [c23]; decide) (by rw [c23]; rfl) (by decide) ?_
    refine lv_iload_n hx hb dX12_value_140 rfl (lv_at hl 1 rfl) ?_
    refine lv_iload_n hx hb dX12_value_141 rfl (lv_at hl 0 rfl) ?_
    refine lv_iadd hx hb dX12_value_142 ?_
    exact g_retR hx hb hr hlocks (Option.some.inj h) dX12_value_143
  have h := it_f c23 h
  by_cases c24 : v = 44
  · have h := it_t c24 h
    refine lv_tableIn (off := 228) (tgt := 250) hx hb dX12_value_22 (by rw [c24]; decide) (by rw [c24]; decide) (by rw [c24]; rfl) (by decide) ?_
    exact hk1 _ h (lv_sub hl [2, 1, 0] rfl)
  have h := it_f c24 h
  by_cases c25 : v = 45
  · have h := it_t c25 h
    refine lv_tableIn (off := 122) (tgt := 144) hx hb dX12_value_22 (by rw [c25]; decide) (by rw [c25]; decide) (by rw [c25]; rfl) (by decide) ?_
    refine lv_iload_n hx hb dX12_value_144 rfl (lv_at hl 1 rfl) ?_
    refine lv_iload_n hx hb dX12_value_145 rfl (lv_at hl 0 rfl) ?_
    refine lv_isub hx hb dX12_value_146 ?_
    exact g_retR hx hb hr hlocks (Option.some.inj h) dX12_value_147
  have h := it_f c25 h
  by_cases c26 : v = 46
  · have h := it_t c26 h
    refine lv_tableIn (off := 228) (tgt := 250) hx hb dX12_value_22 (by rw [c26]; decide) (by rw [c26]; decide) (by rw [c26]; rfl) (by decide) ?_
    exact hk1 _ h (lv_sub hl [2, 1, 0] rfl)
  have h := it_f c26 h
  by_cases c27 : v = 47
  · have h := it_t c27 h
    refine lv_tableIn (off := 130) (tgt := 152) hx hb dX12_value_22 (by rw [c27]; decide) (by rw [c27]; decide) (by rw [c27]; rfl) (by decide) ?_
    refine lv_iload_n hx hb dX12_value_152 rfl (lv_at hl 0 rfl) ?_
    refine lv_if_ne (tgt := 160) hx hb dX12_value_153 (by decide) (fun c28 => ?_) (fun c28 => ?_)
    · have h := it_f c28 h
      refine lv_iload_n hx hb dX12_value_160 rfl (lv_at hl 0 rfl) ?_
      refine lv_iconst (v := (-1)) hx hb dX12_value_161 (by decide) ?_
      refine lv_icmp_ne (tgt := 170) hx hb dX12_value_162 (by decide) (fun c29 => ?_) (fun c29 => ?_)
      · have h := it_f c29 h
        refine lv_iload_n hx hb dX12_value_170 rfl (lv_at hl 1 rfl) ?_
        refine lv_iload_n hx hb dX12_value_171 rfl (lv_at hl 0 rfl) ?_
        obtain ⟨g30, h⟩ := grd h
        refine lv_idiv hx hb dX12_value_172 g30 ?_
        exact g_retR hx hb hr hlocks (Option.some.inj h) dX12_value_173
      · have h := it_t c29 h
        refine lv_iload_n hx hb dX12_value_165 rfl (lv_at hl 1 rfl) ?_
        refine lv_ineg hx hb dX12_value_166 ?_
        refine lv_goto (tgt := 173) hx hb dX12_value_167 (by decide) ?_
        exact g_retR hx hb hr hlocks (Option.some.inj h) dX12_value_173
    · have h := it_t c28 h
      refine lv_iconst (v := 0) hx hb dX12_value_156 (by decide) ?_
      refine lv_goto (tgt := 173) hx hb dX12_value_157 (by decide) ?_
      exact g_retR hx hb hr hlocks (Option.some.inj h) dX12_value_173
  have h := it_f c27 h
  by_cases c31 : v = 48
  · have h := it_t c31 h
    refine lv_tableIn (off := 228) (tgt := 250) hx hb dX12_value_22 (by rw [c31]; decide) (by rw [c31]; decide) (by rw [c31]; rfl) (by decide) ?_
    exact hk1 _ h (lv_sub hl [2, 1, 0] rfl)
  have h := it_f c31 h
  by_cases c32 : v = 49
  · have h := it_t c32 h
    refine lv_tableIn (off := 228) (tgt := 250) hx hb dX12_value_22 (by rw [c32]; decide) (by rw [c32]; decide) (by rw [c32]; rfl) (by decide) ?_
    exact hk1 _ h (lv_sub hl [2, 1, 0] rfl)
  have h := it_f c32 h
  by_cases c33 : v = 50
  · have h := it_t c33 h
    refine lv_tableIn (off := 228) (tgt := 250) hx hb dX12_value_22 (by rw [c33]; decide) (by rw [c33]; decide) (by rw [c33]; rfl) (by decide) ?_
    exact hk1 _ h (lv_sub hl [2, 1, 0] rfl)
  have h := it_f c33 h
  by_cases c34 : v = 51
  · have h := it_t c34 h
    refine lv_tableIn (off := 228) (tgt := 250) hx hb dX12_value_22 (by rw [c34]; decide) (by rw [c34]; decide) (by rw [c34]; rfl) (by decide) ?_
    exact hk1 _ h (lv_sub hl [2, 1, 0] rfl)
  have h := it_f c34 h
  by_cases c35 : v = 52
  · have h := it_t c35 h
    refine lv_tableIn (off := 228) (tgt := 250) hx hb dX12_value_22 (by rw [c35]; decide) (by rw [c35]; decide) (by rw [c35]; rfl) (by decide) ?_
    exact hk1 _ h (lv_sub hl [2, 1, 0] rfl)
  have h := it_f c35 h
  by_cases c36 : v = 53
  · have h := it_t c36 h
    refine lv_tableIn (off := 228) (tgt := 250) hx hb dX12_value_22 (by rw [c36]; decide) (by rw [c36]; decide) (by rw [c36]; rfl) (by decide) ?_
    exact hk1 _ h (lv_sub hl [2, 1, 0] rfl)
  have h := it_f c36 h
  by_cases c37 : v = 54
  · have h := it_t c37 h
    refine lv_tableIn (off := 228) (tgt := 250) hx hb dX12_value_22 (by rw [c37]; decide) (by rw [c37]; decide) (by rw [c37]; rfl) (by decide) ?_
    exact hk1 _ h (lv_sub hl [2, 1, 0] rfl)
  have h := it_f c37 h
  by_cases c38 : v = 55
  · have h := it_t c38 h
    refine lv_tableIn (off := 228) (tgt := 250) hx hb dX12_value_22 (by rw [c38]; decide) (by rw [c38]; decide) (by rw [c38]; rfl) (by decide) ?_
    exact hk1 _ h (lv_sub hl [2, 1, 0] rfl)
  have h := it_f c38 h
  by_cases c39 : v = 56
  · have h := it_t c39 h
    refine lv_tableIn (off := 228) (tgt := 250) hx hb dX12_value_22 (by rw [c39]; decide) (by rw [c39]; decide) (by rw [c39]; rfl) (by decide) ?_
    exact hk1 _ h (lv_sub hl [2, 1, 0] rfl)
  have h := it_f c39 h
  by_cases c40 : v = 57
  · have h := it_t c40 h
    refine lv_tableIn (off := 228) (tgt := 250) hx hb dX12_value_22 (by rw [c40]; decide) (by rw [c40]; decide) (by rw [c40]; rfl) (by decide) ?_
    exact hk1 _ h (lv_sub hl [2, 1, 0] rfl)
  have h := it_f c40 h
  by_cases c41 : v = 58
  · have h := it_t c41 h
    refine lv_tableIn (off := 228) (tgt := 250) hx hb dX12_value_22 (by rw [c41]; decide) (by rw [c41]; decide) (by rw [c41]; rfl) (by decide) ?_
    exact hk1 _ h (lv_sub hl [2, 1, 0] rfl)
  have h := it_f c41 h
  by_cases c42 : v = 59
  · have h := it_t c42 h
    refine lv_tableIn (off := 228) (tgt := 250) hx hb dX12_value_22 (by rw [c42]; decide) (by rw [c42]; decide) (by rw [c42]; rfl) (by decide) ?_
    exact hk1 _ h (lv_sub hl [2, 1, 0] rfl)
  have h := it_f c42 h
  by_cases c43 : v = 60
  · have h := it_t c43 h
    refine lv_tableIn (off := 169) (tgt := 191) hx hb dX12_value_22 (by rw [c43]; decide) (by rw [c43]; decide) (by rw [c43]; rfl) (by decide) ?_
    refine lv_iload_n hx hb dX12_value_191 rfl (lv_at hl 1 rfl) ?_
    refine lv_iload_n hx hb dX12_value_192 rfl (lv_at hl 0 rfl) ?_
    obtain ⟨k45, e46, h⟩ := pin_nm2 h
    have hk45 : ∀ (u44 : Int32) (ls : Array Slot), k45 u44 = some r → lv_has ls 4 [(0, .ref a)] → W p l e ({ frames := n + 1, cells := 0, slots := 0, locals := 40 * (n + 1) }) s m ([.ref a, .ref (lAd la 10)] : List Value).toArray below meth c s.heap [] 0 0 (MQ below (QR (some (.int r))) ([.ref a, .ref (lAd la 10)] : List Value).toArray s 0 0 (fun _ => False)) (F0 m 201 ls [.int u44]) := by
      intro u44 ls h hl
      rw [e46] at h
      refine clX12_is hf (metX12_is l u44 _ rfl) q848 hl.1 (Nat.le_of_ble_eq_true rfl) ⟨by dsimp only; omega, by dsimp only; omega⟩ ⟨Nat.le_of_ble_eq_true rfl, Nat.le_of_ble_eq_true rfl⟩ dX12_value_201 ?_
      exact g_retR hx hb hr hlocks (Option.some.inj h) dX12_value_204
    refine lv_icmp_ge (tgt := 200) hx hb dX12_value_193 (by decide) (fun c47 => ?_) (fun c47 => ?_)
    · have h := pt_t (k := k45) c47 h
      refine lv_iconst (v := 0) hx hb dX12_value_200 (by decide) ?_
      exact hk45 _ _ h (lv_sub hl [2] rfl)
    · have h := pt_f (k := k45) c47 h
      refine lv_iconst (v := 1) hx hb dX12_value_196 (by decide) ?_
      refine lv_goto (tgt := 201) hx hb dX12_value_197 (by decide) ?_
      exact hk45 _ _ h (lv_sub hl [2] rfl)
  have h := it_f c43 h
  by_cases c48 : v = 61
  · have h := it_t c48 h
    refine lv_tableIn (off := 183) (tgt := 205) hx hb dX12_value_22 (by rw [c48]; decide) (by rw [c48]; decide) (by rw [c48]; rfl) (by decide) ?_
    refine lv_iload_n hx hb dX12_value_205 rfl (lv_at hl 1 rfl) ?_
    refine lv_iload_n hx hb dX12_value_206 rfl (lv_at hl 0 rfl) ?_
    obtain ⟨k50, e51, h⟩ := pin_nm2 h
    have hk50 : ∀ (u49 : Int32) (ls : Array Slot), k50 u49 = some r → lv_has ls 4 [(0, .ref a)] → W p l e ({ frames := n + 1, cells := 0, slots := 0, locals := 40 * (n + 1) }) s m ([.ref a, .ref (lAd la 10)] : List Value).toArray below meth c s.heap [] 0 0 (MQ below (QR (some (.int r))) ([.ref a, .ref (lAd la 10)] : List Value).toArray s 0 0 (fun _ => False)) (F0 m 215 ls [.int u49]) := by
      intro u49 ls h hl
      rw [e51] at h
      refine clX12_is hf (metX12_is l u49 _ rfl) q848 hl.1 (Nat.le_of_ble_eq_true rfl) ⟨by dsimp only; omega, by dsimp only; omega⟩ ⟨Nat.le_of_ble_eq_true rfl, Nat.le_of_ble_eq_true rfl⟩ dX12_value_215 ?_
      exact g_retR hx hb hr hlocks (Option.some.inj h) dX12_value_218
    refine lv_icmp_ne (tgt := 214) hx hb dX12_value_207 (by decide) (fun c52 => ?_) (fun c52 => ?_)
    · have h := pt_f (k := k50) c52 h
      refine lv_iconst (v := 0) hx hb dX12_value_214 (by decide) ?_
      exact hk50 _ _ h (lv_sub hl [2] rfl)
    · have h := pt_t (k := k50) c52 h
      refine lv_iconst (v := 1) hx hb dX12_value_210 (by decide) ?_
      refine lv_goto (tgt := 215) hx hb dX12_value_211 (by decide) ?_
      exact hk50 _ _ h (lv_sub hl [2] rfl)
  have h := it_f c48 h
  by_cases c53 : v = 62
  · have h := it_t c53 h
    refine lv_tableIn (off := 197) (tgt := 219) hx hb dX12_value_22 (by rw [c53]; decide) (by rw [c53]; decide) (by rw [c53]; rfl) (by decide) ?_
    refine lv_iload_n hx hb dX12_value_219 rfl (lv_at hl 1 rfl) ?_
    refine lv_iload_n hx hb dX12_value_220 rfl (lv_at hl 0 rfl) ?_
    obtain ⟨k55, e56, h⟩ := pin_nm2 h
    have hk55 : ∀ (u54 : Int32) (ls : Array Slot), k55 u54 = some r → lv_has ls 4 [(0, .ref a)] → W p l e ({ frames := n + 1, cells := 0, slots := 0, locals := 40 * (n + 1) }) s m ([.ref a, .ref (lAd la 10)] : List Value).toArray below meth c s.heap [] 0 0 (MQ below (QR (some (.int r))) ([.ref a, .ref (lAd la 10)] : List Value).toArray s 0 0 (fun _ => False)) (F0 m 229 ls [.int u54]) := by
      intro u54 ls h hl
      rw [e56] at h
      refine clX12_is hf (metX12_is l u54 _ rfl) q848 hl.1 (Nat.le_of_ble_eq_true rfl) ⟨by dsimp only; omega, by dsimp only; omega⟩ ⟨Nat.le_of_ble_eq_true rfl, Nat.le_of_ble_eq_true rfl⟩ dX12_value_229 ?_
      exact g_retR hx hb hr hlocks (Option.some.inj h) dX12_value_232
    refine lv_icmp_le (tgt := 228) hx hb dX12_value_221 (by decide) (fun c57 => ?_) (fun c57 => ?_)
    · have h := pt_t (k := k55) c57 h
      refine lv_iconst (v := 0) hx hb dX12_value_228 (by decide) ?_
      exact hk55 _ _ h (lv_sub hl [2] rfl)
    · have h := pt_f (k := k55) c57 h
      refine lv_iconst (v := 1) hx hb dX12_value_224 (by decide) ?_
      refine lv_goto (tgt := 229) hx hb dX12_value_225 (by decide) ?_
      exact hk55 _ _ h (lv_sub hl [2] rfl)
  have h := it_f c53 h
  have tc7 := lv_neT (a := 37) c7 rfl
  have tc13 := lv_neT (a := 38) c13 rfl
  have tc19 := lv_neT (a := 39) c19 rfl
  have tc20 := lv_neT (a := 40) c20 rfl
  have tc21 := lv_neT (a := 41) c21 rfl
  have tc22 := lv_neT (a := 42) c22 rfl
  have tc23 := lv_neT (a := 43) c23 rfl
  have tc24 := lv_neT (a := 44) c24 rfl
  have tc25 := lv_neT (a := 45) c25 rfl
  have tc26 := lv_neT (a := 46) c26 rfl
  have tc27 := lv_neT (a := 47) c27 rfl
  have tc31 := lv_neT (a := 48) c31 rfl
  have tc32 := lv_neT (a := 49) c32 rfl
  have tc33 := lv_neT (a := 50) c33 rfl
  have tc34 := lv_neT (a := 51) c34 rfl
  have tc35 := lv_neT (a := 52) c35 rfl
  have tc36 := lv_neT (a := 53) c36 rfl
  have tc37 := lv_neT (a := 54) c37 rfl
  have tc38 := lv_neT (a := 55) c38 rfl
  have tc39 := lv_neT (a := 56) c39 rfl
  have tc40 := lv_neT (a := 57) c40 rfl
  have tc41 := lv_neT (a := 58) c41 rfl
  have tc42 := lv_neT (a := 59) c42 rfl
  have tc43 := lv_neT (a := 60) c43 rfl
  have tc48 := lv_neT (a := 61) c48 rfl
  have tc53 := lv_neT (a := 62) c53 rfl
  refine lv_tableOut (tgt := 250) hx hb dX12_value_22 (by omega) (by decide) ?_
  exact hk1 _ h (lv_sub hl [2, 1, 0] rfl)
/-- Pair's answer is the law's -/
theorem FX12_fin_eq (v x y : Int32) : FX12_fin v x y = some (if v = 43 then x + y else if v = 45 then x - y else if v = 42 then x * y else if v = 47 then (if y = 0 then 0 else if y = -1 then -x else x / y) else if v = 37 then (if y = 0 ∨ y = -1 then 0 else jrem x y) else if v = 60 then (if x < y then 1 else 0) else if v = 61 then (if x = y then 1 else 0) else if v = 62 then (if y < x then 1 else 0) else if v = 38 then (if x = 0 ∨ y = 0 then 0 else 1) else (if x = 0 ∧ y = 0 then 0 else 1)) := by
  unfold FX12_fin
  by_cases h1 : v = 37
  · subst h1; by_cases a : y = 0 <;> by_cases b : y = -1 <;> simp [pin, a, b]
  by_cases h2 : v = 38
  · subst h2; by_cases a : x = 0 <;> by_cases b : y = 0 <;> simp [pin, FX12_is, a, b]
  by_cases h3 : v = 42
  · subst h3; simp [pin]
  by_cases h4 : v = 43
  · subst h4; simp [pin]
  by_cases h5 : v = 45
  · subst h5; simp [pin]
  by_cases h6 : v = 47
  · subst h6; by_cases a : y = 0 <;> by_cases b : y = -1 <;> simp [pin, a, b]
  by_cases h7 : v = 60
  · subst h7; by_cases a : x < y <;> simp [pin, FX12_is, a, Int32.not_le.mpr, Int32.not_lt.mp]
  by_cases h8 : v = 61
  · subst h8; by_cases a : x = y <;> simp [pin, FX12_is, a]
  by_cases h9 : v = 62
  · subst h9; by_cases a : y < x <;> simp [pin, FX12_is, a, Int32.not_le.mpr, Int32.not_lt.mp]
  simp only [h1, h2, h3, h4, h5, h6, h7, h8, h9, if_false]
  by_cases a : x = 0 <;> by_cases b : y = 0 <;> simp [pin, FX12_is, a, b]
theorem node_call (l : Launch) (D : va_G) (aC : Nat → ClassId) (A : Nat → Prop) (o : Nat) (la : LC) (z : GS) (n : Nat) : ∀ (a : Nat) (d : (Nat → Int32) → Int32), NodeAt (lIm la) n a d → NodeCall l D aC A o la z n a (d (z.2.1 110)) := by
  induction n with
  | zero => intro a d h; exact h.elim
  | succ n ih =>
    intro a d h
    rcases h with ⟨F, v, hi, h0, rfl⟩ | ⟨F, v, hi, h0, hv, rfl⟩ | ⟨F, b, d1, hi, h0, h1, rfl⟩ | ⟨F, b, d1, hi, h0, h1, rfl⟩ | ⟨F, v, b1, b2, d1, d2, g, hi, h0, h1, h2, h3, h4, hg, rfl⟩
    · exact node_of (by decide) (ci := 10) rfl hi q851 q838 q114 q839 (metX11_value l D aC A o la z n a hi h0)
    · exact node_of (by decide) (ci := 7) rfl hi q852 q840 q111 q841 (metX8_value l D aC A o la z n a hi h0 hv)
    · exact node_of (by decide) (ci := 9) rfl hi q854 q845 q113 q846 (metX10_value l D aC A o la z n a hi h0 (ih _ _ h1))
    · exact node_of (by decide) (ci := 8) rfl hi q834 q835 q112 q836 (metX9_value l D aC A o la z n a hi h0 (ih _ _ h1))
    · exact node_of (by decide) (ci := 11) rfl hi q853 q842 q115 q843 (metX12_value l D aC A o la z n a hi h0 h1 h2 (ih _ _ h3) (ih _ _ h4) (by rw [FX12_fin_eq, hg]))
