set_option maxRecDepth 100000
/-! ===== a shelf's row: casts, size(), at() in range ===== -/
section RO
variable {p : Program} {l : Launch} {e : Env} {R : Room} {s : State} {m : MethodId} {args : Array Value} {below : List Frame} {meth : Method} {c : Code} {H : Heap} {locs : List Loc} {cells slots : Nat} {Q : State → Prop}
variable {cc : ByteArray} {pc nL : Nat} {ls : Array Slot} {rest : List Value} {D : va_G} {aC : Nat → ClassId} {A : Nat → Prop} {o : Nat} {la : LC} {z : GS}
theorem g_castY {own nm : String} {index a : Nat} (hx : p.tables.exec = Jvm.exec) (hb : c.code = cc) (hown : s.vm.findClass own = some m.cls) (hlink : (Cond.classLink own index nm).before args s = true) {cell : Cell} {cT : ClassId} (hcell : H[a]? = some cell) (hobj : cell.vm.isStatics = false) (hcT : s.vm.findClass nm = some cT) (hasg : s.vm.assignable cell.cls cT = true) (hdg : decode cc pc = .ok (.checkcast index, 3)) (kk : W p l e R s m args below meth c H locs cells slots Q (F0 m (pc + 3) ls (.ref a :: rest))) : W p l e R s m args below meth c H locs cells slots Q (F0 m pc ls (.ref a :: rest)) := by
  intro T hT X
  obtain ⟨vm', X', st⟩ := X.checkcastYes hx hown hlink (by rw [hT]; exact hcell) hobj hcT hasg (g := F0 m pc ls (.ref a :: rest)) rfl rfl (by rw [hb]; exact hdg)
  obtain ⟨t, a1, b1⟩ := kk (T.setVm vm') hT X'
  exact ⟨t, st t a1, b1⟩
theorem g_castN {index : Nat} (hx : p.tables.exec = Jvm.exec) (hb : c.code = cc) (hdg : decode cc pc = .ok (.checkcast index, 3)) (kk : W p l e R s m args below meth c H locs cells slots Q (F0 m (pc + 3) ls (.null :: rest))) : W p l e R s m args below meth c H locs cells slots Q (F0 m pc ls (.null :: rest)) := by
  intro T hT X
  obtain ⟨t, a1, b1⟩ := kk T hT X
  exact ⟨t, X.checkcastNull hx (g := F0 m pc ls (.null :: rest)) rfl rfl (by rw [hb]; exact hdg) t a1, b1⟩
/-- a cell that doesn't change cast to its own class, or to one that the words name -/
theorem g_castI {own C nm : String} {T : u_T} {N index a ci : Nat} {F : Nat → Value} (hx : p.tables.exec = Jvm.exec) (hb : c.code = cc) (hown : s.vm.findClass own = some m.cls) (hlink : (Cond.classLink own index nm).before args s = true) (hK : KC D aC s) (hO : OC D aC A o la z H) (hc : vwCl[ci]? = some (C, T, N)) (him : lIm la a = some (ci, F)) (hw : C = nm ∨ Cond.castable C nm ∈ lw_tbl) (hdg : decode cc pc = .ok (.checkcast index, 3)) (kk : W p l e R s m args below meth c H locs cells slots Q (F0 m (pc + 3) ls (.ref a :: rest))) : W p l e R s m args below meth c H locs cells slots Q (F0 m pc ls (.ref a :: rest)) := by
  obtain ⟨cell, h1, h2, h3⟩ := nd_recv hK hO hc him
  have hcls := (hK.1.1 ci _ hc).2
  have hce : cell.cls = D.1 ci := Option.some.inj (h3.symm.trans hcls.1)
  rcases hw with rfl | hw
  · refine g_castY hx hb hown hlink h1 h2 h3 ?_ hdg kk
    rw [hce]; exact va_assign hcls
  · obtain ⟨c3, c4, hc3, hc4, hasg⟩ := Cond.castable_spec (hK.nw hw rfl (args := args))
    refine g_castY hx hb hown hlink h1 h2 hc4 ?_ hdg kk
    rw [Option.some.inj (h3.symm.trans hc3)]; exact hasg
/-- a shelf that holds a row -/
theorem OC.row {sh h : Nat} (hO : OC D aC A o la z H) (hs : sh < 6) (hh : kHold (kz z) sh = nI h) (h4 : h ≤ 4) : ∃ a, lQ la 44 sh = some a ∧ lIm la a = some (20 + h, fun _ => .ref (lIa la sh)) ∧ okI (kA (kz z) 21 sh) 61 ∧ H[lIa la sh]? = some (shC aC h (kA (kz z) 21 sh).toNatClampNeg (z.2.2.1 (150 + sh))) ∧ shFit h (kA (kz z) 21 sh).toNatClampNeg (z.2.2.1 (150 + sh)) ∧ lTg la (lIa la sh) = 300 + sh := by
  have hti : (nI h).toInt = (h : Int) := nI_toInt (by omega)
  have hci : (nI h).toNatClampNeg = h := nI_clamp (by omega)
  have hr : kRow (kz z) sh := by unfold kRow; rw [hh, hti]; omega
  rcases hO.2.2.2.2.2.2.1 sh hs with ⟨g1, g2⟩ | ⟨g1, g2, a, g3, g4⟩ | ⟨b, g1, g2, g3⟩
  · rw [hh] at g1
    have : (nI h).toInt = -1 := by rw [g1]; rfl
    omega
  · rw [hh, hci] at g4
    have h5 := hO.2.1.2.2.1 sh hs hr
    rw [hh, hci] at h5
    exact ⟨a, g3, g4, g2, h5.1, h5.2, hO.2.2.1.2.2.2.2.1 sh hs hr⟩
  · exfalso
    rw [hh] at g2
    have hb : (b : Int) < 2147483648 := by
      have h1 : kBods (kz z) = (z.1 43).toInt.toNat := rfl
      have h2 := Int32.toInt_lt (z.1 43)
      omega
    have h3 : (nI h).toInt = ((10 : Int32) + nI b).toInt := by rw [g2]
    rw [hti, Int32.toInt_add, nI_toInt (by omega)] at h3
    have h4 : (10 : Int32).toInt = 10 := rfl
    rw [h4, Int.bmod] at h3
    split at h3 <;> omega
end RO

theorem TX23_own : ∀ k, (TX23 k).1 = RX23 := by intro k; unfold TX23; split <;> rfl
section RM
theorem metX23_size (l : Launch) (D : va_G) (aC : Nat → ClassId) (A : Nat → Prop) (o : Nat) (la : LC) (z : GS) (sh a : Nat) (hs : sh < 6) (hh : kHold (kz z) sh = 0) (ha : lQ la 44 sh = some a) : Met l yX23_size (ws_ yX23_size cX23_size 1 (some .int)) ({ frames := 0, cells := 0, slots := 0, locals := 0 }) (va_Pc [.ref a] (PC D aC A o la z)) (QR (some (.int (kA (kz z) 21 sh)))) 0 0 (fun _ => False) := by
  refine g_ofW (cc := cX23_size) (maxL := 1) (ret := (some .int)) (own := RX23) (by decide) rfl rfl [.ref a] (PC D aC A o la z) (Nat.le_of_ble_eq_true rfl) ?_
  intro p e s m below meth c ls hx hb hr hml hts hown hlocks hnm hPre hl
  obtain ⟨hO, hK, hA, hZ⟩ := hPre
  obtain ⟨a', h1, him, h2, h3, h4, -⟩ := hO.row (h := 0) hs hh (by decide)
  cases h1.symm.trans ha
  have hl : lv_has ls 1 [(0, .ref a)] := hl
  refine lv_aload_n hx hb dX23_size_0 rfl (lv_at hl 0 rfl) ?_
  refine nd_get hx hb hts in_X23 TX23_own hown hK hO (ci := 20) rfl him 0 (by decide) rfl (hts _ q1343) dX23_size_1 ?_
  have h3 : s.heap[lIa la sh]? = some (vp_cell (aC 2) ((kA (kz z) 21 sh).toNatClampNeg, .inl (fun j => (z.2.2.1 (150 + sh) j).toInt32))) := h3
  refine g_alen (v := kA (kz z) 21 sh) hx hb h3 (hK.1.2 1 _ rfl).1 ?_ dX23_size_4 ?_
  · show nI (kA (kz z) 21 sh).toNatClampNeg = _
    obtain ⟨n, hn, en⟩ := nI_of (x := kA (kz z) 21 sh) (by rw [Int32.lt_iff_toInt_lt]; show ¬ (kA (kz z) 21 sh).toInt < 0; have := h2.1; omega)
    rw [en, nI_clamp hn]
  · exact g_retR hx hb hr hlocks rfl dX23_size_5
theorem metX23_at (l : Launch) (D : va_G) (aC : Nat → ClassId) (A : Nat → Prop) (o : Nat) (la : LC) (z : GS) (sh a : Nat) (i : Int32) (hs : sh < 6) (hh : kHold (kz z) sh = 0) (ha : lQ la 44 sh = some a) (hi : 0 ≤ i.toInt ∧ i.toInt < (kA (kz z) 21 sh).toInt) : Met l yX23_at (ws_ yX23_at cX23_at 2 (some .long)) ({ frames := 0, cells := 0, slots := 0, locals := 0 }) (va_Pc [.ref a, .int i] (PC D aC A o la z)) (QR (some (.long (z.2.2.1 (150 + sh) i.toNatClampNeg).toInt32.toInt64))) 0 0 (fun _ => False) := by
  refine g_ofW (cc := cX23_at) (maxL := 2) (ret := (some .long)) (own := RX23) (by decide) rfl rfl [.ref a, .int i] (PC D aC A o la z) (Nat.le_of_ble_eq_true rfl) ?_
  intro p e s m below meth c ls hx hb hr hml hts hown hlocks hnm hPre hl
  obtain ⟨hO, hK, hA, hZ⟩ := hPre
  obtain ⟨a', h1, him, h2, h3, h4, -⟩ := hO.row (h := 0) hs hh (by decide)
  cases h1.symm.trans ha
  have hl : lv_has ls 2 [(0, .ref a), (1, .int i)] := hl
  have hin : okI i (kA (kz z) 21 sh).toNatClampNeg := ⟨hi.1, by
    have : (kA (kz z) 21 sh).toNatClampNeg = (kA (kz z) 21 sh).toInt.toNat := rfl
    rw [this]; omega⟩
  refine lv_aload_n hx hb dX23_at_0 rfl (lv_at hl 0 rfl) ?_
  refine nd_get hx hb hts in_X23 TX23_own hown hK hO (ci := 20) rfl him 0 (by decide) rfl (hts _ q1343) dX23_at_1 ?_
  refine lv_iload_n hx hb dX23_at_4 rfl (lv_at hl 1 rfl) ?_
  refine va_bald (ws := [(lIa la sh, .inl (aC 2, (kA (kz z) 21 sh).toNatClampNeg, .inl (fun j => (z.2.2.1 (150 + sh) j).toInt32)))]) hx hb hK.1 (fun j q hj => by
    cases j with
    | zero => cases hj; exact h3
    | succ j => simp at hj) 0 1 rfl rfl (okI_in hin) dX23_at_5 ?_
  refine lv_i2l hx hb dX23_at_6 rfl ?_
  exact g_retRl hx hb hr hlocks rfl dX23_at_7
end RM
section CLR
theorem clX23_size {p : Program} {l : Launch} {e : Env} {R : Room} {s : State} {m : MethodId} {args : Array Value} {below : List Frame} {meth : Method} {c : Code} {H : Heap} {locs : List Loc} {cells slots : Nat} {Q : State → Prop} {cc : ByteArray} {pc nL idx fr lo : Nat} {ls : Array Slot} {rest : List Value} {own : String} {D : va_G} {aC : Nat → ClassId} {A : Nat → Prop} {o : Nat} {la : LC} {z : GS} {sh a : Nat} {r : Int32} (hf : CallFix p m c cc nL s args lw_all own) (hK : KC D aC s) (hO : OC D aC A o la z H) (hA : ∀ q : Nat, s.heap.size ≤ q → A q) (hZ : ZX A s s.heap) (hS : va_S A s.heap H locs) (hs6 : sh < 6) (hh : kHold (kz z) sh = 0) (ha : lQ la 44 sh = some a) (hM : Met l yX23_size (ws_ yX23_size cX23_size 1 (some .int)) ({ frames := fr, cells := 0, slots := 0, locals := lo }) (va_Pc [.ref a] (PC D aC A o la z)) (QR (some (.int r))) 0 0 (fun _ => False)) (hq : Cond.methodLink own idx yX23_size ∈ lw_all) (hs : ls.size = nL) (hr : (rest.map fun v => v.category).sum ≤ 8) (hR : fr + 1 ≤ R.frames ∧ 8 + (1 + 11) + lo ≤ R.locals) (hcs : cells + 0 ≤ R.cells ∧ slots + 0 ≤ R.slots) (hd : decode cc pc = .ok (.invokevirtual idx, 3)) (kk : W p l e R s m args below meth c H locs cells slots Q (F0 m (pc + 3) ls (.int r :: rest))) : W p l e R s m args below meth c H locs cells slots Q (F0 m pc ls (.ref a :: rest)) := by
  obtain ⟨a', h1, him, -⟩ := hO.row (h := 0) hs6 hh (by decide)
  cases h1.symm.trans ha
  exact g_callR (W.runV (As := []) (rest := rest) hf hM (cwV 0 hf.2.2.2.2 (lw_V hq q961 q962 q129 q963) rfl rfl rfl (by decide +kernel) hR) ⟨PC.blind, nd_recv hK hO (ci := 20) rfl him, fun U hU hW => ⟨rfl, PC.at hO hK hA hZ hS hU hW⟩⟩ rfl rfl hs rfl (lv_room hr) hd hcs) kk
theorem clX23_at {p : Program} {l : Launch} {e : Env} {R : Room} {s : State} {m : MethodId} {args : Array Value} {below : List Frame} {meth : Method} {c : Code} {H : Heap} {locs : List Loc} {cells slots : Nat} {Q : State → Prop} {cc : ByteArray} {pc nL idx fr lo : Nat} {ls : Array Slot} {rest : List Value} {own : String} {D : va_G} {aC : Nat → ClassId} {A : Nat → Prop} {o : Nat} {la : LC} {z : GS} {sh a : Nat} {i : Int32} {r : Int64} (hf : CallFix p m c cc nL s args lw_all own) (hK : KC D aC s) (hO : OC D aC A o la z H) (hA : ∀ q : Nat, s.heap.size ≤ q → A q) (hZ : ZX A s s.heap) (hS : va_S A s.heap H locs) (hs6 : sh < 6) (hh : kHold (kz z) sh = 0) (ha : lQ la 44 sh = some a) (hM : Met l yX23_at (ws_ yX23_at cX23_at 2 (some .long)) ({ frames := fr, cells := 0, slots := 0, locals := lo }) (va_Pc [.ref a, .int i] (PC D aC A o la z)) (QR (some (.long r))) 0 0 (fun _ => False)) (hq : Cond.methodLink own idx yX23_at ∈ lw_all) (hs : ls.size = nL) (hr : (rest.map fun v => v.category).sum ≤ 8) (hR : fr + 1 ≤ R.frames ∧ 8 + (2 + 11) + lo ≤ R.locals) (hcs : cells + 0 ≤ R.cells ∧ slots + 0 ≤ R.slots) (hd : decode cc pc = .ok (.invokevirtual idx, 3)) (kk : W p l e R s m args below meth c H locs cells slots Q (F0 m (pc + 3) ls (.long r :: rest))) : W p l e R s m args below meth c H locs cells slots Q (F0 m pc ls (.int i :: .ref a :: rest)) := by
  obtain ⟨a', h1, him, -⟩ := hO.row (h := 0) hs6 hh (by decide)
  cases h1.symm.trans ha
  exact g_callR (W.runV (As := [.int i]) (rest := rest) hf hM (cwV 1 hf.2.2.2.2 (lw_V hq q479 q480 q129 q481) rfl rfl rfl (by decide +kernel) hR) ⟨PC.blind, nd_recv hK hO (ci := 20) rfl him, fun U hU hW => ⟨rfl, PC.at hO hK hA hZ hS hU hW⟩⟩ rfl rfl hs rfl (lv_room hr) hd hcs) kk
end CLR
