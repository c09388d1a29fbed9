set_option maxRecDepth 100000
/-! printed by mkact.py ===== calls of a body whatever its kind; act, taken ===== -/
def FBV_isUnder (k : Nat) (x : Int32) : Int32 := if k = 0 then FB14_isUnder_0 x else if k = 1 then FB15_isUnder_1 x else if k = 2 then FB16_isUnder_2 x else if k = 3 then FB17_isUnder_3 x else if k = 4 then FB18_isUnder_4 x else if k = 5 then FB17_isUnder_5 x else if k = 6 then FB14_isUnder_6 x else FB18_isUnder_7 x
def FBV_bears (k : Nat) (n x : Int32) (z : GS) : Option (Int32 × GS) := if k = 0 then FB14_bears_0 n x z else if k = 1 then FB15_bears_1 n x z else if k = 2 then FB14_bears_2 n x z else if k = 3 then FB14_bears_3 n x z else if k = 4 then FB15_bears_4 n x z else if k = 5 then FB14_bears_5 n x z else if k = 6 then FB20_bears_6 n x z else FB15_bears_7 n x z
def FBV_caresFor (k : Nat) (n x : Int32) (z : GS) : Option (Int32 × GS) := if k = 0 then FB14_caresFor_0 n x z else if k = 1 then FB14_caresFor_1 n x z else if k = 2 then FB16_caresFor_2 n x z else if k = 3 then FB17_caresFor_3 n x z else if k = 4 then FB14_caresFor_4 n x z else if k = 5 then FB17_caresFor_5 n x z else if k = 6 then FB14_caresFor_6 n x z else FB21_caresFor_7 n x z
def FBV_lacksIt (k : Nat) (n x : Int32) (z : GS) : Option (Int32 × GS) := if k = 0 then FB14_lacksIt_0 n x z else if k = 1 then FB14_lacksIt_1 n x z else if k = 2 then FB14_lacksIt_2 n x z else if k = 3 then FB17_lacksIt_3 n x z else if k = 4 then FB18_lacksIt_4 n x z else if k = 5 then FB17_lacksIt_5 n x z else if k = 6 then FB14_lacksIt_6 n x z else FB18_lacksIt_7 n x z
def FBV_tells (k : Nat) (n x : Int32) (z : GS) : Option (Int32 × GS) := if k = 0 then FB14_tells_0 n x z else if k = 1 then FB14_tells_1 n x z else if k = 2 then FB14_tells_2 n x z else if k = 3 then FB14_tells_3 n x z else if k = 4 then FB14_tells_4 n x z else if k = 5 then FB19_tells_5 n x z else if k = 6 then FB14_tells_6 n x z else FB21_tells_7 n x z
section BC
variable {p : Program} {l : Launch} {e : Env} {R : Room} {s : State} {m : MethodId} {args : Array Value} {below : List Frame} {meth : Method} {c : Code} {H : Heap} {locs : List Loc} {cells slots : Nat} {Q : State → Prop}
variable {cc : ByteArray} {pc nL idx count : Nat} {ls : Array Slot} {rest : List Value} {own : String} {D : va_G} {aC : Nat → ClassId} {A : Nat → Prop} {o : Nat} {la : LC} {z zq : GS} {H0 : Heap}
theorem g_runG5 {mc ms : Nat} {g : JFrame} {ov : Option Value} {P : Heap → Prop} {a : Array Value} (hr : va_Run5 p l e R s m args below meth c H locs cells slots mc ms g rest (QG ov P A a) A) (hS : va_S A H0 H locs) (kk : ∀ (H1 : Heap) (locs1 : List Loc), P H1 → va_S A H0 H1 locs1 → W p l e R s m args below meth c H1 locs1 (cells + mc) (slots + ms) Q { g with pc := g.pc + 5, stack := ov.toList ++ rest }) : W p l e R s m args below meth c H locs cells slots Q g := by
  intro T hT X
  obtain ⟨v, st₀, t, T', L, h0, X', hL, e1, e2, ⟨hv, hP, hz, hk⟩, st⟩ := hr T hT X
  cases hv
  rw [h0] at hz hk
  obtain ⟨t2, a1, b1⟩ := kk t.heap (locs ++ L) hP ⟨Nat.le_trans hS.1 hz, fun q h1 h2 => by rw [hk q (Nat.lt_of_lt_of_le h1 hS.1) h2]; exact hS.2.1 q h1 h2, fun q hq => by
      rcases List.mem_append.mp hq with h | h
      · exact hS.2.2 q h
      · exact hL q h⟩ T' e1 X'
  exact ⟨t2, st t2 a1, b1⟩
theorem KC.ifc {U : State} (h : KC D aC U) (n : Nat) {C : String} {x y : MethodName} (hn : ifTab[n]? = some (C, x, y)) : va_Fw C x y U := h.2.2.1.2 (C, x, y) (List.mem_of_getElem? hn)
theorem body8 {k : Nat} (h : k < 8) : k = 0 ∨ k = 1 ∨ k = 2 ∨ k = 3 ∨ k = 4 ∨ k = 5 ∨ k = 6 ∨ k = 7 := by omega
theorem absF {own C : String} {idx : Nat} {x y : MethodName} (hq : Cond.methodLink own idx x ∈ lw_all) (hsel : Cond.selects C x y ∈ lw_all) (hinst : Cond.instanceMethod y ∈ lw_all) (hini : Cond.initialized y.cls ∈ lw_all) : ∀ w ∈ [Cond.methodLink own idx x, Cond.selects C x y, Cond.instanceMethod y, Cond.initialized y.cls], w ∈ lw_all := by
  intro w hw
  simp only [List.mem_cons, List.not_mem_nil, or_false] at hw
  rcases hw with e | e | e | e
  · rw [e]; exact hq
  · rw [e]; exact hsel
  · rw [e]; exact hinst
  · rw [e]; exact hini
theorem body_kind {k b j : Nat} (hk8 : k < 8) (him : lIm la b = some (bCi k, bodF o j)) (hf : CallFix p m c cc nL s args lw_all own) (hK : KC D aC s) (hO : OC D aC A o la z H) (hA : ∀ q : Nat, s.heap.size ≤ q → A q) (hZ : ZX A s s.heap) (hS : va_S A s.heap H locs) (hq : Cond.methodLink own idx ⟨"ShieldLine$Shield", "kind", "()I"⟩ ∈ lw_all) (hs : ls.size = nL) (hr : (rest.map fun v => v.category).sum ≤ 8) (hR : 8 ≤ R.frames ∧ 200 ≤ R.locals) (hcs : cells ≤ R.cells ∧ slots ≤ R.slots) (hd : decode cc pc = .ok (.invokevirtual idx, 3)) (kk : W p l e R s m args below meth c H locs cells slots Q (F0 m (pc + 3) ls (.int (nI k) :: rest))) : W p l e R s m args below meth c H locs cells slots Q (F0 m pc ls (.ref b :: rest)) := by
  obtain ⟨R1, R2⟩ := hR
  rcases body8 hk8 with rfl | rfl | rfl | rfl | rfl | rfl | rfl | rfl
  · exact g_runR (mc := 0) (ms := 0) (va_runU (x := ⟨"ShieldLine$Shield", "kind", "()I"⟩) (owner := "ShieldLine$Shield") (C := "ShieldLine$Shield") (As := []) (rest := rest) hf (metX14_kind_0 l D aC A o la b z) (va_cwU 0 hf.2.2.2.2 (lw_app (absW hq q1484 q1483 q1482 q119) (lw_meth q1506)) rfl rfl rfl rfl (by decide +kernel) ⟨by dsimp only; omega, by dsimp only; omega⟩) ⟨PC.blind, nd_recv hK hO (ci := 12) rfl him, fun U hU hW => ⟨rfl, PC.at hO hK hA hZ hS hU hW⟩⟩ rfl rfl hs rfl (lv_room hr) hd hcs) kk
  · exact g_runR (mc := 0) (ms := 0) (va_runU (x := ⟨"ShieldLine$Shield", "kind", "()I"⟩) (owner := "ShieldLine$Shield") (C := "ShieldLine$Roof") (As := []) (rest := rest) hf (metX15_kind_1 l D aC A o la b z) (va_cwO 0 hf.2.2.2.2 (lw_app (absO hq q1484 q1482 q1500 q1501 q120) (lw_meth q1502)) rfl rfl rfl q1506 (by decide +kernel) ⟨by dsimp only; omega, by dsimp only; omega⟩) ⟨PC.blind, nd_recv hK hO (ci := 13) rfl him, fun U hU hW => ⟨rfl, PC.at hO hK hA hZ hS hU hW⟩⟩ rfl rfl hs rfl (lv_room hr) hd hcs) kk
  · exact g_runR (mc := 0) (ms := 0) (va_runU (x := ⟨"ShieldLine$Shield", "kind", "()I"⟩) (owner := "ShieldLine$Shield") (C := "ShieldLine$Lamp") (As := []) (rest := rest) hf (metX16_kind_2 l D aC A o la b z) (va_cwO 0 hf.2.2.2.2 (lw_app (absO hq q1484 q1482 q1494 q1495 q121) (lw_meth q1496)) rfl rfl rfl q1506 (by decide +kernel) ⟨by dsimp only; omega, by dsimp only; omega⟩) ⟨PC.blind, nd_recv hK hO (ci := 14) rfl him, fun U hU hW => ⟨rfl, PC.at hO hK hA hZ hS hU hW⟩⟩ rfl rfl hs rfl (lv_room hr) hd hcs) kk
  · exact g_runR (mc := 0) (ms := 0) (va_runU (x := ⟨"ShieldLine$Shield", "kind", "()I"⟩) (owner := "ShieldLine$Shield") (C := "ShieldLine$Post") (As := []) (rest := rest) hf (metX17_kind_3 l D aC A o la b z) (va_cwO 0 hf.2.2.2.2 (lw_app (absO hq q1484 q1482 q1497 q1498 q122) (lw_meth q1499)) rfl rfl rfl q1506 (by decide +kernel) ⟨by dsimp only; omega, by dsimp only; omega⟩) ⟨PC.blind, nd_recv hK hO (ci := 15) rfl him, fun U hU hW => ⟨rfl, PC.at hO hK hA hZ hS hU hW⟩⟩ rfl rfl hs rfl (lv_room hr) hd hcs) kk
  · exact g_runR (mc := 0) (ms := 0) (va_runU (x := ⟨"ShieldLine$Shield", "kind", "()I"⟩) (owner := "ShieldLine$Shield") (C := "ShieldLine$Widow") (As := []) (rest := rest) hf (metX18_kind_4 l D aC A o la b z) (va_cwO 0 hf.2.2.2.2 (lw_app (absO hq q1484 q1482 q1503 q1504 q123) (lw_meth q1505)) rfl rfl rfl q1506 (by decide +kernel) ⟨by dsimp only; omega, by dsimp only; omega⟩) ⟨PC.blind, nd_recv hK hO (ci := 16) rfl him, fun U hU hW => ⟨rfl, PC.at hO hK hA hZ hS hU hW⟩⟩ rfl rfl hs rfl (lv_room hr) hd hcs) kk
  · exact g_runR (mc := 0) (ms := 0) (va_runU (x := ⟨"ShieldLine$Shield", "kind", "()I"⟩) (owner := "ShieldLine$Shield") (C := "ShieldLine$Can") (As := []) (rest := rest) hf (metX19_kind_5 l D aC A o la b z) (va_cwO 0 hf.2.2.2.2 (lw_app (absO hq q1484 q1482 q1485 q1486 q124) (lw_meth q1487)) rfl rfl rfl q1506 (by decide +kernel) ⟨by dsimp only; omega, by dsimp only; omega⟩) ⟨PC.blind, nd_recv hK hO (ci := 17) rfl him, fun U hU hW => ⟨rfl, PC.at hO hK hA hZ hS hU hW⟩⟩ rfl rfl hs rfl (lv_room hr) hd hcs) kk
  · exact g_runR (mc := 0) (ms := 0) (va_runU (x := ⟨"ShieldLine$Shield", "kind", "()I"⟩) (owner := "ShieldLine$Shield") (C := "ShieldLine$Kiln") (As := []) (rest := rest) hf (metX20_kind_6 l D aC A o la b z) (va_cwO 0 hf.2.2.2.2 (lw_app (absO hq q1484 q1482 q1491 q1492 q125) (lw_meth q1493)) rfl rfl rfl q1506 (by decide +kernel) ⟨by dsimp only; omega, by dsimp only; omega⟩) ⟨PC.blind, nd_recv hK hO (ci := 18) rfl him, fun U hU hW => ⟨rfl, PC.at hO hK hA hZ hS hU hW⟩⟩ rfl rfl hs rfl (lv_room hr) hd hcs) kk
  · exact g_runR (mc := 0) (ms := 0) (va_runU (x := ⟨"ShieldLine$Shield", "kind", "()I"⟩) (owner := "ShieldLine$Shield") (C := "ShieldLine$Hill") (As := []) (rest := rest) hf (metX21_kind_7 l D aC A o la b z) (va_cwO 0 hf.2.2.2.2 (lw_app (absO hq q1484 q1482 q1488 q1489 q126) (lw_meth q1490)) rfl rfl rfl q1506 (by decide +kernel) ⟨by dsimp only; omega, by dsimp only; omega⟩) ⟨PC.blind, nd_recv hK hO (ci := 19) rfl him, fun U hU hW => ⟨rfl, PC.at hO hK hA hZ hS hU hW⟩⟩ rfl rfl hs rfl (lv_room hr) hd hcs) kk
theorem body_isUnder {k b j : Nat} {x : Int32} (hk8 : k < 8) (him : lIm la b = some (bCi k, bodF o j)) (hf : CallFix p m c cc nL s args lw_all own) (hK : KC D aC s) (hO : OC D aC A o la z H) (hA : ∀ q : Nat, s.heap.size ≤ q → A q) (hZ : ZX A s s.heap) (hS : va_S A s.heap H locs) (hq : Cond.methodLink own idx ⟨"ShieldLine$Shield", "isUnder", "(I)Z"⟩ ∈ lw_all) (hs : ls.size = nL) (hr : (rest.map fun v => v.category).sum ≤ 8) (hR : 8 ≤ R.frames ∧ 200 ≤ R.locals) (hcs : cells ≤ R.cells ∧ slots ≤ R.slots) (hd : decode cc pc = .ok (.invokevirtual idx, 3)) (kk : W p l e R s m args below meth c H locs cells slots Q (F0 m (pc + 3) ls (.int (FBV_isUnder k x) :: rest))) : W p l e R s m args below meth c H locs cells slots Q (F0 m pc ls (.int x :: .ref b :: rest)) := by
  obtain ⟨R1, R2⟩ := hR
  rcases body8 hk8 with rfl | rfl | rfl | rfl | rfl | rfl | rfl | rfl
  · exact g_runR (mc := 0) (ms := 0) (va_runU (x := ⟨"ShieldLine$Shield", "isUnder", "(I)Z"⟩) (owner := "ShieldLine$Shield") (C := "ShieldLine$Shield") (As := [.int x]) (rest := rest) hf (metX14_isUnder_0 l D aC A o la b j him x z _ rfl) (va_cwU 1 hf.2.2.2.2 (lw_app (absW hq q1472 q1471 q1470 q119) (lw_meth q1480)) rfl rfl rfl rfl (by decide +kernel) ⟨by dsimp only; omega, by dsimp only; omega⟩) ⟨PC.blind, nd_recv hK hO (ci := 12) rfl him, fun U hU hW => ⟨rfl, PC.at hO hK hA hZ hS hU hW⟩⟩ rfl rfl hs rfl (lv_room hr) hd hcs) kk
  · exact g_runR (mc := 0) (ms := 0) (va_runU (x := ⟨"ShieldLine$Shield", "isUnder", "(I)Z"⟩) (owner := "ShieldLine$Shield") (C := "ShieldLine$Roof") (As := [.int x]) (rest := rest) hf (metX15_isUnder_1 l D aC A o la b j him x z _ rfl) (va_cwO 1 hf.2.2.2.2 (lw_app (absO hq q1472 q1470 q1517 q1511 q120) (lw_meth q1512)) rfl rfl rfl q1480 (by decide +kernel) ⟨by dsimp only; omega, by dsimp only; omega⟩) ⟨PC.blind, nd_recv hK hO (ci := 13) rfl him, fun U hU hW => ⟨rfl, PC.at hO hK hA hZ hS hU hW⟩⟩ rfl rfl hs rfl (lv_room hr) hd hcs) kk
  · exact g_runR (mc := 0) (ms := 0) (va_runU (x := ⟨"ShieldLine$Shield", "isUnder", "(I)Z"⟩) (owner := "ShieldLine$Shield") (C := "ShieldLine$Lamp") (As := [.int x]) (rest := rest) hf (metX16_isUnder_2 l D aC A o la b j him x z _ rfl) (va_cwO 1 hf.2.2.2.2 (lw_app (absO hq q1472 q1470 q1515 q1477 q121) (lw_meth q1478)) rfl rfl rfl q1480 (by decide +kernel) ⟨by dsimp only; omega, by dsimp only; omega⟩) ⟨PC.blind, nd_recv hK hO (ci := 14) rfl him, fun U hU hW => ⟨rfl, PC.at hO hK hA hZ hS hU hW⟩⟩ rfl rfl hs rfl (lv_room hr) hd hcs) kk
  · exact g_runR (mc := 0) (ms := 0) (va_runU (x := ⟨"ShieldLine$Shield", "isUnder", "(I)Z"⟩) (owner := "ShieldLine$Shield") (C := "ShieldLine$Post") (As := [.int x]) (rest := rest) hf (metX17_isUnder_3 l D aC A o la b j him x z _ rfl) (va_cwO 1 hf.2.2.2.2 (lw_app (absO hq q1472 q1470 q1516 q1474 q122) (lw_meth q1475)) rfl rfl rfl q1480 (by decide +kernel) ⟨by dsimp only; omega, by dsimp only; omega⟩) ⟨PC.blind, nd_recv hK hO (ci := 15) rfl him, fun U hU hW => ⟨rfl, PC.at hO hK hA hZ hS hU hW⟩⟩ rfl rfl hs rfl (lv_room hr) hd hcs) kk
  · exact g_runR (mc := 0) (ms := 0) (va_runU (x := ⟨"ShieldLine$Shield", "isUnder", "(I)Z"⟩) (owner := "ShieldLine$Shield") (C := "ShieldLine$Widow") (As := [.int x]) (rest := rest) hf (metX18_isUnder_4 l D aC A o la b j him x z _ rfl) (va_cwO 1 hf.2.2.2.2 (lw_app (absO hq q1472 q1470 q1518 q1508 q123) (lw_meth q1509)) rfl rfl rfl q1480 (by decide +kernel) ⟨by dsimp only; omega, by dsimp only; omega⟩) ⟨PC.blind, nd_recv hK hO (ci := 16) rfl him, fun U hU hW => ⟨rfl, PC.at hO hK hA hZ hS hU hW⟩⟩ rfl rfl hs rfl (lv_room hr) hd hcs) kk
  · exact g_runR (mc := 0) (ms := 0) (va_runU (x := ⟨"ShieldLine$Shield", "isUnder", "(I)Z"⟩) (owner := "ShieldLine$Shield") (C := "ShieldLine$Can") (As := [.int x]) (rest := rest) hf (metX17_isUnder_5 l D aC A o la b j him x z _ rfl) (va_cwO 1 hf.2.2.2.2 (lw_app (absO hq q1472 q1470 q1473 q1474 q122) (lw_meth q1475)) rfl rfl rfl q1480 (by decide +kernel) ⟨by dsimp only; omega, by dsimp only; omega⟩) ⟨PC.blind, nd_recv hK hO (ci := 17) rfl him, fun U hU hW => ⟨rfl, PC.at hO hK hA hZ hS hU hW⟩⟩ rfl rfl hs rfl (lv_room hr) hd hcs) kk
  · exact g_runR (mc := 0) (ms := 0) (va_runU (x := ⟨"ShieldLine$Shield", "isUnder", "(I)Z"⟩) (owner := "ShieldLine$Shield") (C := "ShieldLine$Kiln") (As := [.int x]) (rest := rest) hf (metX14_isUnder_6 l D aC A o la b j him x z _ rfl) (va_cwU 1 hf.2.2.2.2 (lw_app (absW hq q1472 q1514 q1470 q119) (lw_meth q1480)) rfl rfl rfl rfl (by decide +kernel) ⟨by dsimp only; omega, by dsimp only; omega⟩) ⟨PC.blind, nd_recv hK hO (ci := 18) rfl him, fun U hU hW => ⟨rfl, PC.at hO hK hA hZ hS hU hW⟩⟩ rfl rfl hs rfl (lv_room hr) hd hcs) kk
  · exact g_runR (mc := 0) (ms := 0) (va_runU (x := ⟨"ShieldLine$Shield", "isUnder", "(I)Z"⟩) (owner := "ShieldLine$Shield") (C := "ShieldLine$Hill") (As := [.int x]) (rest := rest) hf (metX18_isUnder_7 l D aC A o la b j him x z _ rfl) (va_cwO 1 hf.2.2.2.2 (lw_app (absO hq q1472 q1470 q1507 q1508 q123) (lw_meth q1509)) rfl rfl rfl q1480 (by decide +kernel) ⟨by dsimp only; omega, by dsimp only; omega⟩) ⟨PC.blind, nd_recv hK hO (ci := 19) rfl him, fun U hU hW => ⟨rfl, PC.at hO hK hA hZ hS hU hW⟩⟩ rfl rfl hs rfl (lv_room hr) hd hcs) kk
theorem body_bears {k b j : Nat} {x : Int32} (hk8 : k < 8) (him : lIm la b = some (bCi k, bodF o j)) {r : Int32} (h : FBV_bears k (nI j) x z = some (r, zq)) (hf : CallFix p m c cc nL s args lw_all own) (hK : KC D aC s) (hO : OC D aC A o la z H) (hA : ∀ q : Nat, s.heap.size ≤ q → A q) (hZ : ZX A s s.heap) (hS : va_S A s.heap H locs) (hq : Cond.methodLink own idx ⟨"ShieldLine$Bears", "bears", "(I)I"⟩ ∈ lw_all) (hs : ls.size = nL) (hr : (rest.map fun v => v.category).sum ≤ 8) (hR : 8 ≤ R.frames ∧ 200 ≤ R.locals) (hcs : cells ≤ R.cells ∧ slots ≤ R.slots) (hd : decode cc pc = .ok (.invokeinterface idx count, 5)) (kk : ∀ (H1 : Heap) (locs1 : List Loc), OC D aC A o la zq H1 → va_S A s.heap H1 locs1 → W p l e R s m args below meth c H1 locs1 cells slots Q (F0 m (pc + 5) ls (.int r :: rest))) : W p l e R s m args below meth c H locs cells slots Q (F0 m pc ls (.int x :: .ref b :: rest)) := by
  obtain ⟨R1, R2⟩ := hR
  rcases body8 hk8 with rfl | rfl | rfl | rfl | rfl | rfl | rfl | rfl
  · have h : FB14_bears_0 (nI j) x z = some (r, zq) := h
    exact g_runG5 (mc := 0) (ms := 0) (va_runF (x := ⟨"ShieldLine$Bears", "bears", "(I)I"⟩) (C := "ShieldLine$Shield") (As := [.int x]) (rest := rest) (hK.1.1 12 _ rfl).2 hf (metX14_bears_0 l D aC A o la b j him x z r zq h) (va_cwF 1 hf.2.2.2.2 (lw_app (absF hq q1207 q1174 q119) (lw_meth q1176)) rfl rfl rfl (hK.ifc 0 rfl) (by decide +kernel) ⟨by dsimp only; omega, by dsimp only; omega⟩) ⟨PC.blind, nd_recv hK hO (ci := 12) rfl him, fun U hU hW => ⟨rfl, PC.at hO hK hA hZ hS hU hW⟩⟩ rfl rfl hs rfl (lv_room hr) hd hcs) hS (fun H1 locs1 hP hS => kk H1 locs1 hP hS)
  · have h : FB15_bears_1 (nI j) x z = some (r, zq) := h
    exact g_runG5 (mc := 0) (ms := 0) (va_runF (x := ⟨"ShieldLine$Bears", "bears", "(I)I"⟩) (C := "ShieldLine$Roof") (As := [.int x]) (rest := rest) (hK.1.1 13 _ rfl).2 hf (metX15_bears_1 l D aC A o la b j him x z r zq h) (va_cwF 1 hf.2.2.2.2 (lw_app (absF hq q1204 q1184 q120) (lw_meth q1186)) rfl rfl rfl (hK.ifc 1 rfl) (by decide +kernel) ⟨by dsimp only; omega, by dsimp only; omega⟩) ⟨PC.blind, nd_recv hK hO (ci := 13) rfl him, fun U hU hW => ⟨rfl, PC.at hO hK hA hZ hS hU hW⟩⟩ rfl rfl hs rfl (lv_room hr) hd hcs) hS (fun H1 locs1 hP hS => kk H1 locs1 hP hS)
  · have h : FB14_bears_2 (nI j) x z = some (r, zq) := h
    exact g_runG5 (mc := 0) (ms := 0) (va_runF (x := ⟨"ShieldLine$Bears", "bears", "(I)I"⟩) (C := "ShieldLine$Lamp") (As := [.int x]) (rest := rest) (hK.1.1 14 _ rfl).2 hf (metX14_bears_2 l D aC A o la b j him x z r zq h) (va_cwF 1 hf.2.2.2.2 (lw_app (absF hq q1198 q1174 q119) (lw_meth q1176)) rfl rfl rfl (hK.ifc 2 rfl) (by decide +kernel) ⟨by dsimp only; omega, by dsimp only; omega⟩) ⟨PC.blind, nd_recv hK hO (ci := 14) rfl him, fun U hU hW => ⟨rfl, PC.at hO hK hA hZ hS hU hW⟩⟩ rfl rfl hs rfl (lv_room hr) hd hcs) hS (fun H1 locs1 hP hS => kk H1 locs1 hP hS)
  · have h : FB14_bears_3 (nI j) x z = some (r, zq) := h
    exact g_runG5 (mc := 0) (ms := 0) (va_runF (x := ⟨"ShieldLine$Bears", "bears", "(I)I"⟩) (C := "ShieldLine$Post") (As := [.int x]) (rest := rest) (hK.1.1 15 _ rfl).2 hf (metX14_bears_3 l D aC A o la b j him x z r zq h) (va_cwF 1 hf.2.2.2.2 (lw_app (absF hq q1201 q1174 q119) (lw_meth q1176)) rfl rfl rfl (hK.ifc 3 rfl) (by decide +kernel) ⟨by dsimp only; omega, by dsimp only; omega⟩) ⟨PC.blind, nd_recv hK hO (ci := 15) rfl him, fun U hU hW => ⟨rfl, PC.at hO hK hA hZ hS hU hW⟩⟩ rfl rfl hs rfl (lv_room hr) hd hcs) hS (fun H1 locs1 hP hS => kk H1 locs1 hP hS)
  · have h : FB15_bears_4 (nI j) x z = some (r, zq) := h
    exact g_runG5 (mc := 0) (ms := 0) (va_runF (x := ⟨"ShieldLine$Bears", "bears", "(I)I"⟩) (C := "ShieldLine$Widow") (As := [.int x]) (rest := rest) (hK.1.1 16 _ rfl).2 hf (metX15_bears_4 l D aC A o la b j him x z r zq h) (va_cwF 1 hf.2.2.2.2 (lw_app (absF hq q1210 q1184 q120) (lw_meth q1186)) rfl rfl rfl (hK.ifc 4 rfl) (by decide +kernel) ⟨by dsimp only; omega, by dsimp only; omega⟩) ⟨PC.blind, nd_recv hK hO (ci := 16) rfl him, fun U hU hW => ⟨rfl, PC.at hO hK hA hZ hS hU hW⟩⟩ rfl rfl hs rfl (lv_room hr) hd hcs) hS (fun H1 locs1 hP hS => kk H1 locs1 hP hS)
  · have h : FB14_bears_5 (nI j) x z = some (r, zq) := h
    exact g_runG5 (mc := 0) (ms := 0) (va_runF (x := ⟨"ShieldLine$Bears", "bears", "(I)I"⟩) (C := "ShieldLine$Can") (As := [.int x]) (rest := rest) (hK.1.1 17 _ rfl).2 hf (metX14_bears_5 l D aC A o la b j him x z r zq h) (va_cwF 1 hf.2.2.2.2 (lw_app (absF hq q1172 q1174 q119) (lw_meth q1176)) rfl rfl rfl (hK.ifc 5 rfl) (by decide +kernel) ⟨by dsimp only; omega, by dsimp only; omega⟩) ⟨PC.blind, nd_recv hK hO (ci := 17) rfl him, fun U hU hW => ⟨rfl, PC.at hO hK hA hZ hS hU hW⟩⟩ rfl rfl hs rfl (lv_room hr) hd hcs) hS (fun H1 locs1 hP hS => kk H1 locs1 hP hS)
  · have h : FB20_bears_6 (nI j) x z = some (r, zq) := h
    exact g_runG5 (mc := 0) (ms := 0) (va_runF (x := ⟨"ShieldLine$Bears", "bears", "(I)I"⟩) (C := "ShieldLine$Kiln") (As := [.int x]) (rest := rest) (hK.1.1 18 _ rfl).2 hf (metX20_bears_6 l D aC A o la b j him x z r zq h) (va_cwF 1 hf.2.2.2.2 (lw_app (absF hq q1190 q1192 q125) (lw_meth q1194)) rfl rfl rfl (hK.ifc 6 rfl) (by decide +kernel) ⟨by dsimp only; omega, by dsimp only; omega⟩) ⟨PC.blind, nd_recv hK hO (ci := 18) rfl him, fun U hU hW => ⟨rfl, PC.at hO hK hA hZ hS hU hW⟩⟩ rfl rfl hs rfl (lv_room hr) hd hcs) hS (fun H1 locs1 hP hS => kk H1 locs1 hP hS)
  · have h : FB15_bears_7 (nI j) x z = some (r, zq) := h
    exact g_runG5 (mc := 0) (ms := 0) (va_runF (x := ⟨"ShieldLine$Bears", "bears", "(I)I"⟩) (C := "ShieldLine$Hill") (As := [.int x]) (rest := rest) (hK.1.1 19 _ rfl).2 hf (metX15_bears_7 l D aC A o la b j him x z r zq h) (va_cwF 1 hf.2.2.2.2 (lw_app (absF hq q1182 q1184 q120) (lw_meth q1186)) rfl rfl rfl (hK.ifc 7 rfl) (by decide +kernel) ⟨by dsimp only; omega, by dsimp only; omega⟩) ⟨PC.blind, nd_recv hK hO (ci := 19) rfl him, fun U hU hW => ⟨rfl, PC.at hO hK hA hZ hS hU hW⟩⟩ rfl rfl hs rfl (lv_room hr) hd hcs) hS (fun H1 locs1 hP hS => kk H1 locs1 hP hS)
theorem body_caresFor {k b j : Nat} {x : Int32} (hk8 : k < 8) (him : lIm la b = some (bCi k, bodF o j)) {r : Int32} (h : FBV_caresFor k (nI j) x z = some (r, zq)) (hf : CallFix p m c cc nL s args lw_all own) (hK : KC D aC s) (hO : OC D aC A o la z H) (hA : ∀ q : Nat, s.heap.size ≤ q → A q) (hZ : ZX A s s.heap) (hS : va_S A s.heap H locs) (hq : Cond.methodLink own idx ⟨"ShieldLine$Shield", "caresFor", "(I)I"⟩ ∈ lw_all) (hs : ls.size = nL) (hr : (rest.map fun v => v.category).sum ≤ 8) (hR : 8 ≤ R.frames ∧ 200 ≤ R.locals) (hcs : cells ≤ R.cells ∧ slots ≤ R.slots) (hd : decode cc pc = .ok (.invokevirtual idx, 3)) (kk : ∀ (H1 : Heap) (locs1 : List Loc), OC D aC A o la zq H1 → va_S A s.heap H1 locs1 → W p l e R s m args below meth c H1 locs1 cells slots Q (F0 m (pc + 3) ls (.int r :: rest))) : W p l e R s m args below meth c H locs cells slots Q (F0 m pc ls (.int x :: .ref b :: rest)) := by
  obtain ⟨R1, R2⟩ := hR
  rcases body8 hk8 with rfl | rfl | rfl | rfl | rfl | rfl | rfl | rfl
  · have h : FB14_caresFor_0 (nI j) x z = some (r, zq) := h
    exact g_runG (mc := 0) (ms := 0) (va_runU (x := ⟨"ShieldLine$Shield", "caresFor", "(I)I"⟩) (owner := "ShieldLine$Shield") (C := "ShieldLine$Shield") (As := [.int x]) (rest := rest) hf (metX14_caresFor_0 l D aC A o la b j him x z r zq h) (va_cwU 1 hf.2.2.2.2 (lw_app (absW hq q1231 q1230 q1229 q119) (lw_meth q1241)) rfl rfl rfl rfl (by decide +kernel) ⟨by dsimp only; omega, by dsimp only; omega⟩) ⟨PC.blind, nd_recv hK hO (ci := 12) rfl him, fun U hU hW => ⟨rfl, PC.at hO hK hA hZ hS hU hW⟩⟩ rfl rfl hs rfl (lv_room hr) hd hcs) hS (fun H1 locs1 hP hS _ _ => kk H1 locs1 hP hS)
  · have h : FB14_caresFor_1 (nI j) x z = some (r, zq) := h
    exact g_runG (mc := 0) (ms := 0) (va_runU (x := ⟨"ShieldLine$Shield", "caresFor", "(I)I"⟩) (owner := "ShieldLine$Shield") (C := "ShieldLine$Roof") (As := [.int x]) (rest := rest) hf (metX14_caresFor_1 l D aC A o la b j him x z r zq h) (va_cwU 1 hf.2.2.2.2 (lw_app (absW hq q1231 q1270 q1229 q119) (lw_meth q1241)) rfl rfl rfl rfl (by decide +kernel) ⟨by dsimp only; omega, by dsimp only; omega⟩) ⟨PC.blind, nd_recv hK hO (ci := 13) rfl him, fun U hU hW => ⟨rfl, PC.at hO hK hA hZ hS hU hW⟩⟩ rfl rfl hs rfl (lv_room hr) hd hcs) hS (fun H1 locs1 hP hS _ _ => kk H1 locs1 hP hS)
  · have h : FB16_caresFor_2 (nI j) x z = some (r, zq) := h
    exact g_runG (mc := 0) (ms := 0) (va_runU (x := ⟨"ShieldLine$Shield", "caresFor", "(I)I"⟩) (owner := "ShieldLine$Shield") (C := "ShieldLine$Lamp") (As := [.int x]) (rest := rest) hf (metX16_caresFor_2 l D aC A o la b j him x z r zq h) (va_cwO 1 hf.2.2.2.2 (lw_app (absO hq q1231 q1229 q1268 q1237 q121) (lw_meth q1238)) rfl rfl rfl q1241 (by decide +kernel) ⟨by dsimp only; omega, by dsimp only; omega⟩) ⟨PC.blind, nd_recv hK hO (ci := 14) rfl him, fun U hU hW => ⟨rfl, PC.at hO hK hA hZ hS hU hW⟩⟩ rfl rfl hs rfl (lv_room hr) hd hcs) hS (fun H1 locs1 hP hS _ _ => kk H1 locs1 hP hS)
  · have h : FB17_caresFor_3 (nI j) x z = some (r, zq) := h
    exact g_runG (mc := 0) (ms := 0) (va_runU (x := ⟨"ShieldLine$Shield", "caresFor", "(I)I"⟩) (owner := "ShieldLine$Shield") (C := "ShieldLine$Post") (As := [.int x]) (rest := rest) hf (metX17_caresFor_3 l D aC A o la b j him x z r zq h) (va_cwO 1 hf.2.2.2.2 (lw_app (absO hq q1231 q1229 q1269 q1233 q122) (lw_meth q1234)) rfl rfl rfl q1241 (by decide +kernel) ⟨by dsimp only; omega, by dsimp only; omega⟩) ⟨PC.blind, nd_recv hK hO (ci := 15) rfl him, fun U hU hW => ⟨rfl, PC.at hO hK hA hZ hS hU hW⟩⟩ rfl rfl hs rfl (lv_room hr) hd hcs) hS (fun H1 locs1 hP hS _ _ => kk H1 locs1 hP hS)
  · have h : FB14_caresFor_4 (nI j) x z = some (r, zq) := h
    exact g_runG (mc := 0) (ms := 0) (va_runU (x := ⟨"ShieldLine$Shield", "caresFor", "(I)I"⟩) (owner := "ShieldLine$Shield") (C := "ShieldLine$Widow") (As := [.int x]) (rest := rest) hf (metX14_caresFor_4 l D aC A o la b j him x z r zq h) (va_cwU 1 hf.2.2.2.2 (lw_app (absW hq q1231 q1271 q1229 q119) (lw_meth q1241)) rfl rfl rfl rfl (by decide +kernel) ⟨by dsimp only; omega, by dsimp only; omega⟩) ⟨PC.blind, nd_recv hK hO (ci := 16) rfl him, fun U hU hW => ⟨rfl, PC.at hO hK hA hZ hS hU hW⟩⟩ rfl rfl hs rfl (lv_room hr) hd hcs) hS (fun H1 locs1 hP hS _ _ => kk H1 locs1 hP hS)
  · have h : FB17_caresFor_5 (nI j) x z = some (r, zq) := h
    exact g_runG (mc := 0) (ms := 0) (va_runU (x := ⟨"ShieldLine$Shield", "caresFor", "(I)I"⟩) (owner := "ShieldLine$Shield") (C := "ShieldLine$Can") (As := [.int x]) (rest := rest) hf (metX17_caresFor_5 l D aC A o la b j him x z r zq h) (va_cwO 1 hf.2.2.2.2 (lw_app (absO hq q1231 q1229 q1232 q1233 q122) (lw_meth q1234)) rfl rfl rfl q1241 (by decide +kernel) ⟨by dsimp only; omega, by dsimp only; omega⟩) ⟨PC.blind, nd_recv hK hO (ci := 17) rfl him, fun U hU hW => ⟨rfl, PC.at hO hK hA hZ hS hU hW⟩⟩ rfl rfl hs rfl (lv_room hr) hd hcs) hS (fun H1 locs1 hP hS _ _ => kk H1 locs1 hP hS)
  · have h : FB14_caresFor_6 (nI j) x z = some (r, zq) := h
    exact g_runG (mc := 0) (ms := 0) (va_runU (x := ⟨"ShieldLine$Shield", "caresFor", "(I)I"⟩) (owner := "ShieldLine$Shield") (C := "ShieldLine$Kiln") (As := [.int x]) (rest := rest) hf (metX14_caresFor_6 l D aC A o la b j him x z r zq h) (va_cwU 1 hf.2.2.2.2 (lw_app (absW hq q1231 q1267 q1229 q119) (lw_meth q1241)) rfl rfl rfl rfl (by decide +kernel) ⟨by dsimp only; omega, by dsimp only; omega⟩) ⟨PC.blind, nd_recv hK hO (ci := 18) rfl him, fun U hU hW => ⟨rfl, PC.at hO hK hA hZ hS hU hW⟩⟩ rfl rfl hs rfl (lv_room hr) hd hcs) hS (fun H1 locs1 hP hS _ _ => kk H1 locs1 hP hS)
  · have h : FB21_caresFor_7 (nI j) x z = some (r, zq) := h
    exact g_runG (mc := 0) (ms := 0) (va_runU (x := ⟨"ShieldLine$Shield", "caresFor", "(I)I"⟩) (owner := "ShieldLine$Shield") (C := "ShieldLine$Hill") (As := [.int x]) (rest := rest) hf (metX21_caresFor_7 l D aC A o la b j him x z r zq h) (va_cwO 1 hf.2.2.2.2 (lw_app (absO hq q1231 q1229 q1243 q1244 q126) (lw_meth q1245)) rfl rfl rfl q1241 (by decide +kernel) ⟨by dsimp only; omega, by dsimp only; omega⟩) ⟨PC.blind, nd_recv hK hO (ci := 19) rfl him, fun U hU hW => ⟨rfl, PC.at hO hK hA hZ hS hU hW⟩⟩ rfl rfl hs rfl (lv_room hr) hd hcs) hS (fun H1 locs1 hP hS _ _ => kk H1 locs1 hP hS)
theorem body_lacksIt {k b j : Nat} {x : Int32} (hk8 : k < 8) (him : lIm la b = some (bCi k, bodF o j)) {r : Int32} (h : FBV_lacksIt k (nI j) x z = some (r, zq)) (hf : CallFix p m c cc nL s args lw_all own) (hK : KC D aC s) (hO : OC D aC A o la z H) (hA : ∀ q : Nat, s.heap.size ≤ q → A q) (hZ : ZX A s s.heap) (hS : va_S A s.heap H locs) (hq : Cond.methodLink own idx ⟨"ShieldLine$Shield", "lacksIt", "(I)I"⟩ ∈ lw_all) (hs : ls.size = nL) (hr : (rest.map fun v => v.category).sum ≤ 8) (hR : 8 ≤ R.frames ∧ 200 ≤ R.locals) (hcs : cells ≤ R.cells ∧ slots ≤ R.slots) (hd : decode cc pc = .ok (.invokevirtual idx, 3)) (kk : ∀ (H1 : Heap) (locs1 : List Loc), OC D aC A o la zq H1 → va_S A s.heap H1 locs1 → W p l e R s m args below meth c H1 locs1 cells slots Q (F0 m (pc + 3) ls (.int r :: rest))) : W p l e R s m args below meth c H locs cells slots Q (F0 m pc ls (.int x :: .ref b :: rest)) := by
  obtain ⟨R1, R2⟩ := hR
  rcases body8 hk8 with rfl | rfl | rfl | rfl | rfl | rfl | rfl | rfl
  · have h : FB14_lacksIt_0 (nI j) x z = some (r, zq) := h
    exact g_runG (mc := 0) (ms := 0) (va_runU (x := ⟨"ShieldLine$Shield", "lacksIt", "(I)I"⟩) (owner := "ShieldLine$Shield") (C := "ShieldLine$Shield") (As := [.int x]) (rest := rest) hf (metX14_lacksIt_0 l D aC A o la b j him x z r zq h) (va_cwU 1 hf.2.2.2.2 (lw_app (absW hq q2018 q2025 q1260 q119) (lw_meth q1261)) rfl rfl rfl rfl (by decide +kernel) ⟨by dsimp only; omega, by dsimp only; omega⟩) ⟨PC.blind, nd_recv hK hO (ci := 12) rfl him, fun U hU hW => ⟨rfl, PC.at hO hK hA hZ hS hU hW⟩⟩ rfl rfl hs rfl (lv_room hr) hd hcs) hS (fun H1 locs1 hP hS _ _ => kk H1 locs1 hP hS)
  · have h : FB14_lacksIt_1 (nI j) x z = some (r, zq) := h
    exact g_runG (mc := 0) (ms := 0) (va_runU (x := ⟨"ShieldLine$Shield", "lacksIt", "(I)I"⟩) (owner := "ShieldLine$Shield") (C := "ShieldLine$Roof") (As := [.int x]) (rest := rest) hf (metX14_lacksIt_1 l D aC A o la b j him x z r zq h) (va_cwU 1 hf.2.2.2.2 (lw_app (absW hq q2018 q2024 q1260 q119) (lw_meth q1261)) rfl rfl rfl rfl (by decide +kernel) ⟨by dsimp only; omega, by dsimp only; omega⟩) ⟨PC.blind, nd_recv hK hO (ci := 13) rfl him, fun U hU hW => ⟨rfl, PC.at hO hK hA hZ hS hU hW⟩⟩ rfl rfl hs rfl (lv_room hr) hd hcs) hS (fun H1 locs1 hP hS _ _ => kk H1 locs1 hP hS)
  · have h : FB14_lacksIt_2 (nI j) x z = some (r, zq) := h
    exact g_runG (mc := 0) (ms := 0) (va_runU (x := ⟨"ShieldLine$Shield", "lacksIt", "(I)I"⟩) (owner := "ShieldLine$Shield") (C := "ShieldLine$Lamp") (As := [.int x]) (rest := rest) hf (metX14_lacksIt_2 l D aC A o la b j him x z r zq h) (va_cwU 1 hf.2.2.2.2 (lw_app (absW hq q2018 q2022 q1260 q119) (lw_meth q1261)) rfl rfl rfl rfl (by decide +kernel) ⟨by dsimp only; omega, by dsimp only; omega⟩) ⟨PC.blind, nd_recv hK hO (ci := 14) rfl him, fun U hU hW => ⟨rfl, PC.at hO hK hA hZ hS hU hW⟩⟩ rfl rfl hs rfl (lv_room hr) hd hcs) hS (fun H1 locs1 hP hS _ _ => kk H1 locs1 hP hS)
  · have h : FB17_lacksIt_3 (nI j) x z = some (r, zq) := h
    exact g_runG (mc := 0) (ms := 0) (va_runU (x := ⟨"ShieldLine$Shield", "lacksIt", "(I)I"⟩) (owner := "ShieldLine$Shield") (C := "ShieldLine$Post") (As := [.int x]) (rest := rest) hf (metX17_lacksIt_3 l D aC A o la b j him x z r zq h) (va_cwO 1 hf.2.2.2.2 (lw_app (absO hq q2018 q1260 q2023 q1273 q122) (lw_meth q1274)) rfl rfl rfl q1261 (by decide +kernel) ⟨by dsimp only; omega, by dsimp only; omega⟩) ⟨PC.blind, nd_recv hK hO (ci := 15) rfl him, fun U hU hW => ⟨rfl, PC.at hO hK hA hZ hS hU hW⟩⟩ rfl rfl hs rfl (lv_room hr) hd hcs) hS (fun H1 locs1 hP hS _ _ => kk H1 locs1 hP hS)
  · have h : FB18_lacksIt_4 (nI j) x z = some (r, zq) := h
    exact g_runG (mc := 0) (ms := 0) (va_runU (x := ⟨"ShieldLine$Shield", "lacksIt", "(I)I"⟩) (owner := "ShieldLine$Shield") (C := "ShieldLine$Widow") (As := [.int x]) (rest := rest) hf (metX18_lacksIt_4 l D aC A o la b j him x z r zq h) (va_cwO 1 hf.2.2.2.2 (lw_app (absO hq q2018 q1260 q2026 q1254 q123) (lw_meth q1255)) rfl rfl rfl q1261 (by decide +kernel) ⟨by dsimp only; omega, by dsimp only; omega⟩) ⟨PC.blind, nd_recv hK hO (ci := 16) rfl him, fun U hU hW => ⟨rfl, PC.at hO hK hA hZ hS hU hW⟩⟩ rfl rfl hs rfl (lv_room hr) hd hcs) hS (fun H1 locs1 hP hS _ _ => kk H1 locs1 hP hS)
  · have h : FB17_lacksIt_5 (nI j) x z = some (r, zq) := h
    exact g_runG (mc := 0) (ms := 0) (va_runU (x := ⟨"ShieldLine$Shield", "lacksIt", "(I)I"⟩) (owner := "ShieldLine$Shield") (C := "ShieldLine$Can") (As := [.int x]) (rest := rest) hf (metX17_lacksIt_5 l D aC A o la b j him x z r zq h) (va_cwO 1 hf.2.2.2.2 (lw_app (absO hq q2018 q1260 q2019 q1273 q122) (lw_meth q1274)) rfl rfl rfl q1261 (by decide +kernel) ⟨by dsimp only; omega, by dsimp only; omega⟩) ⟨PC.blind, nd_recv hK hO (ci := 17) rfl him, fun U hU hW => ⟨rfl, PC.at hO hK hA hZ hS hU hW⟩⟩ rfl rfl hs rfl (lv_room hr) hd hcs) hS (fun H1 locs1 hP hS _ _ => kk H1 locs1 hP hS)
  · have h : FB14_lacksIt_6 (nI j) x z = some (r, zq) := h
    exact g_runG (mc := 0) (ms := 0) (va_runU (x := ⟨"ShieldLine$Shield", "lacksIt", "(I)I"⟩) (owner := "ShieldLine$Shield") (C := "ShieldLine$Kiln") (As := [.int x]) (rest := rest) hf (metX14_lacksIt_6 l D aC A o la b j him x z r zq h) (va_cwU 1 hf.2.2.2.2 (lw_app (absW hq q2018 q2021 q1260 q119) (lw_meth q1261)) rfl rfl rfl rfl (by decide +kernel) ⟨by dsimp only; omega, by dsimp only; omega⟩) ⟨PC.blind, nd_recv hK hO (ci := 18) rfl him, fun U hU hW => ⟨rfl, PC.at hO hK hA hZ hS hU hW⟩⟩ rfl rfl hs rfl (lv_room hr) hd hcs) hS (fun H1 locs1 hP hS _ _ => kk H1 locs1 hP hS)
  · have h : FB18_lacksIt_7 (nI j) x z = some (r, zq) := h
    exact g_runG (mc := 0) (ms := 0) (va_runU (x := ⟨"ShieldLine$Shield", "lacksIt", "(I)I"⟩) (owner := "ShieldLine$Shield") (C := "ShieldLine$Hill") (As := [.int x]) (rest := rest) hf (metX18_lacksIt_7 l D aC A o la b j him x z r zq h) (va_cwO 1 hf.2.2.2.2 (lw_app (absO hq q2018 q1260 q2020 q1254 q123) (lw_meth q1255)) rfl rfl rfl q1261 (by decide +kernel) ⟨by dsimp only; omega, by dsimp only; omega⟩) ⟨PC.blind, nd_recv hK hO (ci := 19) rfl him, fun U hU hW => ⟨rfl, PC.at hO hK hA hZ hS hU hW⟩⟩ rfl rfl hs rfl (lv_room hr) hd hcs) hS (fun H1 locs1 hP hS _ _ => kk H1 locs1 hP hS)
theorem body_tells {k b j : Nat} {x : Int32} (hk8 : k < 8) (him : lIm la b = some (bCi k, bodF o j)) {r : Int32} (h : FBV_tells k (nI j) x z = some (r, zq)) (hf : CallFix p m c cc nL s args lw_all own) (hK : KC D aC s) (hO : OC D aC A o la z H) (hA : ∀ q : Nat, s.heap.size ≤ q → A q) (hZ : ZX A s s.heap) (hS : va_S A s.heap H locs) (hq : Cond.methodLink own idx ⟨"ShieldLine$Tells", "tells", "(I)I"⟩ ∈ lw_all) (hs : ls.size = nL) (hr : (rest.map fun v => v.category).sum ≤ 8) (hR : 8 ≤ R.frames ∧ 200 ≤ R.locals) (hcs : cells ≤ R.cells ∧ slots ≤ R.slots) (hd : decode cc pc = .ok (.invokeinterface idx count, 5)) (kk : ∀ (H1 : Heap) (locs1 : List Loc), OC D aC A o la zq H1 → va_S A s.heap H1 locs1 → W p l e R s m args below meth c H1 locs1 cells slots Q (F0 m (pc + 5) ls (.int r :: rest))) : W p l e R s m args below meth c H locs cells slots Q (F0 m pc ls (.int x :: .ref b :: rest)) := by
  obtain ⟨R1, R2⟩ := hR
  rcases body8 hk8 with rfl | rfl | rfl | rfl | rfl | rfl | rfl | rfl
  · have h : FB14_tells_0 (nI j) x z = some (r, zq) := h
    exact g_runG5 (mc := 0) (ms := 0) (va_runF (x := ⟨"ShieldLine$Tells", "tells", "(I)I"⟩) (C := "ShieldLine$Shield") (As := [.int x]) (rest := rest) (hK.1.1 12 _ rfl).2 hf (metX14_tells_0 l D aC A o la b j him x z r zq h) (va_cwF 1 hf.2.2.2.2 (lw_app (absF hq q1299 q1226 q119) (lw_meth q1227)) rfl rfl rfl (hK.ifc 8 rfl) (by decide +kernel) ⟨by dsimp only; omega, by dsimp only; omega⟩) ⟨PC.blind, nd_recv hK hO (ci := 12) rfl him, fun U hU hW => ⟨rfl, PC.at hO hK hA hZ hS hU hW⟩⟩ rfl rfl hs rfl (lv_room hr) hd hcs) hS (fun H1 locs1 hP hS => kk H1 locs1 hP hS)
  · have h : FB14_tells_1 (nI j) x z = some (r, zq) := h
    exact g_runG5 (mc := 0) (ms := 0) (va_runF (x := ⟨"ShieldLine$Tells", "tells", "(I)I"⟩) (C := "ShieldLine$Roof") (As := [.int x]) (rest := rest) (hK.1.1 13 _ rfl).2 hf (metX14_tells_1 l D aC A o la b j him x z r zq h) (va_cwF 1 hf.2.2.2.2 (lw_app (absF hq q1296 q1226 q119) (lw_meth q1227)) rfl rfl rfl (hK.ifc 9 rfl) (by decide +kernel) ⟨by dsimp only; omega, by dsimp only; omega⟩) ⟨PC.blind, nd_recv hK hO (ci := 13) rfl him, fun U hU hW => ⟨rfl, PC.at hO hK hA hZ hS hU hW⟩⟩ rfl rfl hs rfl (lv_room hr) hd hcs) hS (fun H1 locs1 hP hS => kk H1 locs1 hP hS)
  · have h : FB14_tells_2 (nI j) x z = some (r, zq) := h
    exact g_runG5 (mc := 0) (ms := 0) (va_runF (x := ⟨"ShieldLine$Tells", "tells", "(I)I"⟩) (C := "ShieldLine$Lamp") (As := [.int x]) (rest := rest) (hK.1.1 14 _ rfl).2 hf (metX14_tells_2 l D aC A o la b j him x z r zq h) (va_cwF 1 hf.2.2.2.2 (lw_app (absF hq q1290 q1226 q119) (lw_meth q1227)) rfl rfl rfl (hK.ifc 10 rfl) (by decide +kernel) ⟨by dsimp only; omega, by dsimp only; omega⟩) ⟨PC.blind, nd_recv hK hO (ci := 14) rfl him, fun U hU hW => ⟨rfl, PC.at hO hK hA hZ hS hU hW⟩⟩ rfl rfl hs rfl (lv_room hr) hd hcs) hS (fun H1 locs1 hP hS => kk H1 locs1 hP hS)
  · have h : FB14_tells_3 (nI j) x z = some (r, zq) := h
    exact g_runG5 (mc := 0) (ms := 0) (va_runF (x := ⟨"ShieldLine$Tells", "tells", "(I)I"⟩) (C := "ShieldLine$Post") (As := [.int x]) (rest := rest) (hK.1.1 15 _ rfl).2 hf (metX14_tells_3 l D aC A o la b j him x z r zq h) (va_cwF 1 hf.2.2.2.2 (lw_app (absF hq q1293 q1226 q119) (lw_meth q1227)) rfl rfl rfl (hK.ifc 11 rfl) (by decide +kernel) ⟨by dsimp only; omega, by dsimp only; omega⟩) ⟨PC.blind, nd_recv hK hO (ci := 15) rfl him, fun U hU hW => ⟨rfl, PC.at hO hK hA hZ hS hU hW⟩⟩ rfl rfl hs rfl (lv_room hr) hd hcs) hS (fun H1 locs1 hP hS => kk H1 locs1 hP hS)
  · have h : FB14_tells_4 (nI j) x z = some (r, zq) := h
    exact g_runG5 (mc := 0) (ms := 0) (va_runF (x := ⟨"ShieldLine$Tells", "tells", "(I)I"⟩) (C := "ShieldLine$Widow") (As := [.int x]) (rest := rest) (hK.1.1 16 _ rfl).2 hf (metX14_tells_4 l D aC A o la b j him x z r zq h) (va_cwF 1 hf.2.2.2.2 (lw_app (absF hq q1302 q1226 q119) (lw_meth q1227)) rfl rfl rfl (hK.ifc 12 rfl) (by decide +kernel) ⟨by dsimp only; omega, by dsimp only; omega⟩) ⟨PC.blind, nd_recv hK hO (ci := 16) rfl him, fun U hU hW => ⟨rfl, PC.at hO hK hA hZ hS hU hW⟩⟩ rfl rfl hs rfl (lv_room hr) hd hcs) hS (fun H1 locs1 hP hS => kk H1 locs1 hP hS)
  · have h : FB19_tells_5 (nI j) x z = some (r, zq) := h
    exact g_runG5 (mc := 0) (ms := 0) (va_runF (x := ⟨"ShieldLine$Tells", "tells", "(I)I"⟩) (C := "ShieldLine$Can") (As := [.int x]) (rest := rest) (hK.1.1 17 _ rfl).2 hf (metX19_tells_5 l D aC A o la b j him x z r zq h) (va_cwF 1 hf.2.2.2.2 (lw_app (absF hq q1217 q1219 q124) (lw_meth q1221)) rfl rfl rfl (hK.ifc 13 rfl) (by decide +kernel) ⟨by dsimp only; omega, by dsimp only; omega⟩) ⟨PC.blind, nd_recv hK hO (ci := 17) rfl him, fun U hU hW => ⟨rfl, PC.at hO hK hA hZ hS hU hW⟩⟩ rfl rfl hs rfl (lv_room hr) hd hcs) hS (fun H1 locs1 hP hS => kk H1 locs1 hP hS)
  · have h : FB14_tells_6 (nI j) x z = some (r, zq) := h
    exact g_runG5 (mc := 0) (ms := 0) (va_runF (x := ⟨"ShieldLine$Tells", "tells", "(I)I"⟩) (C := "ShieldLine$Kiln") (As := [.int x]) (rest := rest) (hK.1.1 18 _ rfl).2 hf (metX14_tells_6 l D aC A o la b j him x z r zq h) (va_cwF 1 hf.2.2.2.2 (lw_app (absF hq q1286 q1226 q119) (lw_meth q1227)) rfl rfl rfl (hK.ifc 14 rfl) (by decide +kernel) ⟨by dsimp only; omega, by dsimp only; omega⟩) ⟨PC.blind, nd_recv hK hO (ci := 18) rfl him, fun U hU hW => ⟨rfl, PC.at hO hK hA hZ hS hU hW⟩⟩ rfl rfl hs rfl (lv_room hr) hd hcs) hS (fun H1 locs1 hP hS => kk H1 locs1 hP hS)
  · have h : FB21_tells_7 (nI j) x z = some (r, zq) := h
    exact g_runG5 (mc := 0) (ms := 0) (va_runF (x := ⟨"ShieldLine$Tells", "tells", "(I)I"⟩) (C := "ShieldLine$Hill") (As := [.int x]) (rest := rest) (hK.1.1 19 _ rfl).2 hf (metX21_tells_7 l D aC A o la b j him x z r zq h) (va_cwF 1 hf.2.2.2.2 (lw_app (absF hq q1278 q1280 q126) (lw_meth q1282)) rfl rfl rfl (hK.ifc 15 rfl) (by decide +kernel) ⟨by dsimp only; omega, by dsimp only; omega⟩) ⟨PC.blind, nd_recv hK hO (ci := 19) rfl him, fun U hU hW => ⟨rfl, PC.at hO hK hA hZ hS hU hW⟩⟩ rfl rfl hs rfl (lv_room hr) hd hcs) hS (fun H1 locs1 hP hS => kk H1 locs1 hP hS)
end BC
def FBdo (k : Nat) (a n x : Int32) (z : GS) : Option (Int32 × GS) := if a = 0 then FBV_bears k n x z else if a = 3 then FBV_tells k n x z else if a = 1 then FBV_caresFor k n x z else FBV_lacksIt k n x z
def FX0_act (x1 x2 x3 : Int32) (z : GS) : Option (Int32 × GS) := pin (sF z 40 0) fun z1 => if FX0_isBody x1 z1 = 0 then some (0, z1) else if FX0_in x2 0 3 = 0 then some (0, z1) else (if okI x1 50 ∧ okI x1 (gF z1 43).toNatClampNeg then FBdo (gI z1 130 x1).toNatClampNeg x2 x1 x3 z1 else none)
theorem metX0_act (l : Launch) (D : va_G) (aC : Nat → ClassId) (A : Nat → Prop) (o : Nat) (la : LC) (x1 x2 x3 : Int32) (z : GS) (r : Int32) (zq : GS) (h : FX0_act x1 x2 x3 z = some (r, zq)) : Met l yX0_act (ws_ yX0_act cX0_act 6 (some .int)) ({ frames := 10, cells := 0, slots := 0, locals := 260 }) (va_Pc [.ref o, .int x1, .int x2, .int x3] (PC D aC A o la z)) (QG (some (.int r)) (OC D aC A o la zq) A) 0 0 A := by
  refine g_ofW (cc := cX0_act) (maxL := 6) (ret := (some .int)) (own := RX0) (by decide) rfl rfl [.ref o, .int x1, .int x2, .int x3] (PC D aC A o la z) (Nat.le_of_ble_eq_true rfl) ?_
  intro p e s m below meth c ls hx hb hr hml hts hown hlocks hnm hPre hl
  obtain ⟨hO, hK, hA, hZ⟩ := hPre
  have hf : CallFix p m c cX0_act 6 s _ lw_all RX0 := ⟨hx, hb, hml, hown, hts⟩
  have hl : lv_has ls 6 [(0, .ref o), (1, .int x1), (2, .int x2), (3, .int x3)] := hl
  refine g_open (A := A) (OC D aC A o la z) hO (fun H locs hO hS => ?_)
  unfold FX0_act at h
  obtain ⟨z1, ez1, h⟩ := pin_nm h
  refine lv_aload_n hx hb dX0_act_0 rfl (lv_at hl 0 rfl) ?_
  refine lv_iconst (v := 0) hx hb dX0_act_1 (by decide) ?_
  refine X0_putF hx hb hts hown hK hO hS 40 (by decide) rfl (by decide) (by decide) (hts _ q206) rfl (ty := .int) rfl rfl rfl dX0_act_2 (fun H locs z4 e4 hO hS => ?_)
  rw [← ez1] at e4
  subst e4
  have hbad : some ((0 : Int32), z4) = some (r, zq) → W p l e ({ frames := 10, cells := 0, slots := 0, locals := 260 }) s m ([.ref o, .int x1, .int x2, .int x3] : List Value).toArray below meth c H locs 0 0 (MQ below (QG (some (.int r)) (OC D aC A o la zq) A) ([.ref o, .int x1, .int x2, .int x3] : List Value).toArray s 0 0 A) (F0 m 22 ls []) := by
    intro h
    obtain ⟨e8, rfl⟩ := Prod.mk.inj (Option.some.inj h)
    refine lv_iconst (v := 0) hx hb dX0_act_22 (by decide) ?_
    exact g_retG hx hb hr hlocks e8 hO hS dX0_act_23
  refine lv_aload_n hx hb dX0_act_5 rfl (lv_at hl 0 rfl) ?_
  refine lv_iload_n hx hb dX0_act_6 rfl (lv_at hl 1 rfl) ?_
  refine clX0_isBody hf hK hO hA hZ hS (metX0_isBody l D aC A o la x1 z4 _ rfl) q1163 hl.1 (Nat.le_of_ble_eq_true rfl) ⟨Nat.le_of_ble_eq_true rfl, Nat.le_of_ble_eq_true rfl⟩ ⟨Nat.le_of_ble_eq_true rfl, Nat.le_of_ble_eq_true rfl⟩ dX0_act_7 ?_
  refine lv_if_eq (tgt := 22) hx hb dX0_act_10 (by decide) (fun c1 => ?_) (fun c1 => ?_)
  · exact hbad (it_t c1 h)
  have h := it_f c1 h
  refine lv_iload_n hx hb dX0_act_13 rfl (lv_at hl 2 rfl) ?_
  refine lv_iconst (v := 0) hx hb dX0_act_14 (by decide) ?_
  refine lv_iconst (v := 3) hx hb dX0_act_15 (by decide) ?_
  refine clX0_in hf (metX0_in l x2 0 3 _ rfl) q309 hl.1 (Nat.le_of_ble_eq_true rfl) ⟨Nat.le_of_ble_eq_true rfl, Nat.le_of_ble_eq_true rfl⟩ ⟨Nat.le_of_ble_eq_true rfl, Nat.le_of_ble_eq_true rfl⟩ dX0_act_16 ?_
  refine lv_if_ne (tgt := 24) hx hb dX0_act_19 (by decide) (fun c2 => ?_) (fun c2 => ?_)
  · have h := it_f c2 h
    obtain ⟨⟨hi50, hib⟩, h⟩ := grd h
    have hlt : x1.toNatClampNeg < kBods (kz z4) := by
      have h1 : kBods (kz z4) = (z4.1 43).toNatClampNeg := rfl
      have h2 : gF z4 43 = z4.1 43 := rfl
      have h3 : x1.toNatClampNeg = x1.toInt.toNat := rfl
      have := hib.1
      have := hib.2
      rw [h2] at this
      omega
    have hx1 : nI x1.toNatClampNeg = x1 := by
      obtain ⟨n, hn, en⟩ := nI_of (x := x1) (nn0 hi50.1)
      rw [en, nI_clamp hn]
    obtain ⟨g0, b, g1, him⟩ := hO.2.2.2.2.2.1 _ hlt
    have hk8 : (gI z4 130 x1).toNatClampNeg < 8 := by
      have h1 : (kA (kz z4) 10 x1.toNatClampNeg).toNatClampNeg = (kA (kz z4) 10 x1.toNatClampNeg).toInt.toNat := rfl
      have := g0.1
      have := g0.2
      show (kA (kz z4) 10 x1.toNatClampNeg).toNatClampNeg < 8
      omega
    have him : lIm la b = some (bCi (gI z4 130 x1).toNatClampNeg, bodF o x1.toNatClampNeg) := him
    have hc42 : H[lAd la 42]? = some (vp_cell (aC 11) (50, .inr (.inr (.inr (.inr (lQ la 42)))))) := oa_cell hO.1 (k := 42) (by decide) (d := 11) (n := 50) rfl rfl rfl
    generalize (gI z4 130 x1).toNatClampNeg = k at h hk8 him
    refine lv_aload_n hx hb dX0_act_24 rfl (lv_at hl 0 rfl) ?_
    refine X0_getA hx hb hts hown hK hO 42 (by decide) (Or.inl rfl) (hts _ q208) dX0_act_25 ?_
    refine lv_iload_n hx hb dX0_act_28 rfl (lv_at hl 1 rfl) ?_
    refine g_aald hx hb hc42 (hK.1.2 8 _ rfl).1 rfl hi50 (v := .ref b) (by rw [g1]; rfl) dX0_act_29 ?_
    refine lv_astore (lv' := [(4, .ref b), (0, .ref o), (1, .int x1), (2, .int x2), (3, .int x3)]) hx hb dX0_act_30 hl (by decide) rfl (fun ls hl => ?_)
    unfold FBdo at h
    rw [← hx1] at h
    refine lv_iload_n hx hb dX0_act_32 rfl (lv_at hl 3 rfl) ?_
    refine lv_if_ne (tgt := 49) hx hb dX0_act_33 (by decide) (fun c3 => ?_) (fun c3 => ?_)
    · have h := it_f c3 h
      refine lv_iload_n hx hb dX0_act_49 rfl (lv_at hl 3 rfl) ?_
      refine lv_iconst (v := 3) hx hb dX0_act_50 (by decide) ?_
      refine lv_icmp_ne (tgt := 67) hx hb dX0_act_51 (by decide) (fun c4 => ?_) (fun c4 => ?_)
      · have h := it_f c4 h
        refine lv_iload_n hx hb dX0_act_67 rfl (lv_at hl 3 rfl) ?_
        refine lv_iconst (v := 1) hx hb dX0_act_68 (by decide) ?_
        refine lv_icmp_ne (tgt := 81) hx hb dX0_act_69 (by decide) (fun c5 => ?_) (fun c5 => ?_)
        · have h := it_f c5 h
          refine lv_aload hx hb dX0_act_81 (lv_at hl 0 rfl) ?_
          refine lv_iload_n hx hb dX0_act_83 rfl (lv_at hl 4 rfl) ?_
          refine body_lacksIt hk8 him h hf hK hO hA hZ hS q1305 hl.1 (Nat.le_of_ble_eq_true rfl) ⟨Nat.le_of_ble_eq_true rfl, Nat.le_of_ble_eq_true rfl⟩ ⟨Nat.le_of_ble_eq_true rfl, Nat.le_of_ble_eq_true rfl⟩ dX0_act_84 (fun H locs hO hS => ?_)
          exact g_retG hx hb hr hlocks rfl hO hS dX0_act_87
        · have h := it_t c5 h
          refine lv_aload hx hb dX0_act_72 (lv_at hl 0 rfl) ?_
          refine lv_iload_n hx hb dX0_act_74 rfl (lv_at hl 4 rfl) ?_
          refine body_caresFor hk8 him h hf hK hO hA hZ hS q1304 hl.1 (Nat.le_of_ble_eq_true rfl) ⟨Nat.le_of_ble_eq_true rfl, Nat.le_of_ble_eq_true rfl⟩ ⟨Nat.le_of_ble_eq_true rfl, Nat.le_of_ble_eq_true rfl⟩ dX0_act_75 (fun H locs hO hS => ?_)
          refine lv_goto (tgt := 87) hx hb dX0_act_78 (by decide) ?_
          exact g_retG hx hb hr hlocks rfl hO hS dX0_act_87
      · have h := it_t c4 h
        refine lv_aload hx hb dX0_act_54 (lv_at hl 0 rfl) ?_
        refine lv_astore (lv' := [(5, .ref b), (4, .ref b), (0, .ref o), (1, .int x1), (2, .int x2), (3, .int x3)]) hx hb dX0_act_56 hl (by decide) rfl (fun ls hl => ?_)
        refine lv_aload hx hb dX0_act_58 (lv_at hl 0 rfl) ?_
        refine lv_iload_n hx hb dX0_act_60 rfl (lv_at hl 5 rfl) ?_
        refine body_tells hk8 him h hf hK hO hA hZ hS q1213 hl.1 (Nat.le_of_ble_eq_true rfl) ⟨Nat.le_of_ble_eq_true rfl, Nat.le_of_ble_eq_true rfl⟩ ⟨Nat.le_of_ble_eq_true rfl, Nat.le_of_ble_eq_true rfl⟩ dX0_act_61 (fun H locs hO hS => ?_)
        exact g_retG hx hb hr hlocks rfl hO hS dX0_act_66
    · have h := it_t c3 h
      refine lv_aload hx hb dX0_act_36 (lv_at hl 0 rfl) ?_
      refine lv_astore (lv' := [(5, .ref b), (4, .ref b), (0, .ref o), (1, .int x1), (2, .int x2), (3, .int x3)]) hx hb dX0_act_38 hl (by decide) rfl (fun ls hl => ?_)
      refine lv_aload hx hb dX0_act_40 (lv_at hl 0 rfl) ?_
      refine lv_iload_n hx hb dX0_act_42 rfl (lv_at hl 5 rfl) ?_
      refine body_bears hk8 him h hf hK hO hA hZ hS q1168 hl.1 (Nat.le_of_ble_eq_true rfl) ⟨Nat.le_of_ble_eq_true rfl, Nat.le_of_ble_eq_true rfl⟩ ⟨Nat.le_of_ble_eq_true rfl, Nat.le_of_ble_eq_true rfl⟩ dX0_act_43 (fun H locs hO hS => ?_)
      exact g_retG hx hb hr hlocks rfl hO hS dX0_act_48
  · exact hbad (it_t c2 h)
theorem nc_sh : ∀ h, h ≤ 4 → ∃ r, vwCl[20 + h]? = some r ∧ (r.1, "ShieldLine$Shield") ∈ ncTab ∧ packageOf r.1 = "" ∧ castOk r.1 "ShieldLine$Shield" = true
  | 0, _ => ⟨_, rfl, by decide +kernel, by decide +kernel, by decide +kernel⟩
  | 1, _ => ⟨_, rfl, by decide +kernel, by decide +kernel, by decide +kernel⟩
  | 2, _ => ⟨_, rfl, by decide +kernel, by decide +kernel, by decide +kernel⟩
  | 3, _ => ⟨_, rfl, by decide +kernel, by decide +kernel, by decide +kernel⟩
  | 4, _ => ⟨_, rfl, by decide +kernel, by decide +kernel, by decide +kernel⟩
  | n + 5, h => absurd h (by omega)
theorem sh_cast : ∀ ci, 12 ≤ ci → ci < 20 → ∃ r, vwCl[ci]? = some r ∧ (r.1 = "ShieldLine$Shield" ∨ Cond.castable r.1 "ShieldLine$Shield" ∈ lw_tbl)
  | 12, _, _ => ⟨_, rfl, Or.inl rfl⟩
  | 13, _, _ => ⟨_, rfl, Or.inr q2040⟩
  | 14, _, _ => ⟨_, rfl, Or.inr q2038⟩
  | 15, _, _ => ⟨_, rfl, Or.inr q2039⟩
  | 16, _, _ => ⟨_, rfl, Or.inr q2041⟩
  | 17, _, _ => ⟨_, rfl, Or.inr q2035⟩
  | 18, _, _ => ⟨_, rfl, Or.inr q2037⟩
  | 19, _, _ => ⟨_, rfl, Or.inr q2036⟩
  | n + 20, _, h => absurd h (by omega)
  | 0, h, _ => absurd h (by decide)
  | 1, h, _ => absurd h (by decide)
  | 2, h, _ => absurd h (by decide)
  | 3, h, _ => absurd h (by decide)
  | 4, h, _ => absurd h (by decide)
  | 5, h, _ => absurd h (by decide)
  | 6, h, _ => absurd h (by decide)
  | 7, h, _ => absurd h (by decide)
  | 8, h, _ => absurd h (by decide)
  | 9, h, _ => absurd h (by decide)
  | 10, h, _ => absurd h (by decide)
  | 11, h, _ => absurd h (by decide)
def FX0_taken (x1 x2 : Int32) (z : GS) : Option (Int32 × GS) := if FX0_isShelf x1 = 0 then some (-1, z) else if FX0_in x2 0 7 = 0 then some (-1, z) else (if okI x1 6 then (if gI z 140 x1 = -1 then some (-11, z) else if isRowN (gI z 140 x1) then some (-12, z) else if FBV_isUnder (gI z 130 (gI z 140 x1 - 10)).toNatClampNeg x2 = 0 then some (-12, z) else some (nI (gI z 130 (gI z 140 x1 - 10)).toNatClampNeg, z)) else none)
theorem metX0_taken (l : Launch) (hst : l.stackTraces = false) (D : va_G) (aC : Nat → ClassId) (A : Nat → Prop) (o : Nat) (la : LC) (x1 x2 : Int32) (z : GS) (r : Int32) (zq : GS) (h : FX0_taken x1 x2 z = some (r, zq)) : Met l yX0_taken (wsW_ yX0_taken cX0_taken 4 (some .int) [(19, 46, 47, 116), (19, 46, 51, 114)]) ({ frames := 14, cells := 3, slots := 1010, locals := 11000 }) (va_Pc [.ref o, .int x1, .int x2] (PC D aC A o la z)) (QG (some (.int r)) (OC D aC A o la zq) A) 3 1010 A := by
  refine g_ofWH (cc := cX0_taken) (maxL := 4) (ret := (some .int)) (hh := [(19, 46, 47, 116), (19, 46, 51, 114)]) (own := RX0) (by decide) rfl rfl [.ref o, .int x1, .int x2] (PC D aC A o la z) (Nat.le_of_ble_eq_true rfl) ?_
  intro p e s m below meth c ls hx hb hr hml hts hown hlocks htab hPre hl
  obtain ⟨hO, hK, hA, hZ⟩ := hPre
  have hf : CallFix p m c cX0_taken 4 s _ lw_all RX0 := ⟨hx, hb, hml, hown, hts⟩
  have hl : lv_has ls 4 [(0, .ref o), (1, .int x1), (2, .int x2)] := hl
  refine g_open (A := A) (OC D aC A o la z) hO (fun H locs hO hS => ?_)
  unfold FX0_taken at h
  have hbad : some ((-1 : Int32), z) = some (r, zq) → W p l e ({ frames := 14, cells := 3, slots := 1010, locals := 11000 }) s m ([.ref o, .int x1, .int x2] : List Value).toArray below meth c H locs 0 0 (MQ below (QG (some (.int r)) (OC D aC A o la zq) A) ([.ref o, .int x1, .int x2] : List Value).toArray s 3 1010 A) (F0 m 17 ls []) := by
    intro h
    obtain ⟨e8, rfl⟩ := Prod.mk.inj (Option.some.inj h)
    refine lv_iconst (v := (-1)) hx hb dX0_taken_17 (by decide) ?_
    refine W.widen (k := 3) (n := 1010) (Nat.le_of_ble_eq_true rfl) (Nat.le_of_ble_eq_true rfl) ?_
    exact g_retG hx hb hr hlocks e8 hO hS dX0_taken_18
  refine lv_iload_n hx hb dX0_taken_0 rfl (lv_at hl 1 rfl) ?_
  refine clX0_isShelf hf (metX0_isShelf l x1 _ rfl) q474 hl.1 (Nat.le_of_ble_eq_true rfl) ⟨Nat.le_of_ble_eq_true rfl, Nat.le_of_ble_eq_true rfl⟩ ⟨Nat.le_of_ble_eq_true rfl, Nat.le_of_ble_eq_true rfl⟩ dX0_taken_1 ?_
  refine lv_if_eq (tgt := 17) hx hb dX0_taken_4 (by decide) (fun c1 => ?_) (fun c1 => ?_)
  · exact hbad (it_t c1 h)
  have h := it_f c1 h
  refine lv_iload_n hx hb dX0_taken_7 rfl (lv_at hl 2 rfl) ?_
  refine lv_iconst (v := 0) hx hb dX0_taken_8 (by decide) ?_
  refine lv_bipush (v := 7) hx hb dX0_taken_9 (by decide) ?_
  refine clX0_in hf (metX0_in l x2 0 7 _ rfl) q309 hl.1 (Nat.le_of_ble_eq_true rfl) ⟨Nat.le_of_ble_eq_true rfl, Nat.le_of_ble_eq_true rfl⟩ ⟨Nat.le_of_ble_eq_true rfl, Nat.le_of_ble_eq_true rfl⟩ dX0_taken_11 ?_
  refine lv_if_ne (tgt := 19) hx hb dX0_taken_14 (by decide) (fun c2 => ?_) (fun c2 => ?_)
  · have h := it_f c2 h
    obtain ⟨hin, h⟩ := grd h
    have hsh := okI6 hin
    have hho : kHold (kz z) x1.toNatClampNeg = gI z 140 x1 := rfl
    have hc44 : H[lAd la 44]? = some (vp_cell (aC 12) (6, .inr (.inr (.inr (.inr (lQ la 44)))))) := oa_cell hO.1 (k := 44) (by decide) (d := 12) (n := 6) rfl rfl rfl
    refine lv_aload_n hx hb dX0_taken_19 rfl (lv_at hl 0 rfl) ?_
    refine X0_getA hx hb hts hown hK hO 44 (by decide) (Or.inl rfl) (hts _ q210) dX0_taken_20 ?_
    refine lv_iload_n hx hb dX0_taken_23 rfl (lv_at hl 1 rfl) ?_
    rcases hO.shelf2 hsh with ⟨k1, k2⟩ | ⟨h9, k0, k1, a, k2, k3⟩ | ⟨k1, k1', b, a, k0, k4, k2, k3⟩
    · refine g_aald hx hb hc44 (hK.1.2 9 _ rfl).1 rfl hin (v := .null) (by rw [k2]; rfl) dX0_taken_24 ?_
      refine g_castN hx hb dX0_taken_25 ?_
      refine lv_astore_nN (lv' := [(3, .null), (0, .ref o), (1, .int x1), (2, .int x2)]) hx hb dX0_taken_28 rfl hl (by decide) rfl (fun ls hl => ?_)
      refine lv_aload_nN hx hb dX0_taken_29 rfl (lv_at hl 0 rfl) ?_
      refine lv_iload_n hx hb dX0_taken_30 rfl (lv_at hl 3 rfl) ?_
      refine vx_invokeN (As := [.int x2]) hx hb hown (hts _ q1469) (hts _ q1470) (hts _ q1480) (hts _ q1471) (by decide +kernel) (show (parseMethodDescriptor "(I)Z").map (fun d => d.parameters.length) = some 1 by decide +kernel) dX0_taken_31 ?_ rfl
      refine g_vmN hx hst hts hK hZ hS (hl.1.trans hml.symm) (Nat.le_of_ble_eq_true rfl) (Nat.le_of_ble_eq_true rfl) ⟨Nat.le_of_ble_eq_true rfl, Nat.le_of_ble_eq_true rfl⟩ hlocks (fun H1 q9 ce hz1 hq1 hS hce hv hcl => ?_)
      refine g_catch0 (T := "java/lang/NullPointerException") hown hK htab 0 rfl (fun w hw => absurd hw List.not_mem_nil) rfl (by decide) (hts _ q430) q452 hce hv hcl ?_
      have hO := hO.grow hq1
      rw [hho] at k1
      rw [if_pos k1] at h
      refine lv_astore_n (lv' := [(3, .ref q9), (0, .ref o), (1, .int x1), (2, .int x2)]) hx hb dX0_taken_47 rfl hl (by decide) rfl (fun ls hl => ?_)
      refine lv_bipush (v := -11) hx hb dX0_taken_48 (by decide) ?_
      obtain ⟨e8, rfl⟩ := Prod.mk.inj (Option.some.inj h)
      refine W.widen (k := 3) (n := 1010) (Nat.le_of_ble_eq_true rfl) (Nat.le_of_ble_eq_true rfl) ?_
      exact g_retG hx hb hr hlocks e8 hO hS dX0_taken_50
    · have hk := hho.symm.trans k1
      have hkt : (gI z 140 x1).toInt = (h9 : Int) := by rw [hk]; exact nI_toInt (by omega)
      rw [if_neg (by rw [hk]; intro q; have q2 : (nI h9).toInt = -1 := by rw [q]; rfl
                     rw [nI_toInt (by omega)] at q2; omega), if_pos ⟨by rw [hkt]; omega, by rw [hkt]; omega⟩] at h
      obtain ⟨rc, v1, v2, v3, v4⟩ := nc_sh h9 k0
      refine g_aald hx hb hc44 (hK.1.2 9 _ rfl).1 rfl hin (v := .ref a) (by rw [k2]; rfl) dX0_taken_24 ?_
      refine g_castNo hx hb hown (hts _ q160) (hK.nc v2) hK.2.2.2 v3 (by decide +kernel) (nd_recv hK hO v1 k3) dX0_taken_25 (fun q => ?_)
      refine g_vmC hx hst hts hK hZ hS (hl.1.trans hml.symm) (castOk_use v4 q) (Nat.le_of_ble_eq_true rfl) (Nat.le_of_ble_eq_true rfl) ⟨Nat.le_of_ble_eq_true rfl, Nat.le_of_ble_eq_true rfl⟩ hlocks (fun H1 q9 ce hz1 hq1 hS hce hv hcl => ?_)
      refine g_catch0 (T := "java/lang/ClassCastException") hown hK htab 1 rfl (fun w hw => ?_) rfl (by decide) (hts _ q346) q408 hce hv hcl ?_
      · rw [show (tableOf [(19, 46, 47, 116), (19, 46, 51, 114)]).take 1 = [⟨19, 46, 47, 116⟩] from rfl] at hw
        cases List.mem_singleton.mp hw
        exact Or.inr ⟨by decide, "java/lang/NullPointerException", hts _ q430, hK.nc (by decide +kernel)⟩
      have hO := hO.grow hq1
      refine lv_astore_n (lv' := [(3, .ref q9), (0, .ref o), (1, .int x1), (2, .int x2)]) hx hb dX0_taken_51 rfl hl (by decide) rfl (fun ls hl => ?_)
      refine lv_bipush (v := -12) hx hb dX0_taken_52 (by decide) ?_
      obtain ⟨e8, rfl⟩ := Prod.mk.inj (Option.some.inj h)
      refine W.widen (k := 3) (n := 1010) (Nat.le_of_ble_eq_true rfl) (Nat.le_of_ble_eq_true rfl) ?_
      exact g_retG hx hb hr hlocks e8 hO hS dX0_taken_54
    · have hci := bCi_lt (kA (kz z) 10 b).toNatClampNeg
      obtain ⟨rc, v1, v2⟩ := sh_cast _ hci.1 hci.2
      rw [hho] at k1 k1' k4
      rw [if_neg k1', if_neg k1] at h
      obtain ⟨g0, -, -, -⟩ := hO.2.2.2.2.2.1 b k0
      have hb9 : b < 2147483648 := by
        have h1 : kBods (kz z) = (z.1 43).toInt.toNat := rfl
        have h2 := Int32.toInt_lt (z.1 43)
        omega
      have e10 : (gI z 140 x1 - 10).toNatClampNeg = b := by
        rw [k4, Int32.add_comm, Int32.add_sub_cancel]
        exact nI_clamp hb9
      have e11 : gI z 130 (gI z 140 x1 - 10) = kA (kz z) 10 b := by
        show z.2.1 130 (gI z 140 x1 - 10).toNatClampNeg = _
        rw [e10]
        rfl
      rw [e11] at h
      have hk8 : (kA (kz z) 10 b).toNatClampNeg < 8 := by
        have h1 : (kA (kz z) 10 b).toNatClampNeg = (kA (kz z) 10 b).toInt.toNat := rfl
        have := g0.1
        have := g0.2
        omega
      refine g_aald hx hb hc44 (hK.1.2 9 _ rfl).1 rfl hin (v := .ref a) (by rw [k2]; rfl) dX0_taken_24 ?_
      refine g_castI hx hb hown (hts _ q160) hK hO v1 k3 v2 dX0_taken_25 ?_
      have k3 : lIm la a = some (bCi (kA (kz z) 10 b).toNatClampNeg, bodF o b) := k3
      clear v1 v2 hci
      generalize (kA (kz z) 10 b).toNatClampNeg = k at h hk8 k3
      refine lv_astore_n (lv' := [(3, .ref a), (0, .ref o), (1, .int x1), (2, .int x2)]) hx hb dX0_taken_28 rfl hl (by decide) rfl (fun ls hl => ?_)
      refine lv_aload_n hx hb dX0_taken_29 rfl (lv_at hl 0 rfl) ?_
      refine lv_iload_n hx hb dX0_taken_30 rfl (lv_at hl 3 rfl) ?_
      refine body_isUnder hk8 k3 hf hK hO hA hZ hS q1469 hl.1 (Nat.le_of_ble_eq_true rfl) ⟨Nat.le_of_ble_eq_true rfl, Nat.le_of_ble_eq_true rfl⟩ ⟨Nat.le_of_ble_eq_true rfl, Nat.le_of_ble_eq_true rfl⟩ dX0_taken_31 ?_
      refine lv_if_eq (tgt := 44) hx hb dX0_taken_34 (by decide) (fun c3 => ?_) (fun c3 => ?_)
      · rw [if_pos c3] at h
        refine lv_bipush (v := -12) hx hb dX0_taken_44 (by decide) ?_
        obtain ⟨e8, rfl⟩ := Prod.mk.inj (Option.some.inj h)
        refine W.widen (k := 3) (n := 1010) (Nat.le_of_ble_eq_true rfl) (Nat.le_of_ble_eq_true rfl) ?_
        exact g_retG hx hb hr hlocks e8 hO hS dX0_taken_46
      · rw [if_neg c3] at h
        refine lv_aload_n hx hb dX0_taken_37 rfl (lv_at hl 0 rfl) ?_
        refine body_kind hk8 k3 hf hK hO hA hZ hS q1519 hl.1 (Nat.le_of_ble_eq_true rfl) ⟨Nat.le_of_ble_eq_true rfl, Nat.le_of_ble_eq_true rfl⟩ ⟨Nat.le_of_ble_eq_true rfl, Nat.le_of_ble_eq_true rfl⟩ dX0_taken_38 ?_
        refine lv_goto (tgt := 46) hx hb dX0_taken_41 (by decide) ?_
        obtain ⟨e8, rfl⟩ := Prod.mk.inj (Option.some.inj h)
        refine W.widen (k := 3) (n := 1010) (Nat.le_of_ble_eq_true rfl) (Nat.le_of_ble_eq_true rfl) ?_
        exact g_retG hx hb hr hlocks e8 hO hS dX0_taken_46
  · exact hbad (it_t c2 h)
