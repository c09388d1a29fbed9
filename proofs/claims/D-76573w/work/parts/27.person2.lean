set_option maxRecDepth 100000
/-! ===== person ===== -/
theorem clX0_addPerson {p : Program} {l : Launch} {e : Env} {R : Room} {s : State} {m : MethodId} {args : Array Value} {below : List Frame} {meth : Method} {c : Code} {H : Heap} {locs : List Loc} {cells slots : Nat} {Q : State → Prop} {cc : ByteArray} {pc nL idx fr lo : Nat} {ls : Array Slot} {rest : List Value} {own : String} {D : va_G} {aC : Nat → ClassId} {A : Nat → Prop} {o : Nat} {la : LC} {z : GS} {n : Nat} {x1 : Int32} (hf : CallFix p m c cc nL s args lw_all own) (hK : KC D aC s) (hO : OC D aC A o la z H) (hA : ∀ q : Nat, s.heap.size ≤ q → A q) (hZ : ZX A s s.heap) (hS : va_S A s.heap H locs) (hM : Met l yX0_addPerson (ws_ yX0_addPerson cX0_addPerson 2 (some (.object "ShieldLine$Person"))) ({ frames := fr, cells := 1, slots := 5, locals := lo }) (va_Pc [.ref o, .int x1] (PC D aC A o la z)) (QX (fun ov H => ∃ q, ov = some (.ref q) ∧ OC D aC A o (laP la n q) (zP z n x1) H) A) 1 5 A) (hq : Cond.methodLink own idx yX0_addPerson ∈ lw_all) (hs : ls.size = nL) (hr : (rest.map fun v => v.category).sum ≤ 8) (hR : fr + 1 ≤ R.frames ∧ 8 + (2 + 11) + lo ≤ R.locals) (hcs : cells + 1 ≤ R.cells ∧ slots + 5 ≤ R.slots) (hd : decode cc pc = .ok (.invokevirtual idx, 3)) (kk : ∀ (q : Nat) (H1 : Heap) (locs1 : List Loc), OC D aC A o (laP la n q) (zP z n x1) H1 → va_S A s.heap H1 locs1 → W p l e R s m args below meth c H1 locs1 (cells + 1) (slots + 5) Q (F0 m (pc + 3) ls (.ref q :: rest))) : W p l e R s m args below meth c H locs cells slots Q (F0 m pc ls (.int x1 :: .ref o :: rest)) :=
  g_callX (W.runV (As := [.int x1]) (rest := rest) hf hM (cwV 1 hf.2.2.2.2 (lw_V hq q314 qs0 q90 q315) rfl rfl rfl (by decide +kernel) hR) ⟨PC.blind, OC.recv hK hO, fun U hU hW => ⟨rfl, PC.at hO hK hA hZ hS hU hW⟩⟩ rfl rfl hs rfl (lv_room hr) hd hcs) hS (fun ov H1 locs1 hP hS _ _ => by
    obtain ⟨q, rfl, hO⟩ := hP
    exact kk q H1 locs1 hO hS)
def FX0_person (x1 : Int32) (z : GS) : Option (Int32 × GS) := if FX0_isPlace x1 = 0 then some (-1, z) else if gF z 1 = 8 then some (-3, z) else if 0 ≤ (gF z 1).toInt ∧ (gF z 1).toInt < 8 then some (gF z 1, zP z (gF z 1).toNatClampNeg x1) else none
theorem metX0_person (l : Launch) (D : va_G) (aC : Nat → ClassId) (A : Nat → Prop) (o : Nat) (la : LC) (x1 : Int32) (z : GS) (r : Int32) (zq : GS) (h : FX0_person x1 z = some (r, zq)) : Met l yX0_person (ws_ yX0_person cX0_person 2 (some .int)) ({ frames := 4, cells := 1, slots := 5, locals := 130 }) (va_Pc [.ref o, .int x1] (PC D aC A o la z)) (QG (some (.int r)) (OCe D aC A o zq) A) 1 5 A := by
  refine g_ofW (cc := cX0_person) (maxL := 2) (ret := (some .int)) (own := RX0) (by decide) rfl rfl [.ref o, .int x1] (PC D aC A o la z) (Nat.le_of_ble_eq_true rfl) ?_
  intro p e s m below meth c ls hx hb hr hml hts hown hlocks hnm hPre hl
  obtain ⟨hO, hK, hA, hZ⟩ := hPre
  have hf : CallFix p m c cX0_person 2 s _ lw_all RX0 := ⟨hx, hb, hml, hown, hts⟩
  have hl : lv_has ls 2 [(0, .ref o), (1, .int x1)] := hl
  refine g_open (A := A) (OC D aC A o la z) hO (fun H locs hO hS => ?_)
  unfold FX0_person at h
  refine lv_iload_n hx hb dX0_person_0 rfl (lv_at hl 1 rfl) ?_
  refine clX0_isPlace hf (metX0_isPlace l x1 _ rfl) q306 hl.1 (Nat.le_of_ble_eq_true rfl) ⟨Nat.le_of_ble_eq_true rfl, Nat.le_of_ble_eq_true rfl⟩ ⟨Nat.le_of_ble_eq_true rfl, Nat.le_of_ble_eq_true rfl⟩ dX0_person_1 ?_
  refine lv_if_ne (tgt := 9) hx hb dX0_person_4 (by decide) (fun c1 => ?_) (fun c1 => ?_)
  · have h := it_f c1 h
    refine lv_aload_n hx hb dX0_person_9 rfl (lv_at hl 0 rfl) ?_
    refine X0_getF hx hb hts hown hK hO 1 (by decide) rfl (hts _ q165) dX0_person_10 ?_
    refine lv_bipush (v := 8) hx hb dX0_person_13 (by decide) ?_
    refine lv_icmp_ne (tgt := 21) hx hb dX0_person_15 (by decide) (fun c2 => ?_) (fun c2 => ?_)
    · have h := it_f c2 h
      obtain ⟨g1, h⟩ := grd h
      obtain ⟨n, hn, en⟩ := nI_of (x := gF z 1) (by rw [Int32.lt_iff_toInt_lt]; show ¬ (gF z 1).toInt < 0; omega)
      have hn8 : n < 8 := by rw [en, nI_toInt hn] at g1; omega
      have ec : (gF z 1).toNatClampNeg = n := by rw [en]; exact nI_clamp (by omega)
      rw [ec] at h
      refine lv_aload_n hx hb dX0_person_21 rfl (lv_at hl 0 rfl) ?_
      refine lv_iload_n hx hb dX0_person_22 rfl (lv_at hl 1 rfl) ?_
      refine clX0_addPerson hf hK hO hA hZ hS (metX0_addPerson l D aC A o la x1 z n hn8 en) q312 hl.1 (Nat.le_of_ble_eq_true rfl) ⟨Nat.le_of_ble_eq_true rfl, Nat.le_of_ble_eq_true rfl⟩ ⟨Nat.le_of_ble_eq_true rfl, Nat.le_of_ble_eq_true rfl⟩ dX0_person_23 (fun q H locs hO hS => ?_)
      refine lv_pop hx hb dX0_person_26 rfl ?_
      refine lv_aload_n hx hb dX0_person_27 rfl (lv_at hl 0 rfl) ?_
      refine X0_getF hx hb hts hown hK hO 1 (by decide) rfl (hts _ q165) dX0_person_28 ?_
      have hm4 : (zP z n x1).1 1 = nI (n + 1) := va_up_self z.1 1 _
      rw [show gF (zP z n x1) 1 = nI (n + 1) from hm4]
      refine lv_iconst (v := 1) hx hb dX0_person_31 (by decide) ?_
      refine lv_isub hx hb dX0_person_32 ?_
      rw [nI_pred]
      obtain ⟨e8, rfl⟩ := Prod.mk.inj (Option.some.inj h)
      exact g_retG hx hb hr hlocks (en.symm.trans e8) (P := OCe D aC A o _) ⟨_, hO⟩ hS dX0_person_33
    · have h := it_t c2 h
      refine lv_bipush (v := -3) hx hb dX0_person_18 (by decide) ?_
      obtain ⟨e8, rfl⟩ := Prod.mk.inj (Option.some.inj h)
      refine W.widen (k := 1) (n := 5) (Nat.le_of_ble_eq_true rfl) (Nat.le_of_ble_eq_true rfl) ?_
      exact g_retG hx hb hr hlocks e8 (P := OCe D aC A o _) ⟨_, hO⟩ hS dX0_person_20
  · have h := it_t c1 h
    refine lv_iconst (v := -1) hx hb dX0_person_7 (by decide) ?_
    obtain ⟨e8, rfl⟩ := Prod.mk.inj (Option.some.inj h)
    refine W.widen (k := 1) (n := 5) (Nat.le_of_ble_eq_true rfl) (Nat.le_of_ble_eq_true rfl) ?_
    exact g_retG hx hb hr hlocks e8 (P := OCe D aC A o _) ⟨_, hO⟩ hS dX0_person_8
