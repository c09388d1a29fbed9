set_option maxRecDepth 100000
/-! ===== shelves: what one holds; put, element ===== -/
section SH
variable {p : Program} {l : Launch} {e : Env} {R : Room} {s : State} {m : MethodId} {args : Array Value} {below : List Frame} {meth : Method} {c : Code} {H : Heap} {locs : List Loc} {cells slots : Nat} {Q : State → Prop}
variable {cc : ByteArray} {pc nL : Nat} {ls : Array Slot} {rest : List Value} {D : va_G} {aC : Nat → ClassId} {A : Nat → Prop} {o : Nat} {la : LC} {z : GS}
/-- an abstract method called on null -/
theorem g_invokeNA {own : String} {index : Nat} {x : MethodName} (hexec : p.tables.exec = Jvm.exec) (hb : c.code = cc) (hown : s.vm.findClass own = some m.cls) (hlink : (Cond.methodLink own index x).before args s = true) (hsame : (Cond.sameMethod x.cls x.cls x.name x.desc).before args s = true) (hz : va_Nw (.declares x) s)
    (hx : x.cls ≠ "java/lang/invoke/MethodHandle" ∧ x.cls ≠ "java/lang/invoke/VarHandle") {As : List Value} (hlen : (parseMethodDescriptor x.desc).map (fun d => d.parameters.length) = some As.length) (hdg : decode cc pc = .ok (.invokevirtual index, 3))
    (k : vx_NoteN p l e R s m args below meth c H locs cells slots Q (F0 m pc ls rest)) {st0 : List Value} (hst : st0 = As.reverse ++ .null :: rest) : W p l e R s m args below meth c H locs cells slots Q (F0 m pc ls st0) := by
  intro T hT X
  obtain ⟨r0, r, hn, hrm, hstR, hsigR⟩ := va_Decl.abs hz
  obtain ⟨cn, ck, r1, hcn, hck, hni, hf9, hn1⟩ := Cond.sameMethod_found hsame
  have hc9 : cn = r0.cls := Option.some.inj (hcn.symm.trans (findClass_of_methodNamed hn))
  subst hc9
  have hl9 : As.length = r.sig.parameters.length := by
    rw [hsigR] at hlen
    exact (Option.some.inj hlen).symm
  obtain ⟨vm', X1, st1⟩ := X.invokevirtualNull hexec hown hlink hn hrm hstR hck hni hx (g := F0 m pc ls st0) rfl (argsL := As) (rest := rest) hl9 hst (by rw [hb]; exact hdg)
  obtain ⟨t, st, q⟩ := k (T.setVm vm') hT X1
  exact ⟨t, st1 t st, q⟩
/-- what a shelf holds: nothing, a row of a sort, a body -/
theorem OC.shelf2 {sh : Nat} (hO : OC D aC A o la z H) (hs : sh < 6) : (kHold (kz z) sh = -1 ∧ lQ la 44 sh = none) ∨ (∃ h, h ≤ 4 ∧ kHold (kz z) sh = nI h ∧ ∃ a, lQ la 44 sh = some a ∧ lIm la a = some (20 + h, fun _ => .ref (lIa la sh))) ∨ (¬ (0 ≤ (kHold (kz z) sh).toInt ∧ (kHold (kz z) sh).toInt ≤ 4) ∧ kHold (kz z) sh ≠ -1 ∧ ∃ b a, b < kBods (kz z) ∧ kHold (kz z) sh = 10 + nI b ∧ lQ la 44 sh = some a ∧ lIm la a = some (bCi (kA (kz z) 10 b).toNatClampNeg, fun f => if f = 0 then .int (nI b) else .ref o)) := by
  rcases hO.2.2.2.2.2.2.1 sh hs with ⟨g1, g2⟩ | ⟨g1, g2, a, g3, g4⟩ | ⟨b, g1, g2, g3⟩
  · exact Or.inl ⟨g1, g2⟩
  · have h5 : (kHold (kz z) sh).toNatClampNeg = (kHold (kz z) sh).toInt.toNat := rfl
    have h7 := g1.1
    have h8 := g1.2
    refine Or.inr (Or.inl ⟨(kHold (kz z) sh).toNatClampNeg, by omega, Int32.toInt_inj.mp ?_, a, g3, g4⟩)
    rw [nI_toInt (by omega)]; omega
  · have hb : (b : Int) < 2147483648 := by
      have h1 : kBods (kz z) = (z.1 43).toInt.toNat := rfl
      have h2 := Int32.toInt_lt (z.1 43)
      omega
    have h3 : ((10 : Int32) + nI b).toInt = Int.bmod (10 + b) 4294967296 := by
      rw [Int32.toInt_add, nI_toInt (by omega)]
      rfl
    have hne : ∀ q : Int, -1 ≤ q → q ≤ 4 → Int.bmod (10 + b) 4294967296 ≠ q := fun q h1 h2 => by
      rw [Int.bmod]
      split <;> omega
    obtain ⟨-, a, i1, i2⟩ := hO.2.2.2.2.2.1 b g1
    refine Or.inr (Or.inr ⟨fun h => ?_, fun h => ?_, b, a, g1, g2, g3.trans i1, i2⟩)
    · rw [g2, h3] at h
      exact hne _ (by omega) h.2 rfl
    · rw [g2] at h; rw [h] at h3; exact hne _ (by decide) (by decide) h3.symm
theorem row_cast : ∀ h, h ≤ 4 → ∃ r, vwCl[20 + h]? = some r ∧ Cond.castable r.1 "ShieldLine$Row" ∈ lw_tbl
  | 0, _ => ⟨_, rfl, q2031⟩
  | 1, _ => ⟨_, rfl, q2034⟩
  | 2, _ => ⟨_, rfl, q2032⟩
  | 3, _ => ⟨_, rfl, q2033⟩
  | 4, _ => ⟨_, rfl, q2030⟩
  | n + 5, h => absurd h (by omega)
theorem nc_row : ∀ ci, 12 ≤ ci → ci < 20 → ∃ r, vwCl[ci]? = some r ∧ (r.1, "ShieldLine$Row") ∈ ncTab ∧ packageOf r.1 = "" ∧ castOk r.1 "ShieldLine$Row" = true
  | 12, _, _ => ⟨_, rfl, by decide +kernel, by decide +kernel, by decide +kernel⟩
  | 13, _, _ => ⟨_, rfl, by decide +kernel, by decide +kernel, by decide +kernel⟩
  | 14, _, _ => ⟨_, rfl, by decide +kernel, by decide +kernel, by decide +kernel⟩
  | 15, _, _ => ⟨_, rfl, by decide +kernel, by decide +kernel, by decide +kernel⟩
  | 16, _, _ => ⟨_, rfl, by decide +kernel, by decide +kernel, by decide +kernel⟩
  | 17, _, _ => ⟨_, rfl, by decide +kernel, by decide +kernel, by decide +kernel⟩
  | 18, _, _ => ⟨_, rfl, by decide +kernel, by decide +kernel, by decide +kernel⟩
  | 19, _, _ => ⟨_, rfl, by decide +kernel, by decide +kernel, by decide +kernel⟩
  | n + 20, _, h => absurd h (by omega)
  | 0, h, _ => absurd h (by decide)
  | 1, h, _ => absurd h (by decide)
  | 2, h, _ => absurd h (by decide)
  | 3, h, _ => absurd h (by decide)
  | 4, h, _ => absurd h (by decide)
  | 5, h, _ => absurd h (by decide)
  | 6, h, _ => absurd h (by decide)
  | 7, h, _ => absurd h (by decide)
  | 8, h, _ => absurd h (by decide)
  | 9, h, _ => absurd h (by decide)
  | 10, h, _ => absurd h (by decide)
  | 11, h, _ => absurd h (by decide)
end SH
abbrev isRowN (v : Int32) : Prop := 0 ≤ v.toInt ∧ v.toInt ≤ 4
def FX0_put (x1 : Int32) (x2 : Int32) (x3 : Int64) (z : GS) : Option (Int32 × GS) := if FX0_isShelf x1 = 0 then some (-1, z) else (if okI x1 6 ∧ okI (gF z 1) 9 then (if gI z 140 x1 = -1 then some (-11, z) else if isRowN (gI z 140 x1) then (if okI x2 (gI z 141 x1).toNatClampNeg then some (1, sJ z (150 + x1.toNatClampNeg) x2 (putV (gI z 140 x1).toNatClampNeg x3)) else some (-13, z)) else some (-12, z)) else none)
def FX0_element (x1 : Int32) (x2 : Int32) (z : GS) : Option (Int64 × GS) := if FX0_isShelf x1 = 0 then some (-9223372036854775808, z) else (if okI x1 6 then (if gI z 140 x1 = -1 then some (-9223372036854775808, z) else if isRowN (gI z 140 x1) then (if okI x2 (gI z 141 x1).toNatClampNeg then some (rdV (gI z 140 x1).toNatClampNeg (z.2.2.1 (150 + x1.toNatClampNeg)) x2.toNatClampNeg, z) else some (-9223372036854775808, z)) else some (-9223372036854775808, z)) else none)
theorem okI6 {x : Int32} (h : okI x 6) : x.toNatClampNeg < 6 := by
  have h1 : x.toNatClampNeg = x.toInt.toNat := rfl
  have := h.1; have := h.2
  omega
theorem metX0_put (l : Launch) (hst : l.stackTraces = false) (D : va_G) (aC : Nat → ClassId) (A : Nat → Prop) (o : Nat) (la : LC) (x1 : Int32) (x2 : Int32) (x3 : Int64) (z : GS) (r : Int32) (zq : GS) (h : FX0_put x1 x2 x3 z = some (r, zq)) : Met l yX0_put (wsW_ yX0_put cX0_put 6 (some .int) [(9, 31, 32, 116), (9, 31, 37, 114), (9, 31, 42, 118)]) ({ frames := 14, cells := 3, slots := 1010, locals := 11000 }) (va_Pc [.ref o, .int x1, .int x2, .long x3] (PC D aC A o la z)) (QG (some (.int r)) (OC D aC A o la zq) A) 3 1010 A := by
  refine g_ofWH (cc := cX0_put) (maxL := 6) (ret := (some .int)) (hh := [(9, 31, 32, 116), (9, 31, 37, 114), (9, 31, 42, 118)]) (own := RX0) (by decide) rfl rfl [.ref o, .int x1, .int x2, .long x3] (PC D aC A o la z) (Nat.le_of_ble_eq_true rfl) ?_
  intro p e s m below meth c ls hx hb hr hml hts hown hlocks htab hPre hl
  obtain ⟨hO, hK, hA, hZ⟩ := hPre
  have hf : CallFix p m c cX0_put 6 s _ lw_all RX0 := ⟨hx, hb, hml, hown, hts⟩
  have hl : lv_has ls 6 [(0, .ref o), (1, .int x1), (2, .int x2), (3, .long x3)] := hl
  refine g_open (A := A) (OC D aC A o la z) hO (fun H locs hO hS => ?_)
  unfold FX0_put at h
  refine lv_iload_n hx hb dX0_put_0 rfl (lv_at hl 1 rfl) ?_
  refine clX0_isShelf hf (metX0_isShelf l x1 _ rfl) q474 hl.1 (Nat.le_of_ble_eq_true rfl) ⟨Nat.le_of_ble_eq_true rfl, Nat.le_of_ble_eq_true rfl⟩ ⟨Nat.le_of_ble_eq_true rfl, Nat.le_of_ble_eq_true rfl⟩ dX0_put_1 ?_
  refine lv_if_ne (tgt := 9) hx hb dX0_put_4 (by decide) (fun c1 => ?_) (fun c1 => ?_)
  · have h := it_f c1 h
    obtain ⟨⟨hin, hm9⟩, h⟩ := grd h
    have hsh := okI6 hin
    have hm8 : kMany (kz z) ≤ 8 := by
      have h1 : kMany (kz z) = (z.1 1).toInt.toNat := rfl
      have h2 : (z.1 1).toInt < 9 := hm9.2
      omega
    have hho : kHold (kz z) x1.toNatClampNeg = gI z 140 x1 := rfl
    have hc44 : H[lAd la 44]? = some (vp_cell (aC 12) (6, .inr (.inr (.inr (.inr (lQ la 44)))))) := oa_cell hO.1 (k := 44) (by decide) (d := 12) (n := 6) rfl rfl rfl
    refine lv_aload_n hx hb dX0_put_9 rfl (lv_at hl 0 rfl) ?_
    refine X0_getA hx hb hts hown hK hO 44 (by decide) (Or.inl rfl) (hts _ q210) dX0_put_10 ?_
    refine lv_iload_n hx hb dX0_put_13 rfl (lv_at hl 1 rfl) ?_
    rcases hO.shelf2 hsh with ⟨k1, k2⟩ | ⟨h9, k0, k1, a, k2, k3⟩ | ⟨k1, k1', b, a, k0, -, k2, k3⟩
    · refine g_aald hx hb hc44 (hK.1.2 9 _ rfl).1 rfl hin (v := .null) (by rw [k2]; rfl) dX0_put_14 ?_
      refine g_castN hx hb dX0_put_15 ?_
      refine lv_iload_n hx hb dX0_put_18 rfl (lv_at hl 2 rfl) ?_
      refine lv_lload_n hx hb dX0_put_19 rfl (lv_at hl 3 rfl) ?_
      refine g_invokeNA (x := yRow_put) (As := [.int x2, .long x3]) hx hb hown (hts _ q1395) (hts _ q1397) (hK.2.1 _ q1396 rfl) (by decide +kernel) (show (parseMethodDescriptor yRow_put.desc).map (fun d => d.parameters.length) = some 2 by decide +kernel) dX0_put_20 ?_ rfl
      refine g_vmN hx hst hts hK hZ hS (hl.1.trans hml.symm) (Nat.le_of_ble_eq_true rfl) (Nat.le_of_ble_eq_true rfl) ⟨Nat.le_of_ble_eq_true rfl, Nat.le_of_ble_eq_true rfl⟩ hlocks (fun H1 q9 ce hz1 hq1 hS hce hv hcl => ?_)
      refine g_catch0 (T := "java/lang/NullPointerException") hown hK htab 0 rfl (fun w hw => absurd hw List.not_mem_nil) rfl (by decide) (hts _ q430) q452 hce hv hcl ?_
      have hO := hO.grow hq1
      rw [hho] at k1
      rw [if_pos k1] at h
      refine lv_astore (lv' := [(5, .ref q9), (0, .ref o), (1, .int x1), (2, .int x2), (3, .long x3)]) hx hb dX0_put_32 hl (by decide) rfl (fun ls hl => ?_)
      refine lv_bipush (v := -11) hx hb dX0_put_34 (by decide) ?_
      obtain ⟨e8, rfl⟩ := Prod.mk.inj (Option.some.inj h)
      refine W.widen (k := 3) (n := 1010) (Nat.le_of_ble_eq_true rfl) (Nat.le_of_ble_eq_true rfl) ?_
      exact g_retG hx hb hr hlocks e8 hO hS dX0_put_36
    · obtain ⟨rc, v1, v2⟩ := row_cast h9 k0
      have hk := hho.symm.trans k1
      have hkt : (gI z 140 x1).toInt = (h9 : Int) := by rw [hk]; exact nI_toInt (by omega)
      have hkc : (gI z 140 x1).toNatClampNeg = h9 := by rw [hk]; exact nI_clamp (by omega)
      rw [if_neg (by rw [hk]; intro q; have q2 : (nI h9).toInt = -1 := by rw [q]; rfl
                     rw [nI_toInt (by omega)] at q2; omega), if_pos ⟨by rw [hkt]; omega, by rw [hkt]; omega⟩] at h
      refine g_aald hx hb hc44 (hK.1.2 9 _ rfl).1 rfl hin (v := .ref a) (by rw [k2]; rfl) dX0_put_14 ?_
      refine g_castI hx hb hown (hts _ q1394) hK hO v1 k3 (Or.inr v2) dX0_put_15 ?_
      refine lv_iload_n hx hb dX0_put_18 rfl (lv_at hl 2 rfl) ?_
      refine lv_lload_n hx hb dX0_put_19 rfl (lv_at hl 3 rfl) ?_
      by_cases hi : okI x2 (gI z 141 x1).toNatClampNeg
      · have h := it_t hi h
        rw [hkc] at h
        refine row_putR hf hK hO hA hZ hS k0 hsh k1 k2 hi hm8 q1395 hl.1 (Nat.le_of_ble_eq_true rfl) ⟨Nat.le_of_ble_eq_true rfl, Nat.le_of_ble_eq_true rfl⟩ ⟨Nat.le_of_ble_eq_true rfl, Nat.le_of_ble_eq_true rfl⟩ dX0_put_20 (fun H locs hO hS => ?_)
        refine lv_if_eq (tgt := 30) hx hb dX0_put_23 (by decide) (fun c1 => absurd c1 (by decide)) (fun c1 => ?_)
        refine lv_iconst (v := 1) hx hb dX0_put_26 (by decide) ?_
        refine lv_goto (tgt := 31) hx hb dX0_put_27 (by decide) ?_
        obtain ⟨e8, rfl⟩ := Prod.mk.inj (Option.some.inj h)
        refine W.widen (k := 3) (n := 1010) (Nat.le_of_ble_eq_true rfl) (Nat.le_of_ble_eq_true rfl) ?_
        exact g_retG hx hb hr hlocks e8 hO hS dX0_put_31
      · have h := it_f hi h
        refine row_putX hf hK hO hA hZ hS k0 hsh k1 k2 hst hi q1395 hl.1 (Nat.le_of_ble_eq_true rfl) ⟨Nat.le_of_ble_eq_true rfl, Nat.le_of_ble_eq_true rfl⟩ ⟨Nat.le_of_ble_eq_true rfl, Nat.le_of_ble_eq_true rfl⟩ dX0_put_20 (fun H locs q9 ce hO hz1 hS hce hv hcl => ?_)
        refine g_catch0 (T := "java/lang/IndexOutOfBoundsException") hown hK htab 2 rfl (fun w hw => ?_) rfl (by decide) (hts _ q455) q2029 hce hv hcl ?_
        · rw [show (tableOf [(9, 31, 32, 116), (9, 31, 37, 114), (9, 31, 42, 118)]).take 2 = [⟨9, 31, 32, 116⟩, ⟨9, 31, 37, 114⟩] from rfl] at hw
          rcases List.mem_cons.mp hw with rfl | hw
          · exact Or.inr ⟨by decide, "java/lang/NullPointerException", hts _ q430, hK.nc (by decide +kernel)⟩
          · cases List.mem_singleton.mp hw
            exact Or.inr ⟨by decide, "java/lang/ClassCastException", hts _ q346, hK.nc (by decide +kernel)⟩
        refine lv_astore (lv' := [(5, .ref q9), (0, .ref o), (1, .int x1), (2, .int x2), (3, .long x3)]) hx hb dX0_put_42 hl (by decide) rfl (fun ls hl => ?_)
        refine lv_bipush (v := -13) hx hb dX0_put_44 (by decide) ?_
        obtain ⟨e8, rfl⟩ := Prod.mk.inj (Option.some.inj h)
        refine W.widen (k := 3) (n := 1010) (Nat.le_of_ble_eq_true rfl) (Nat.le_of_ble_eq_true rfl) ?_
        exact g_retG hx hb hr hlocks e8 hO hS dX0_put_46
    · have hci := bCi_lt (kA (kz z) 10 b).toNatClampNeg
      obtain ⟨rc, v1, v2, v3, v4⟩ := nc_row _ hci.1 hci.2
      refine g_aald hx hb hc44 (hK.1.2 9 _ rfl).1 rfl hin (v := .ref a) (by rw [k2]; rfl) dX0_put_14 ?_
      refine g_castNo hx hb hown (hts _ q1394) (hK.nc v2) hK.2.2.2 v3 (by decide +kernel) (nd_recv hK hO v1 k3) dX0_put_15 (fun q => ?_)
      refine g_vmC hx hst hts hK hZ hS (hl.1.trans hml.symm) (castOk_use v4 q) (Nat.le_of_ble_eq_true rfl) (Nat.le_of_ble_eq_true rfl) ⟨Nat.le_of_ble_eq_true rfl, Nat.le_of_ble_eq_true rfl⟩ hlocks (fun H1 q9 ce hz1 hq1 hS hce hv hcl => ?_)
      refine g_catch0 (T := "java/lang/ClassCastException") hown hK htab 1 rfl (fun w hw => ?_) rfl (by decide) (hts _ q346) q408 hce hv hcl ?_
      · rw [show (tableOf [(9, 31, 32, 116), (9, 31, 37, 114), (9, 31, 42, 118)]).take 1 = [⟨9, 31, 32, 116⟩] from rfl] at hw
        cases List.mem_singleton.mp hw
        exact Or.inr ⟨by decide, "java/lang/NullPointerException", hts _ q430, hK.nc (by decide +kernel)⟩
      have hO := hO.grow hq1
      rw [hho] at k1 k1'
      rw [if_neg k1', if_neg k1] at h
      refine lv_astore (lv' := [(5, .ref q9), (0, .ref o), (1, .int x1), (2, .int x2), (3, .long x3)]) hx hb dX0_put_37 hl (by decide) rfl (fun ls hl => ?_)
      refine lv_bipush (v := -12) hx hb dX0_put_39 (by decide) ?_
      obtain ⟨e8, rfl⟩ := Prod.mk.inj (Option.some.inj h)
      refine W.widen (k := 3) (n := 1010) (Nat.le_of_ble_eq_true rfl) (Nat.le_of_ble_eq_true rfl) ?_
      exact g_retG hx hb hr hlocks e8 hO hS dX0_put_41
  · have h := it_t c1 h
    refine lv_iconst (v := (-1)) hx hb dX0_put_7 (by decide) ?_
    obtain ⟨e8, rfl⟩ := Prod.mk.inj (Option.some.inj h)
    refine W.widen (k := 3) (n := 1010) (Nat.le_of_ble_eq_true rfl) (Nat.le_of_ble_eq_true rfl) ?_
    exact g_retG hx hb hr hlocks e8 hO hS dX0_put_8
theorem metX0_element (l : Launch) (hst : l.stackTraces = false) (D : va_G) (aC : Nat → ClassId) (A : Nat → Prop) (o : Nat) (la : LC) (x1 : Int32) (x2 : Int32) (z : GS) (r : Int64) (zq : GS) (h : FX0_element x1 x2 z = some (r, zq)) : Met l yX0_element (wsW_ yX0_element cX0_element 4 (some .long) [(11, 24, 25, 116), (11, 24, 30, 114), (11, 24, 35, 118)]) ({ frames := 14, cells := 3, slots := 1010, locals := 11000 }) (va_Pc [.ref o, .int x1, .int x2] (PC D aC A o la z)) (QG (some (.long r)) (OC D aC A o la zq) A) 3 1010 A := by
  refine g_ofWH (cc := cX0_element) (maxL := 4) (ret := (some .long)) (hh := [(11, 24, 25, 116), (11, 24, 30, 114), (11, 24, 35, 118)]) (own := RX0) (by decide) rfl rfl [.ref o, .int x1, .int x2] (PC D aC A o la z) (Nat.le_of_ble_eq_true rfl) ?_
  intro p e s m below meth c ls hx hb hr hml hts hown hlocks htab hPre hl
  obtain ⟨hO, hK, hA, hZ⟩ := hPre
  have hf : CallFix p m c cX0_element 4 s _ lw_all RX0 := ⟨hx, hb, hml, hown, hts⟩
  have hl : lv_has ls 4 [(0, .ref o), (1, .int x1), (2, .int x2)] := hl
  refine g_open (A := A) (OC D aC A o la z) hO (fun H locs hO hS => ?_)
  unfold FX0_element at h
  refine lv_iload_n hx hb dX0_element_0 rfl (lv_at hl 1 rfl) ?_
  refine clX0_isShelf hf (metX0_isShelf l x1 _ rfl) q474 hl.1 (Nat.le_of_ble_eq_true rfl) ⟨Nat.le_of_ble_eq_true rfl, Nat.le_of_ble_eq_true rfl⟩ ⟨Nat.le_of_ble_eq_true rfl, Nat.le_of_ble_eq_true rfl⟩ dX0_element_1 ?_
  refine lv_if_ne (tgt := 11) hx hb dX0_element_4 (by decide) (fun c1 => ?_) (fun c1 => ?_)
  · have h := it_f c1 h
    obtain ⟨hin, h⟩ := grd h
    have hsh := okI6 hin
    have hho : kHold (kz z) x1.toNatClampNeg = gI z 140 x1 := rfl
    have hc44 : H[lAd la 44]? = some (vp_cell (aC 12) (6, .inr (.inr (.inr (.inr (lQ la 44)))))) := oa_cell hO.1 (k := 44) (by decide) (d := 12) (n := 6) rfl rfl rfl
    refine lv_aload_n hx hb dX0_element_11 rfl (lv_at hl 0 rfl) ?_
    refine X0_getA hx hb hts hown hK hO 44 (by decide) (Or.inl rfl) (hts _ q210) dX0_element_12 ?_
    refine lv_iload_n hx hb dX0_element_15 rfl (lv_at hl 1 rfl) ?_
    rcases hO.shelf2 hsh with ⟨k1, k2⟩ | ⟨h9, k0, k1, a, k2, k3⟩ | ⟨k1, k1', b, a, k0, -, k2, k3⟩
    · refine g_aald hx hb hc44 (hK.1.2 9 _ rfl).1 rfl hin (v := .null) (by rw [k2]; rfl) dX0_element_16 ?_
      refine g_castN hx hb dX0_element_17 ?_
      refine lv_iload_n hx hb dX0_element_20 rfl (lv_at hl 2 rfl) ?_
      refine g_invokeNA (x := yRow_at) (As := [.int x2]) hx hb hown (hts _ q1417) (hts _ q1419) (hK.2.1 _ q1418 rfl) (by decide +kernel) (show (parseMethodDescriptor yRow_at.desc).map (fun d => d.parameters.length) = some 1 by decide +kernel) dX0_element_21 ?_ rfl
      refine g_vmN hx hst hts hK hZ hS (hl.1.trans hml.symm) (Nat.le_of_ble_eq_true rfl) (Nat.le_of_ble_eq_true rfl) ⟨Nat.le_of_ble_eq_true rfl, Nat.le_of_ble_eq_true rfl⟩ hlocks (fun H1 q9 ce hz1 hq1 hS hce hv hcl => ?_)
      refine g_catch0 (T := "java/lang/NullPointerException") hown hK htab 0 rfl (fun w hw => absurd hw List.not_mem_nil) rfl (by decide) (hts _ q430) q452 hce hv hcl ?_
      have hO := hO.grow hq1
      rw [hho] at k1
      rw [if_pos k1] at h
      refine lv_astore_n (lv' := [(3, .ref q9), (0, .ref o), (1, .int x1), (2, .int x2)]) hx hb dX0_element_25 rfl hl (by decide) rfl (fun ls hl => ?_)
      refine lv_ldc2 (v := (-9223372036854775808)) hx hb hown (hts _ q984) dX0_element_26 ?_
      obtain ⟨e8, rfl⟩ := Prod.mk.inj (Option.some.inj h)
      refine W.widen (k := 3) (n := 1010) (Nat.le_of_ble_eq_true rfl) (Nat.le_of_ble_eq_true rfl) ?_
      exact g_retGl hx hb hr hlocks e8 hO hS dX0_element_29
    · obtain ⟨rc, v1, v2⟩ := row_cast h9 k0
      have hk := hho.symm.trans k1
      have hkt : (gI z 140 x1).toInt = (h9 : Int) := by rw [hk]; exact nI_toInt (by omega)
      have hkc : (gI z 140 x1).toNatClampNeg = h9 := by rw [hk]; exact nI_clamp (by omega)
      rw [if_neg (by rw [hk]; intro q; have q2 : (nI h9).toInt = -1 := by rw [q]; rfl
                     rw [nI_toInt (by omega)] at q2; omega), if_pos ⟨by rw [hkt]; omega, by rw [hkt]; omega⟩] at h
      refine g_aald hx hb hc44 (hK.1.2 9 _ rfl).1 rfl hin (v := .ref a) (by rw [k2]; rfl) dX0_element_16 ?_
      refine g_castI hx hb hown (hts _ q1394) hK hO v1 k3 (Or.inr v2) dX0_element_17 ?_
      refine lv_iload_n hx hb dX0_element_20 rfl (lv_at hl 2 rfl) ?_
      by_cases hi : okI x2 (gI z 141 x1).toNatClampNeg
      · have h := it_t hi h
        rw [hkc] at h
        refine row_atR hf hK hO hA hZ hS k0 hsh k1 k2 hi q1417 hl.1 (Nat.le_of_ble_eq_true rfl) ⟨Nat.le_of_ble_eq_true rfl, Nat.le_of_ble_eq_true rfl⟩ ⟨Nat.le_of_ble_eq_true rfl, Nat.le_of_ble_eq_true rfl⟩ dX0_element_21 ?_
        obtain ⟨e8, rfl⟩ := Prod.mk.inj (Option.some.inj h)
        refine W.widen (k := 3) (n := 1010) (Nat.le_of_ble_eq_true rfl) (Nat.le_of_ble_eq_true rfl) ?_
        exact g_retGl hx hb hr hlocks e8 hO hS dX0_element_24
      · have h := it_f hi h
        refine row_atX hf hK hO hA hZ hS k0 hsh k1 k2 hst hi q1417 hl.1 (Nat.le_of_ble_eq_true rfl) ⟨Nat.le_of_ble_eq_true rfl, Nat.le_of_ble_eq_true rfl⟩ ⟨Nat.le_of_ble_eq_true rfl, Nat.le_of_ble_eq_true rfl⟩ dX0_element_21 (fun H locs q9 ce hO hz1 hS hce hv hcl => ?_)
        refine g_catch0 (T := "java/lang/IndexOutOfBoundsException") hown hK htab 2 rfl (fun w hw => ?_) rfl (by decide) (hts _ q455) q2029 hce hv hcl ?_
        · rw [show (tableOf [(11, 24, 25, 116), (11, 24, 30, 114), (11, 24, 35, 118)]).take 2 = [⟨11, 24, 25, 116⟩, ⟨11, 24, 30, 114⟩] from rfl] at hw
          rcases List.mem_cons.mp hw with rfl | hw
          · exact Or.inr ⟨by decide, "java/lang/NullPointerException", hts _ q430, hK.nc (by decide +kernel)⟩
          · cases List.mem_singleton.mp hw
            exact Or.inr ⟨by decide, "java/lang/ClassCastException", hts _ q346, hK.nc (by decide +kernel)⟩
        refine lv_astore_n (lv' := [(3, .ref q9), (0, .ref o), (1, .int x1), (2, .int x2)]) hx hb dX0_element_35 rfl hl (by decide) rfl (fun ls hl => ?_)
        refine lv_ldc2 (v := (-9223372036854775808)) hx hb hown (hts _ q984) dX0_element_36 ?_
        obtain ⟨e8, rfl⟩ := Prod.mk.inj (Option.some.inj h)
        refine W.widen (k := 3) (n := 1010) (Nat.le_of_ble_eq_true rfl) (Nat.le_of_ble_eq_true rfl) ?_
        exact g_retGl hx hb hr hlocks e8 hO hS dX0_element_39
    · have hci := bCi_lt (kA (kz z) 10 b).toNatClampNeg
      obtain ⟨rc, v1, v2, v3, v4⟩ := nc_row _ hci.1 hci.2
      refine g_aald hx hb hc44 (hK.1.2 9 _ rfl).1 rfl hin (v := .ref a) (by rw [k2]; rfl) dX0_element_16 ?_
      refine g_castNo hx hb hown (hts _ q1394) (hK.nc v2) hK.2.2.2 v3 (by decide +kernel) (nd_recv hK hO v1 k3) dX0_element_17 (fun q => ?_)
      refine g_vmC hx hst hts hK hZ hS (hl.1.trans hml.symm) (castOk_use v4 q) (Nat.le_of_ble_eq_true rfl) (Nat.le_of_ble_eq_true rfl) ⟨Nat.le_of_ble_eq_true rfl, Nat.le_of_ble_eq_true rfl⟩ hlocks (fun H1 q9 ce hz1 hq1 hS hce hv hcl => ?_)
      refine g_catch0 (T := "java/lang/ClassCastException") hown hK htab 1 rfl (fun w hw => ?_) rfl (by decide) (hts _ q346) q408 hce hv hcl ?_
      · rw [show (tableOf [(11, 24, 25, 116), (11, 24, 30, 114), (11, 24, 35, 118)]).take 1 = [⟨11, 24, 25, 116⟩] from rfl] at hw
        cases List.mem_singleton.mp hw
        exact Or.inr ⟨by decide, "java/lang/NullPointerException", hts _ q430, hK.nc (by decide +kernel)⟩
      have hO := hO.grow hq1
      rw [hho] at k1 k1'
      rw [if_neg k1', if_neg k1] at h
      refine lv_astore_n (lv' := [(3, .ref q9), (0, .ref o), (1, .int x1), (2, .int x2)]) hx hb dX0_element_30 rfl hl (by decide) rfl (fun ls hl => ?_)
      refine lv_ldc2 (v := (-9223372036854775808)) hx hb hown (hts _ q984) dX0_element_31 ?_
      obtain ⟨e8, rfl⟩ := Prod.mk.inj (Option.some.inj h)
      refine W.widen (k := 3) (n := 1010) (Nat.le_of_ble_eq_true rfl) (Nat.le_of_ble_eq_true rfl) ?_
      exact g_retGl hx hb hr hlocks e8 hO hS dX0_element_34
  · have h := it_t c1 h
    refine lv_ldc2 (v := (-9223372036854775808)) hx hb hown (hts _ q984) dX0_element_7 ?_
    obtain ⟨e8, rfl⟩ := Prod.mk.inj (Option.some.inj h)
    refine W.widen (k := 3) (n := 1010) (Nat.le_of_ble_eq_true rfl) (Nat.le_of_ble_eq_true rfl) ?_
    exact g_retGl hx hb hr hlocks e8 hO hS dX0_element_10
