set_option maxRecDepth 100000
/-! printed by mkshift.py ===== shift: elements of one shelf's row onto another's ===== -/
def FX0_shift (x1 x2 x3 x4 x5 : Int32) (z : GS) : Option (Int32 × GS) := if FX0_isShelf x1 = 0 then some (-1, z) else if FX0_isShelf x3 = 0 then some (-1, z) else (if okI x1 6 ∧ okI x3 6 ∧ okI (gF z 1) 9 then (if gI z 140 x1 = -1 then some (-11, z) else if gI z 140 x3 = -1 then some (-11, z) else if isRowN (gI z 140 x1) then (if isRowN (gI z 140 x3) then (if gI z 140 x1 = gI z 140 x3 then (if cpR x2 x4 x5 (gI z 141 x1) (gI z 141 x3) then some (x5, cpJ z x1.toNatClampNeg x3.toNatClampNeg x2 x4 x5) else some (-13, z)) else some (-12, z)) else some (-12, z)) else some (-12, z)) else none)
theorem metX0_shift (l : Launch) (hst : l.stackTraces = false) (D : va_G) (aC : Nat → ClassId) (A : Nat → Prop) (o : Nat) (la : LC) (x1 x2 x3 x4 x5 : Int32) (z : GS) (r : Int32) (zq : GS) (h : FX0_shift x1 x2 x3 x4 x5 z = some (r, zq)) : Met l yX0_shift (wsW_ yX0_shift cX0_shift 7 (some .int) [(37, 63, 66, 114), (37, 63, 71, 118)]) ({ frames := 14, cells := 3, slots := 1010, locals := 11000 }) (va_Pc [.ref o, .int x1, .int x2, .int x3, .int x4, .int x5] (PC D aC A o la z)) (QG (some (.int r)) (OC D aC A o la zq) A) 3 1010 A := by
  refine g_ofWH (cc := cX0_shift) (maxL := 7) (ret := (some .int)) (hh := [(37, 63, 66, 114), (37, 63, 71, 118)]) (own := RX0) (by decide) rfl rfl [.ref o, .int x1, .int x2, .int x3, .int x4, .int x5] (PC D aC A o la z) (Nat.le_of_ble_eq_true rfl) ?_
  intro p e s m below meth c ls hx hb hr hml hts hown hlocks htab hPre hl
  obtain ⟨hO, hK, hA, hZ⟩ := hPre
  have hf : CallFix p m c cX0_shift 7 s _ lw_all RX0 := ⟨hx, hb, hml, hown, hts⟩
  have hl : lv_has ls 7 [(0, .ref o), (1, .int x1), (2, .int x2), (3, .int x3), (4, .int x4), (5, .int x5)] := hl
  refine g_open (A := A) (OC D aC A o la z) hO (fun H locs hO hS => ?_)
  unfold FX0_shift at h
  refine lv_iload_n hx hb dX0_shift_0 rfl (lv_at hl 1 rfl) ?_
  refine clX0_isShelf hf (metX0_isShelf l x1 _ rfl) q474 hl.1 (Nat.le_of_ble_eq_true rfl) ⟨Nat.le_of_ble_eq_true rfl, Nat.le_of_ble_eq_true rfl⟩ ⟨Nat.le_of_ble_eq_true rfl, Nat.le_of_ble_eq_true rfl⟩ dX0_shift_1 ?_
  refine lv_if_eq (tgt := 14) hx hb dX0_shift_4 (by decide) (fun c1 => ?_) (fun c1 => ?_)
  · have h := it_t c1 h
    refine lv_iconst (v := (-1)) hx hb dX0_shift_14 (by decide) ?_
    obtain ⟨e8, rfl⟩ := Prod.mk.inj (Option.some.inj h)
    refine W.widen (k := 3) (n := 1010) (Nat.le_of_ble_eq_true rfl) (Nat.le_of_ble_eq_true rfl) ?_
    exact g_retG hx hb hr hlocks e8 hO hS dX0_shift_15
  have h := it_f c1 h
  refine lv_iload_n hx hb dX0_shift_7 rfl (lv_at hl 3 rfl) ?_
  refine clX0_isShelf hf (metX0_isShelf l x3 _ rfl) q474 hl.1 (Nat.le_of_ble_eq_true rfl) ⟨Nat.le_of_ble_eq_true rfl, Nat.le_of_ble_eq_true rfl⟩ ⟨Nat.le_of_ble_eq_true rfl, Nat.le_of_ble_eq_true rfl⟩ dX0_shift_8 ?_
  refine lv_if_ne (tgt := 16) hx hb dX0_shift_11 (by decide) (fun c2 => ?_) (fun c2 => ?_)
  · have h := it_f c2 h
    obtain ⟨⟨hin, hin3, hm9⟩, h⟩ := grd h
    have hsh := okI6 hin
    have hsh3 := okI6 hin3
    have hm8 : kMany (kz z) ≤ 8 := by
      have h1 : kMany (kz z) = (z.1 1).toInt.toNat := rfl
      have h2 : (z.1 1).toInt < 9 := hm9.2
      omega
    have hho : kHold (kz z) x1.toNatClampNeg = gI z 140 x1 := rfl
    have hho3 : kHold (kz z) x3.toNatClampNeg = gI z 140 x3 := rfl
    have hc44 : H[lAd la 44]? = some (vp_cell (aC 12) (6, .inr (.inr (.inr (.inr (lQ la 44)))))) := oa_cell hO.1 (k := 44) (by decide) (d := 12) (n := 6) rfl rfl rfl
    have rowN : ∀ h9, h9 ≤ 4 → nI h9 ≠ -1 ∧ isRowN (nI h9) := fun h9 k0 => by
      have q3 := nI_toInt (n := h9) (by omega)
      refine ⟨fun q => ?_, ?_⟩
      · have q2 : (nI h9).toInt = -1 := by rw [q]; rfl
        omega
      · unfold isRowN
        rw [q3]
        omega
    rcases hO.shelf2 hsh with ⟨k1, k2⟩ | hX
    · refine lv_aload_n hx hb dX0_shift_16 rfl (lv_at hl 0 rfl) ?_
      refine X0_getA hx hb hts hown hK hO 44 (by decide) (Or.inl rfl) (hts _ q210) dX0_shift_17 ?_
      refine lv_iload_n hx hb dX0_shift_20 rfl (lv_at hl 1 rfl) ?_
      refine g_aald hx hb hc44 (hK.1.2 9 _ rfl).1 rfl hin (v := .null) (by rw [k2]; rfl) dX0_shift_21 ?_
      refine lv_ifnullN (tgt := 34) hx hb dX0_shift_22 (by decide) ?_
      rw [hho] at k1
      rw [if_pos k1] at h
      refine lv_bipush (v := -11) hx hb dX0_shift_34 (by decide) ?_
      obtain ⟨e8, rfl⟩ := Prod.mk.inj (Option.some.inj h)
      refine W.widen (k := 3) (n := 1010) (Nat.le_of_ble_eq_true rfl) (Nat.le_of_ble_eq_true rfl) ?_
      exact g_retG hx hb hr hlocks e8 hO hS dX0_shift_36
    have hX1 : ∃ a, lQ la 44 x1.toNatClampNeg = some a ∧ gI z 140 x1 ≠ -1 := by
      rcases hX with ⟨h9, k0, k1, a, k2, -⟩ | ⟨-, k1', b, a, -, -, k2, -⟩
      · exact ⟨a, k2, by rw [← hho, k1]; exact (rowN h9 k0).1⟩
      · exact ⟨a, k2, k1'⟩
    obtain ⟨a1, p2, p1⟩ := hX1
    rw [if_neg p1] at h
    refine lv_aload_n hx hb dX0_shift_16 rfl (lv_at hl 0 rfl) ?_
    refine X0_getA hx hb hts hown hK hO 44 (by decide) (Or.inl rfl) (hts _ q210) dX0_shift_17 ?_
    refine lv_iload_n hx hb dX0_shift_20 rfl (lv_at hl 1 rfl) ?_
    refine g_aald hx hb hc44 (hK.1.2 9 _ rfl).1 rfl hin (v := .ref a1) (by rw [p2]; rfl) dX0_shift_21 ?_
    refine lv_ifnull hx hb dX0_shift_22 ?_
    rcases hO.shelf2 hsh3 with ⟨k1, k2⟩ | hY
    · refine lv_aload_n hx hb dX0_shift_25 rfl (lv_at hl 0 rfl) ?_
      refine X0_getA hx hb hts hown hK hO 44 (by decide) (Or.inl rfl) (hts _ q210) dX0_shift_26 ?_
      refine lv_iload_n hx hb dX0_shift_29 rfl (lv_at hl 3 rfl) ?_
      refine g_aald hx hb hc44 (hK.1.2 9 _ rfl).1 rfl hin3 (v := .null) (by rw [k2]; rfl) dX0_shift_30 ?_
      refine lv_ifnonnullN hx hb dX0_shift_31 ?_
      rw [hho3] at k1
      rw [if_pos k1] at h
      refine lv_bipush (v := -11) hx hb dX0_shift_34 (by decide) ?_
      obtain ⟨e8, rfl⟩ := Prod.mk.inj (Option.some.inj h)
      refine W.widen (k := 3) (n := 1010) (Nat.le_of_ble_eq_true rfl) (Nat.le_of_ble_eq_true rfl) ?_
      exact g_retG hx hb hr hlocks e8 hO hS dX0_shift_36
    have hY1 : ∃ a, lQ la 44 x3.toNatClampNeg = some a ∧ gI z 140 x3 ≠ -1 := by
      rcases hY with ⟨h9, k0, k1, a, k2, -⟩ | ⟨-, k1', b, a, -, -, k2, -⟩
      · exact ⟨a, k2, by rw [← hho3, k1]; exact (rowN h9 k0).1⟩
      · exact ⟨a, k2, k1'⟩
    obtain ⟨a3, r2, r1⟩ := hY1
    rw [if_neg r1] at h
    refine lv_aload_n hx hb dX0_shift_25 rfl (lv_at hl 0 rfl) ?_
    refine X0_getA hx hb hts hown hK hO 44 (by decide) (Or.inl rfl) (hts _ q210) dX0_shift_26 ?_
    refine lv_iload_n hx hb dX0_shift_29 rfl (lv_at hl 3 rfl) ?_
    refine g_aald hx hb hc44 (hK.1.2 9 _ rfl).1 rfl hin3 (v := .ref a3) (by rw [r2]; rfl) dX0_shift_30 ?_
    refine lv_ifnonnull (tgt := 37) hx hb dX0_shift_31 (by decide) ?_
    refine lv_aload_n hx hb dX0_shift_37 rfl (lv_at hl 0 rfl) ?_
    refine X0_getA hx hb hts hown hK hO 44 (by decide) (Or.inl rfl) (hts _ q210) dX0_shift_38 ?_
    refine lv_iload_n hx hb dX0_shift_41 rfl (lv_at hl 1 rfl) ?_
    refine g_aald hx hb hc44 (hK.1.2 9 _ rfl).1 rfl hin (v := .ref a1) (by rw [p2]; rfl) dX0_shift_42 ?_
    rcases hX with ⟨h9, k0, k1, a, k2, k3⟩ | ⟨k1, k1', b, a, k0, -, k2, k3⟩
    · cases p2.symm.trans k2
      obtain ⟨rc, v1, v2⟩ := row_cast h9 k0
      have hk1 := hho.symm.trans k1
      rw [if_pos (show isRowN (gI z 140 x1) by rw [hk1]; exact (rowN h9 k0).2)] at h
      refine g_castI hx hb hown (hts _ q1394) hK hO v1 k3 (Or.inr v2) dX0_shift_43 ?_
      refine lv_iload_n hx hb dX0_shift_46 rfl (lv_at hl 2 rfl) ?_
      refine lv_aload_n hx hb dX0_shift_47 rfl (lv_at hl 0 rfl) ?_
      refine X0_getA hx hb hts hown hK hO 44 (by decide) (Or.inl rfl) (hts _ q210) dX0_shift_48 ?_
      refine lv_iload_n hx hb dX0_shift_51 rfl (lv_at hl 3 rfl) ?_
      refine g_aald hx hb hc44 (hK.1.2 9 _ rfl).1 rfl hin3 (v := .ref a3) (by rw [r2]; rfl) dX0_shift_52 ?_
      rcases hY with ⟨g9, j0, j1, b, j2, j3⟩ | ⟨j1, j1', b, b2, j0, -, j2, j3⟩
      · cases r2.symm.trans j2
        obtain ⟨rc2, v3, v4⟩ := row_cast g9 j0
        have hk3 := hho3.symm.trans j1
        rw [if_pos (show isRowN (gI z 140 x3) by rw [hk3]; exact (rowN g9 j0).2)] at h
        refine g_castI hx hb hown (hts _ q1394) hK hO v3 j3 (Or.inr v4) dX0_shift_53 ?_
        refine lv_iload hx hb dX0_shift_56 (lv_at hl 4 rfl) ?_
        refine lv_iload hx hb dX0_shift_58 (lv_at hl 5 rfl) ?_
        by_cases hgh : g9 = h9
        · subst hgh
          rw [if_pos (hk1.trans hk3.symm)] at h
          by_cases hr0 : cpR x2 x4 x5 (gI z 141 x1) (gI z 141 x3)
          · have h := it_t hr0 h
            refine row_copyR hf hK hO hA hZ hS k0 hsh hsh3 k1 j1 p2 r2 hm8 hr0 q1437 hl.1 (Nat.le_of_ble_eq_true rfl) ⟨Nat.le_of_ble_eq_true rfl, Nat.le_of_ble_eq_true rfl⟩ ⟨Nat.le_of_ble_eq_true rfl, Nat.le_of_ble_eq_true rfl⟩ dX0_shift_60 (fun H locs hO hS => ?_)
            refine lv_goto (tgt := 76) hx hb dX0_shift_63 (by decide) ?_
            refine lv_iload hx hb dX0_shift_76 (lv_at hl 5 rfl) ?_
            obtain ⟨e8, rfl⟩ := Prod.mk.inj (Option.some.inj h)
            refine W.widen (k := 3) (n := 1010) (Nat.le_of_ble_eq_true rfl) (Nat.le_of_ble_eq_true rfl) ?_
            exact g_retG hx hb hr hlocks e8 hO hS dX0_shift_78
          · have h := it_f hr0 h
            refine row_copyX hf hK hO hA hZ hS k0 hsh hsh3 k1 j1 p2 r2 hst hr0 q1437 hl.1 (Nat.le_of_ble_eq_true rfl) ⟨Nat.le_of_ble_eq_true rfl, Nat.le_of_ble_eq_true rfl⟩ ⟨Nat.le_of_ble_eq_true rfl, Nat.le_of_ble_eq_true rfl⟩ dX0_shift_60 (fun H locs q9 ce hO hz1 hS hce hv hcl => ?_)
            refine g_catch0 (T := "java/lang/IndexOutOfBoundsException") hown hK htab 1 rfl (fun w hw => ?_) rfl (by decide) (hts _ q455) q2029 hce hv hcl ?_
            · rw [show (tableOf [(37, 63, 66, 114), (37, 63, 71, 118)]).take 1 = [⟨37, 63, 66, 114⟩] from rfl] at hw
              cases List.mem_singleton.mp hw
              exact Or.inr ⟨by decide, "java/lang/ClassCastException", hts _ q346, hK.nc (by decide +kernel)⟩
            refine lv_astore (lv' := [(6, .ref q9), (0, .ref o), (1, .int x1), (2, .int x2), (3, .int x3), (4, .int x4), (5, .int x5)]) hx hb dX0_shift_71 hl (by decide) rfl (fun ls hl => ?_)
            refine lv_bipush (v := -13) hx hb dX0_shift_73 (by decide) ?_
            obtain ⟨e8, rfl⟩ := Prod.mk.inj (Option.some.inj h)
            refine W.widen (k := 3) (n := 1010) (Nat.le_of_ble_eq_true rfl) (Nat.le_of_ble_eq_true rfl) ?_
            exact g_retG hx hb hr hlocks e8 hO hS dX0_shift_75
        · rw [if_neg (fun q => hgh (by
            have q2 := hk1.symm.trans (q.trans hk3)
            have a1 := nI_toInt (n := h9) (by omega)
            have a2 := nI_toInt (n := g9) (by omega)
            rw [q2] at a1
            omega))] at h
          refine row_copyC hf hK hO hA hZ hS k0 hsh hsh3 k1 j1 p2 r2 hst j0 hgh q1437 hl.1 (Nat.le_of_ble_eq_true rfl) ⟨Nat.le_of_ble_eq_true rfl, Nat.le_of_ble_eq_true rfl⟩ ⟨Nat.le_of_ble_eq_true rfl, Nat.le_of_ble_eq_true rfl⟩ dX0_shift_60 (fun H locs q9 ce hO hz1 hS hce hv hcl => ?_)
          refine g_catch0 (T := "java/lang/ClassCastException") hown hK htab 0 rfl (fun w hw => absurd hw List.not_mem_nil) rfl (by decide) (hts _ q346) q408 hce hv hcl ?_
          refine lv_astore (lv' := [(6, .ref q9), (0, .ref o), (1, .int x1), (2, .int x2), (3, .int x3), (4, .int x4), (5, .int x5)]) hx hb dX0_shift_66 hl (by decide) rfl (fun ls hl => ?_)
          refine lv_bipush (v := -12) hx hb dX0_shift_68 (by decide) ?_
          obtain ⟨e8, rfl⟩ := Prod.mk.inj (Option.some.inj h)
          refine W.widen (k := 3) (n := 1010) (Nat.le_of_ble_eq_true rfl) (Nat.le_of_ble_eq_true rfl) ?_
          exact g_retG hx hb hr hlocks e8 hO hS dX0_shift_70
      · cases r2.symm.trans j2
        have hci := bCi_lt (kA (kz z) 10 b).toNatClampNeg
        obtain ⟨rc2, v1, v2, v3, v4⟩ := nc_row _ hci.1 hci.2
        refine g_castNo hx hb hown (hts _ q1394) (hK.nc v2) hK.2.2.2 v3 (by decide +kernel) (nd_recv hK hO v1 j3) dX0_shift_53 (fun q => ?_)
        refine g_vmC hx hst hts hK hZ hS (hl.1.trans hml.symm) (castOk_use v4 q) (Nat.le_of_ble_eq_true rfl) (Nat.le_of_ble_eq_true rfl) ⟨Nat.le_of_ble_eq_true rfl, Nat.le_of_ble_eq_true rfl⟩ hlocks (fun H1 q9 ce hz1 hq1 hS hce hv hcl => ?_)
        refine g_catch0 (T := "java/lang/ClassCastException") hown hK htab 0 rfl (fun w hw => absurd hw List.not_mem_nil) rfl (by decide) (hts _ q346) q408 hce hv hcl ?_
        have hO := hO.grow hq1
        rw [hho3] at j1
        rw [if_neg j1] at h
        refine lv_astore (lv' := [(6, .ref q9), (0, .ref o), (1, .int x1), (2, .int x2), (3, .int x3), (4, .int x4), (5, .int x5)]) hx hb dX0_shift_66 hl (by decide) rfl (fun ls hl => ?_)
        refine lv_bipush (v := -12) hx hb dX0_shift_68 (by decide) ?_
        obtain ⟨e8, rfl⟩ := Prod.mk.inj (Option.some.inj h)
        refine W.widen (k := 3) (n := 1010) (Nat.le_of_ble_eq_true rfl) (Nat.le_of_ble_eq_true rfl) ?_
        exact g_retG hx hb hr hlocks e8 hO hS dX0_shift_70
    · cases p2.symm.trans k2
      have hci := bCi_lt (kA (kz z) 10 b).toNatClampNeg
      obtain ⟨rc, v1, v2, v3, v4⟩ := nc_row _ hci.1 hci.2
      refine g_castNo hx hb hown (hts _ q1394) (hK.nc v2) hK.2.2.2 v3 (by decide +kernel) (nd_recv hK hO v1 k3) dX0_shift_43 (fun q => ?_)
      refine g_vmC hx hst hts hK hZ hS (hl.1.trans hml.symm) (castOk_use v4 q) (Nat.le_of_ble_eq_true rfl) (Nat.le_of_ble_eq_true rfl) ⟨Nat.le_of_ble_eq_true rfl, Nat.le_of_ble_eq_true rfl⟩ hlocks (fun H1 q9 ce hz1 hq1 hS hce hv hcl => ?_)
      refine g_catch0 (T := "java/lang/ClassCastException") hown hK htab 0 rfl (fun w hw => absurd hw List.not_mem_nil) rfl (by decide) (hts _ q346) q408 hce hv hcl ?_
      have hO := hO.grow hq1
      rw [hho] at k1
      rw [if_neg k1] at h
      refine lv_astore (lv' := [(6, .ref q9), (0, .ref o), (1, .int x1), (2, .int x2), (3, .int x3), (4, .int x4), (5, .int x5)]) hx hb dX0_shift_66 hl (by decide) rfl (fun ls hl => ?_)
      refine lv_bipush (v := -12) hx hb dX0_shift_68 (by decide) ?_
      obtain ⟨e8, rfl⟩ := Prod.mk.inj (Option.some.inj h)
      refine W.widen (k := 3) (n := 1010) (Nat.le_of_ble_eq_true rfl) (Nat.le_of_ble_eq_true rfl) ?_
      exact g_retG hx hb hr hlocks e8 hO hS dX0_shift_70
  · have h := it_t c2 h
    refine lv_iconst (v := (-1)) hx hb dX0_shift_14 (by decide) ?_
    obtain ⟨e8, rfl⟩ := Prod.mk.inj (Option.some.inj h)
    refine W.widen (k := 3) (n := 1010) (Nat.le_of_ble_eq_true rfl) (Nat.le_of_ble_eq_true rfl) ?_
    exact g_retG hx hb hr hlocks e8 hO hS dX0_shift_15
