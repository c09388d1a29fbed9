set_option maxRecDepth 100000
/-! printed by gen.py: the walks of the class -/
theorem metX0_in (l : Launch) (x1 : Int32) (x2 : Int32) (x3 : Int32)  (r : Int32) (h : FX0_in x1 x2 x3 = r) : Met l yX0_in (ws_ yX0_in cX0_in 3 (some .boolean)) ({ frames := 0, cells := 0, slots := 0, locals := 0 }) (va_Pc [.int x1, .int x2, .int x3] (fun _ => True)) (QR (some (.int r))) 0 0 (fun _ => False) := by
  refine g_ofW (cc := cX0_in) (maxL := 3) (ret := (some .boolean)) (own := RX0) (by decide) rfl rfl [.int x1, .int x2, .int x3] (fun _ => True) (Nat.le_of_ble_eq_true rfl) ?_
  intro p e s m below meth c ls hx hb hr hml hts hown hlocks hnm hPre hl
  have hf : CallFix p m c cX0_in 3 s _ lw_all RX0 := ⟨hx, hb, hml, hown, hts⟩
  have hl : lv_has ls 3 [(0, .int x1), (1, .int x2), (2, .int x3)] := hl
  unfold FX0_in at h
  refine lv_iload_n hx hb dX0_in_0 rfl (lv_at hl 0 rfl) ?_
  refine lv_iload_n hx hb dX0_in_1 rfl (lv_at hl 1 rfl) ?_
  refine lv_icmp_lt (tgt := 14) hx hb dX0_in_2 (by decide) (fun c1 => ?_) (fun c1 => ?_)
  · have h := it_t c1 h
    refine lv_iconst (v := 0) hx hb dX0_in_14 (by decide) ?_
    exact g_retRz hx hb hr hlocks (Or.inl rfl) h dX0_in_15
  · have h := it_f c1 h
    refine lv_iload_n hx hb dX0_in_5 rfl (lv_at hl 0 rfl) ?_
    refine lv_iload_n hx hb dX0_in_6 rfl (lv_at hl 2 rfl) ?_
    refine lv_icmp_gt (tgt := 14) hx hb dX0_in_7 (by decide) (fun c2 => ?_) (fun c2 => ?_)
    · have h := it_t c2 h
      refine lv_iconst (v := 0) hx hb dX0_in_14 (by decide) ?_
      exact g_retRz hx hb hr hlocks (Or.inl rfl) h dX0_in_15
    · have h := it_f c2 h
      refine lv_iconst (v := 1) hx hb dX0_in_10 (by decide) ?_
      refine lv_goto (tgt := 15) hx hb dX0_in_11 (by decide) ?_
      exact g_retRz hx hb hr hlocks (Or.inr rfl) h dX0_in_15
theorem bzX0_in (x1 : Int32) (x2 : Int32) (x3 : Int32)  : okZ (FX0_in x1 x2 x3) := by
  unfold FX0_in
  repeat' split
  all_goals first | exact Or.inl rfl | exact Or.inr rfl
theorem clX0_in {p : Program} {l : Launch} {e : Env} {R : Room} {s : State} {m : MethodId} {args : Array Value} {below : List Frame} {meth : Method} {c : Code} {H : Heap} {locs : List Loc} {cells slots : Nat} {Q : State → Prop} {cc : ByteArray} {pc nL idx fr lo : Nat} {ls : Array Slot} {rest : List Value} {own : String}  {x1 : Int32} {x2 : Int32} {x3 : Int32} {r : Int32} (hf : CallFix p m c cc nL s args lw_all own) (hM : Met l yX0_in (ws_ yX0_in cX0_in 3 (some .boolean)) ({ frames := fr, cells := 0, slots := 0, locals := lo }) (va_Pc [.int x1, .int x2, .int x3] (fun _ => True)) (QR (some (.int r))) 0 0 (fun _ => False)) (hq : Cond.methodLink own idx yX0_in ∈ lw_all) (hs : ls.size = nL) (hr : (rest.map fun v => v.category).sum ≤ 8) (hR : fr + 1 ≤ R.frames ∧ 8 + (3 + 11) + lo ≤ R.locals) (hcs : cells + 0 ≤ R.cells ∧ slots + 0 ≤ R.slots) (hd : decode cc pc = .ok (.invokestatic idx, 3)) (kk : W p l e R s m args below meth c H locs cells slots Q (F0 m (pc + 3) ls (.int r :: rest))) : W p l e R s m args below meth c H locs cells slots Q (F0 m pc ls (.int x3 :: .int x2 :: .int x1 :: rest)) :=
  g_callR (W.runS (As := [.int x1, .int x2, .int x3]) (rest := rest) hf hM (va_cwS 3 hf.2.2.2.2 (lw_S hq q310 q90 q311) rfl rfl rfl (by decide +kernel) hR) ⟨fun a U g mk q => q, fun U hU hW => ⟨rfl, trivial⟩⟩ rfl rfl hs rfl (lv_room hr) hd hcs) kk
theorem metX0_isPlace (l : Launch) (x1 : Int32)  (r : Int32) (h : FX0_isPlace x1 = r) : Met l yX0_isPlace (ws_ yX0_isPlace cX0_isPlace 1 (some .boolean)) ({ frames := 1, cells := 0, slots := 0, locals := 22 }) (va_Pc [.int x1] (fun _ => True)) (QR (some (.int r))) 0 0 (fun _ => False) := by
  refine g_ofW (cc := cX0_isPlace) (maxL := 1) (ret := (some .boolean)) (own := RX0) (by decide) rfl rfl [.int x1] (fun _ => True) (Nat.le_of_ble_eq_true rfl) ?_
  intro p e s m below meth c ls hx hb hr hml hts hown hlocks hnm hPre hl
  have hf : CallFix p m c cX0_isPlace 1 s _ lw_all RX0 := ⟨hx, hb, hml, hown, hts⟩
  have hl : lv_has ls 1 [(0, .int x1)] := hl
  unfold FX0_isPlace at h
  refine lv_iload_n hx hb dX0_isPlace_0 rfl (lv_at hl 0 rfl) ?_
  refine lv_iconst (v := 0) hx hb dX0_isPlace_1 (by decide) ?_
  refine lv_bipush (v := 35) hx hb dX0_isPlace_2 (by decide) ?_
  refine clX0_in hf (metX0_in l x1 0 35 _ rfl) q309 hl.1 (Nat.le_of_ble_eq_true rfl) ⟨Nat.le_of_ble_eq_true rfl, Nat.le_of_ble_eq_true rfl⟩ ⟨Nat.le_of_ble_eq_true rfl, Nat.le_of_ble_eq_true rfl⟩ dX0_isPlace_4 ?_
  exact g_retRz hx hb hr hlocks (bzX0_in ..) h dX0_isPlace_7
theorem bzX0_isPlace (x1 : Int32)  : okZ (FX0_isPlace x1) := by
  unfold FX0_isPlace
  repeat' split
  all_goals first | exact Or.inl rfl | exact Or.inr rfl | exact bzX0_in ..
theorem clX0_isPlace {p : Program} {l : Launch} {e : Env} {R : Room} {s : State} {m : MethodId} {args : Array Value} {below : List Frame} {meth : Method} {c : Code} {H : Heap} {locs : List Loc} {cells slots : Nat} {Q : State → Prop} {cc : ByteArray} {pc nL idx fr lo : Nat} {ls : Array Slot} {rest : List Value} {own : String}  {x1 : Int32} {r : Int32} (hf : CallFix p m c cc nL s args lw_all own) (hM : Met l yX0_isPlace (ws_ yX0_isPlace cX0_isPlace 1 (some .boolean)) ({ frames := fr, cells := 0, slots := 0, locals := lo }) (va_Pc [.int x1] (fun _ => True)) (QR (some (.int r))) 0 0 (fun _ => False)) (hq : Cond.methodLink own idx yX0_isPlace ∈ lw_all) (hs : ls.size = nL) (hr : (rest.map fun v => v.category).sum ≤ 8) (hR : fr + 1 ≤ R.frames ∧ 8 + (1 + 11) + lo ≤ R.locals) (hcs : cells + 0 ≤ R.cells ∧ slots + 0 ≤ R.slots) (hd : decode cc pc = .ok (.invokestatic idx, 3)) (kk : W p l e R s m args below meth c H locs cells slots Q (F0 m (pc + 3) ls (.int r :: rest))) : W p l e R s m args below meth c H locs cells slots Q (F0 m pc ls (.int x1 :: rest)) :=
  g_callR (W.runS (As := [.int x1]) (rest := rest) hf hM (va_cwS 1 hf.2.2.2.2 (lw_S hq q307 q90 q308) rfl rfl rfl (by decide +kernel) hR) ⟨fun a U g mk q => q, fun U hU hW => ⟨rfl, trivial⟩⟩ rfl rfl hs rfl (lv_room hr) hd hcs) kk
theorem metX0_isShelf (l : Launch) (x1 : Int32)  (r : Int32) (h : FX0_isShelf x1 = r) : Met l yX0_isShelf (ws_ yX0_isShelf cX0_isShelf 1 (some .boolean)) ({ frames := 1, cells := 0, slots := 0, locals := 22 }) (va_Pc [.int x1] (fun _ => True)) (QR (some (.int r))) 0 0 (fun _ => False) := by
  refine g_ofW (cc := cX0_isShelf) (maxL := 1) (ret := (some .boolean)) (own := RX0) (by decide) rfl rfl [.int x1] (fun _ => True) (Nat.le_of_ble_eq_true rfl) ?_
  intro p e s m below meth c ls hx hb hr hml hts hown hlocks hnm hPre hl
  have hf : CallFix p m c cX0_isShelf 1 s _ lw_all RX0 := ⟨hx, hb, hml, hown, hts⟩
  have hl : lv_has ls 1 [(0, .int x1)] := hl
  unfold FX0_isShelf at h
  refine lv_iload_n hx hb dX0_isShelf_0 rfl (lv_at hl 0 rfl) ?_
  refine lv_iconst (v := 0) hx hb dX0_isShelf_1 (by decide) ?_
  refine lv_iconst (v := 5) hx hb dX0_isShelf_2 (by decide) ?_
  refine clX0_in hf (metX0_in l x1 0 5 _ rfl) q309 hl.1 (Nat.le_of_ble_eq_true rfl) ⟨Nat.le_of_ble_eq_true rfl, Nat.le_of_ble_eq_true rfl⟩ ⟨Nat.le_of_ble_eq_true rfl, Nat.le_of_ble_eq_true rfl⟩ dX0_isShelf_3 ?_
  exact g_retRz hx hb hr hlocks (bzX0_in ..) h dX0_isShelf_6
theorem bzX0_isShelf (x1 : Int32)  : okZ (FX0_isShelf x1) := by
  unfold FX0_isShelf
  repeat' split
  all_goals first | exact Or.inl rfl | exact Or.inr rfl | exact bzX0_in ..
theorem clX0_isShelf {p : Program} {l : Launch} {e : Env} {R : Room} {s : State} {m : MethodId} {args : Array Value} {below : List Frame} {meth : Method} {c : Code} {H : Heap} {locs : List Loc} {cells slots : Nat} {Q : State → Prop} {cc : ByteArray} {pc nL idx fr lo : Nat} {ls : Array Slot} {rest : List Value} {own : String}  {x1 : Int32} {r : Int32} (hf : CallFix p m c cc nL s args lw_all own) (hM : Met l yX0_isShelf (ws_ yX0_isShelf cX0_isShelf 1 (some .boolean)) ({ frames := fr, cells := 0, slots := 0, locals := lo }) (va_Pc [.int x1] (fun _ => True)) (QR (some (.int r))) 0 0 (fun _ => False)) (hq : Cond.methodLink own idx yX0_isShelf ∈ lw_all) (hs : ls.size = nL) (hr : (rest.map fun v => v.category).sum ≤ 8) (hR : fr + 1 ≤ R.frames ∧ 8 + (1 + 11) + lo ≤ R.locals) (hcs : cells + 0 ≤ R.cells ∧ slots + 0 ≤ R.slots) (hd : decode cc pc = .ok (.invokestatic idx, 3)) (kk : W p l e R s m args below meth c H locs cells slots Q (F0 m (pc + 3) ls (.int r :: rest))) : W p l e R s m args below meth c H locs cells slots Q (F0 m pc ls (.int x1 :: rest)) :=
  g_callR (W.runS (As := [.int x1]) (rest := rest) hf hM (va_cwS 1 hf.2.2.2.2 (lw_S hq q475 q90 q476) rfl rfl rfl (by decide +kernel) hR) ⟨fun a U g mk q => q, fun U hU hW => ⟨rfl, trivial⟩⟩ rfl rfl hs rfl (lv_room hr) hd hcs) kk
theorem metX0_setTo (l : Launch) (D : va_G) (aC : Nat → ClassId) (A : Nat → Prop) (o : Nat) (la : LC) (x1 : Int32) (x2 : Int32) (x3 : Int32) (z : GS)  (zq : GS) (h : FX0_setTo x1 x2 x3 z = some zq) : Met l yX0_setTo (ws_ yX0_setTo cX0_setTo 4 none) ({ frames := 0, cells := 0, slots := 0, locals := 0 }) (va_Pc [.ref o, .int x1, .int x2, .int x3] (PC D aC A o la z)) (QG none (OC D aC A o la zq) A) 0 0 A := by
  refine g_ofW (cc := cX0_setTo) (maxL := 4) (ret := none) (own := RX0) (by decide) rfl rfl [.ref o, .int x1, .int x2, .int x3] (PC D aC A o la z) (Nat.le_of_ble_eq_true rfl) ?_
  intro p e s m below meth c ls hx hb hr hml hts hown hlocks hnm hPre hl
  obtain ⟨hO, hK, hA, hZ⟩ := hPre
  have hf : CallFix p m c cX0_setTo 4 s _ lw_all RX0 := ⟨hx, hb, hml, hown, hts⟩
  have hl : lv_has ls 4 [(0, .ref o), (1, .int x1), (2, .int x2), (3, .int x3)] := hl
  refine g_open (A := A) (OC D aC A o la z) hO (fun H locs hO hS => ?_)
  unfold FX0_setTo at h
  refine lv_iload_n hx hb dX0_setTo_0 rfl (lv_at hl 1 rfl) ?_
  by_cases c1 : x1 = 0
  · have h := it_t c1 h
    refine lv_tableIn (off := 39) (tgt := 40) hx hb dX0_setTo_1 (by rw [c1]; decide) (by rw [c1]; decide) (by rw [c1]; rfl) (by decide) ?_
    refine lv_aload_n hx hb dX0_setTo_40 rfl (lv_at hl 0 rfl) ?_
    refine X0_getA hx hb hts hown hK hO 0 (by decide) (Or.inl rfl) (hts _ q164) dX0_setTo_41 ?_
    refine lv_iload_n hx hb dX0_setTo_44 rfl (lv_at hl 2 rfl) ?_
    obtain ⟨g2, h⟩ := grd h
    refine X0_paald hx hb hK hO g2 dX0_setTo_45 ?_
    refine lv_iload_n hx hb dX0_setTo_46 rfl (lv_at hl 3 rfl) ?_
    refine X0_putP hx hb hts hown hK hO hS g2 0 (by decide) (hK.nw q322 rfl) rfl rfl dX0_setTo_47 (fun H locs z3 ez3 hO hS => ?_)
    have h := pin_to ez3 h
    refine lv_goto (tgt := 118) hx hb dX0_setTo_50 (by decide) ?_
    cases Option.some.inj h
    exact g_retGv hx hb hr hlocks hO hS dX0_setTo_118
  have h := it_f c1 h
  by_cases c4 : x1 = 1
  · have h := it_t c4 h
    refine lv_tableIn (off := 52) (tgt := 53) hx hb dX0_setTo_1 (by rw [c4]; decide) (by rw [c4]; decide) (by rw [c4]; rfl) (by decide) ?_
    refine lv_aload_n hx hb dX0_setTo_53 rfl (lv_at hl 0 rfl) ?_
    refine X0_getA hx hb hts hown hK hO 0 (by decide) (Or.inl rfl) (hts _ q164) dX0_setTo_54 ?_
    refine lv_iload_n hx hb dX0_setTo_57 rfl (lv_at hl 2 rfl) ?_
    obtain ⟨g5, h⟩ := grd h
    refine X0_paald hx hb hK hO g5 dX0_setTo_58 ?_
    refine lv_iload_n hx hb dX0_setTo_59 rfl (lv_at hl 3 rfl) ?_
    refine X0_putP hx hb hts hown hK hO hS g5 1 (by decide) (hK.nw q324 rfl) rfl rfl dX0_setTo_60 (fun H locs z6 ez6 hO hS => ?_)
    have h := pin_to ez6 h
    refine lv_goto (tgt := 118) hx hb dX0_setTo_63 (by decide) ?_
    cases Option.some.inj h
    exact g_retGv hx hb hr hlocks hO hS dX0_setTo_118
  have h := it_f c4 h
  by_cases c7 : x1 = 2
  · have h := it_t c7 h
    refine lv_tableIn (off := 65) (tgt := 66) hx hb dX0_setTo_1 (by rw [c7]; decide) (by rw [c7]; decide) (by rw [c7]; rfl) (by decide) ?_
    refine lv_aload_n hx hb dX0_setTo_66 rfl (lv_at hl 0 rfl) ?_
    refine X0_getA hx hb hts hown hK hO 0 (by decide) (Or.inl rfl) (hts _ q164) dX0_setTo_67 ?_
    refine lv_iload_n hx hb dX0_setTo_70 rfl (lv_at hl 2 rfl) ?_
    obtain ⟨g8, h⟩ := grd h
    refine X0_paald hx hb hK hO g8 dX0_setTo_71 ?_
    refine lv_iload_n hx hb dX0_setTo_72 rfl (lv_at hl 3 rfl) ?_
    refine X0_putP hx hb hts hown hK hO hS g8 2 (by decide) (hK.nw q326 rfl) rfl rfl dX0_setTo_73 (fun H locs z9 ez9 hO hS => ?_)
    have h := pin_to ez9 h
    refine lv_goto (tgt := 118) hx hb dX0_setTo_76 (by decide) ?_
    cases Option.some.inj h
    exact g_retGv hx hb hr hlocks hO hS dX0_setTo_118
  have h := it_f c7 h
  by_cases c10 : x1 = 3
  · have h := it_t c10 h
    refine lv_tableIn (off := 78) (tgt := 79) hx hb dX0_setTo_1 (by rw [c10]; decide) (by rw [c10]; decide) (by rw [c10]; rfl) (by decide) ?_
    refine lv_aload_n hx hb dX0_setTo_79 rfl (lv_at hl 0 rfl) ?_
    refine X0_getA hx hb hts hown hK hO 0 (by decide) (Or.inl rfl) (hts _ q164) dX0_setTo_80 ?_
    refine lv_iload_n hx hb dX0_setTo_83 rfl (lv_at hl 2 rfl) ?_
    obtain ⟨g11, h⟩ := grd h
    refine X0_paald hx hb hK hO g11 dX0_setTo_84 ?_
    refine lv_iload_n hx hb dX0_setTo_85 rfl (lv_at hl 3 rfl) ?_
    refine X0_putP hx hb hts hown hK hO hS g11 3 (by decide) (hK.nw q328 rfl) rfl rfl dX0_setTo_86 (fun H locs z12 ez12 hO hS => ?_)
    have h := pin_to ez12 h
    refine lv_goto (tgt := 118) hx hb dX0_setTo_89 (by decide) ?_
    cases Option.some.inj h
    exact g_retGv hx hb hr hlocks hO hS dX0_setTo_118
  have h := it_f c10 h
  by_cases c13 : x1 = 4
  · have h := it_t c13 h
    refine lv_tableIn (off := 91) (tgt := 92) hx hb dX0_setTo_1 (by rw [c13]; decide) (by rw [c13]; decide) (by rw [c13]; rfl) (by decide) ?_
    refine lv_aload_n hx hb dX0_setTo_92 rfl (lv_at hl 0 rfl) ?_
    refine X0_getA hx hb hts hown hK hO 0 (by decide) (Or.inl rfl) (hts _ q164) dX0_setTo_93 ?_
    refine lv_iload_n hx hb dX0_setTo_96 rfl (lv_at hl 2 rfl) ?_
    obtain ⟨g14, h⟩ := grd h
    refine X0_paald hx hb hK hO g14 dX0_setTo_97 ?_
    refine lv_iload_n hx hb dX0_setTo_98 rfl (lv_at hl 3 rfl) ?_
    refine X0_putP hx hb hts hown hK hO hS g14 4 (by decide) (hK.nw q330 rfl) rfl rfl dX0_setTo_99 (fun H locs z15 ez15 hO hS => ?_)
    have h := pin_to ez15 h
    refine lv_goto (tgt := 118) hx hb dX0_setTo_102 (by decide) ?_
    cases Option.some.inj h
    exact g_retGv hx hb hr hlocks hO hS dX0_setTo_118
  have h := it_f c13 h
  by_cases c16 : x1 = 5
  · have h := it_t c16 h
    refine lv_tableIn (off := 104) (tgt := 105) hx hb dX0_setTo_1 (by rw [c16]; decide) (by rw [c16]; decide) (by rw [c16]; rfl) (by decide) ?_
    refine lv_aload_n hx hb dX0_setTo_105 rfl (lv_at hl 0 rfl) ?_
    refine lv_iload_n hx hb dX0_setTo_106 rfl (lv_at hl 3 rfl) ?_
    refine X0_putF hx hb hts hown hK hO hS 2 (by decide) rfl (by decide) (by decide) (hts _ q166) rfl (ty := .int) rfl rfl rfl dX0_setTo_107 (fun H locs z17 ez17 hO hS => ?_)
    have h := pin_to ez17 h
    refine lv_goto (tgt := 118) hx hb dX0_setTo_110 (by decide) ?_
    cases Option.some.inj h
    exact g_retGv hx hb hr hlocks hO hS dX0_setTo_118
  have h := it_f c16 h
  have tc1 := lv_neT (a := 0) c1 rfl
  have tc4 := lv_neT (a := 1) c4 rfl
  have tc7 := lv_neT (a := 2) c7 rfl
  have tc10 := lv_neT (a := 3) c10 rfl
  have tc13 := lv_neT (a := 4) c13 rfl
  have tc16 := lv_neT (a := 5) c16 rfl
  refine lv_tableOut (tgt := 113) hx hb dX0_setTo_1 (by omega) (by decide) ?_
  refine lv_aload_n hx hb dX0_setTo_113 rfl (lv_at hl 0 rfl) ?_
  refine lv_iload_n hx hb dX0_setTo_114 rfl (lv_at hl 3 rfl) ?_
  refine X0_putF hx hb hts hown hK hO hS 3 (by decide) rfl (by decide) (by decide) (hts _ q167) rfl (ty := .int) rfl rfl rfl dX0_setTo_115 (fun H locs z18 ez18 hO hS => ?_)
  have h := pin_to ez18 h
  cases Option.some.inj h
  exact g_retGv hx hb hr hlocks hO hS dX0_setTo_118
theorem clX0_setTo {p : Program} {l : Launch} {e : Env} {R : Room} {s : State} {m : MethodId} {args : Array Value} {below : List Frame} {meth : Method} {c : Code} {H : Heap} {locs : List Loc} {cells slots : Nat} {Q : State → Prop} {cc : ByteArray} {pc nL idx fr lo : Nat} {ls : Array Slot} {rest : List Value} {own : String} {D : va_G} {aC : Nat → ClassId} {A : Nat → Prop} {o : Nat} {la : LC} {z : GS} {zq : GS} {x1 : Int32} {x2 : Int32} {x3 : Int32}  (hf : CallFix p m c cc nL s args lw_all own) (hK : KC D aC s) (hO : OC D aC A o la z H) (hA : ∀ q : Nat, s.heap.size ≤ q → A q) (hZ : ZX A s s.heap) (hS : va_S A s.heap H locs) (hM : Met l yX0_setTo (ws_ yX0_setTo cX0_setTo 4 none) ({ frames := fr, cells := 0, slots := 0, locals := lo }) (va_Pc [.ref o, .int x1, .int x2, .int x3] (PC D aC A o la z)) (QG none (OC D aC A o la zq) A) 0 0 A) (hq : Cond.methodLink own idx yX0_setTo ∈ lw_all) (hs : ls.size = nL) (hr : (rest.map fun v => v.category).sum ≤ 8) (hR : fr + 1 ≤ R.frames ∧ 8 + (4 + 11) + lo ≤ R.locals) (hcs : cells + 0 ≤ R.cells ∧ slots + 0 ≤ R.slots) (hd : decode cc pc = .ok (.invokevirtual idx, 3)) (kk : ∀ (H1 : Heap) (locs1 : List Loc), OC D aC A o la zq H1 → va_S A s.heap H1 locs1 → W p l e R s m args below meth c H1 locs1 cells slots Q (F0 m (pc + 3) ls (rest))) : W p l e R s m args below meth c H locs cells slots Q (F0 m pc ls (.int x3 :: .int x2 :: .int x1 :: .ref o :: rest)) :=
  g_callG (W.runV (As := [.int x1, .int x2, .int x3]) (rest := rest) hf hM (cwV 3 hf.2.2.2.2 (lw_V hq q488 qs3 q90 q489) rfl rfl rfl (by decide +kernel) hR) ⟨PC.blind, OC.recv hK hO, fun U hU hW => ⟨rfl, PC.at hO hK hA hZ hS hU hW⟩⟩ rfl rfl hs rfl (lv_room hr) hd hcs) hS (fun H1 locs1 hP hS _ _ => kk H1 locs1 hP hS)
theorem metX0_undo (l : Launch) (D : va_G) (aC : Nat → ClassId) (A : Nat → Prop) (o : Nat) (la : LC)  (z : GS) (r : Int32) (zq : GS) (h : FX0_undo z = some (r, zq)) : Met l yX0_undo (ws_ yX0_undo cX0_undo 1 (some .int)) ({ frames := 1, cells := 0, slots := 0, locals := 23 }) (va_Pc [.ref o] (PC D aC A o la z)) (QG (some (.int r)) (OC D aC A o la zq) A) 0 0 A := by
  refine g_ofW (cc := cX0_undo) (maxL := 1) (ret := (some .int)) (own := RX0) (by decide) rfl rfl [.ref o] (PC D aC A o la z) (Nat.le_of_ble_eq_true rfl) ?_
  intro p e s m below meth c ls hx hb hr hml hts hown hlocks hnm hPre hl
  obtain ⟨hO, hK, hA, hZ⟩ := hPre
  have hf : CallFix p m c cX0_undo 1 s _ lw_all RX0 := ⟨hx, hb, hml, hown, hts⟩
  have hl : lv_has ls 1 [(0, .ref o)] := hl
  refine g_open (A := A) (OC D aC A o la z) hO (fun H locs hO hS => ?_)
  unfold FX0_undo at h
  refine lv_aload_n hx hb dX0_undo_0 rfl (lv_at hl 0 rfl) ?_
  refine X0_getF hx hb hts hown hK hO 5 (by decide) rfl (hts _ q169) dX0_undo_1 ?_
  refine lv_if_ne (tgt := 10) hx hb dX0_undo_4 (by decide) (fun c1 => ?_) (fun c1 => ?_)
  · have h := it_f c1 h
    refine lv_aload_n hx hb dX0_undo_10 rfl (lv_at hl 0 rfl) ?_
    refine lv_dup hx hb dX0_undo_11 rfl ?_
    refine X0_getF hx hb hts hown hK hO 5 (by decide) rfl (hts _ q169) dX0_undo_12 ?_
    refine lv_iconst (v := 1) hx hb dX0_undo_15 (by decide) ?_
    refine lv_isub hx hb dX0_undo_16 ?_
    refine X0_putF hx hb hts hown hK hO hS 5 (by decide) rfl (by decide) (by decide) (hts _ q169) rfl (ty := .int) rfl rfl rfl dX0_undo_17 (fun H locs z2 ez2 hO hS => ?_)
    have h := pin_to ez2 h
    refine lv_aload_n hx hb dX0_undo_20 rfl (lv_at hl 0 rfl) ?_
    refine lv_dup hx hb dX0_undo_21 rfl ?_
    refine X0_getF hx hb hts hown hK hO 6 (by decide) rfl (hts _ q170) dX0_undo_22 ?_
    refine lv_iconst (v := 1) hx hb dX0_undo_25 (by decide) ?_
    refine lv_iadd hx hb dX0_undo_26 ?_
    refine X0_putF hx hb hts hown hK hO hS 6 (by decide) rfl (by decide) (by decide) (hts _ q170) rfl (ty := .int) rfl rfl rfl dX0_undo_27 (fun H locs z3 ez3 hO hS => ?_)
    have h := pin_to ez3 h
    refine lv_aload_n hx hb dX0_undo_30 rfl (lv_at hl 0 rfl) ?_
    refine lv_aload_n hx hb dX0_undo_31 rfl (lv_at hl 0 rfl) ?_
    refine X0_getA hx hb hts hown hK hO 4 (by decide) (Or.inl rfl) (hts _ q168) dX0_undo_32 ?_
    refine lv_aload_n hx hb dX0_undo_35 rfl (lv_at hl 0 rfl) ?_
    refine X0_getF hx hb hts hown hK hO 5 (by decide) rfl (hts _ q169) dX0_undo_36 ?_
    obtain ⟨g4, h⟩ := grd h
    refine X0_caald hx hb hK hO g4 dX0_undo_39 ?_
    refine X0_getC hx hb hts hown hK hO g4 0 (by decide) (hK.nw q528 rfl) dX0_undo_40 ?_
    refine lv_aload_n hx hb dX0_undo_43 rfl (lv_at hl 0 rfl) ?_
    refine X0_getA hx hb hts hown hK hO 4 (by decide) (Or.inl rfl) (hts _ q168) dX0_undo_44 ?_
    refine lv_aload_n hx hb dX0_undo_47 rfl (lv_at hl 0 rfl) ?_
    refine X0_getF hx hb hts hown hK hO 5 (by decide) rfl (hts _ q169) dX0_undo_48 ?_
    refine X0_caald hx hb hK hO g4 dX0_undo_51 ?_
    refine X0_getC hx hb hts hown hK hO g4 1 (by decide) (hK.nw q530 rfl) dX0_undo_52 ?_
    refine lv_aload_n hx hb dX0_undo_55 rfl (lv_at hl 0 rfl) ?_
    refine X0_getA hx hb hts hown hK hO 4 (by decide) (Or.inl rfl) (hts _ q168) dX0_undo_56 ?_
    refine lv_aload_n hx hb dX0_undo_59 rfl (lv_at hl 0 rfl) ?_
    refine X0_getF hx hb hts hown hK hO 5 (by decide) rfl (hts _ q169) dX0_undo_60 ?_
    refine X0_caald hx hb hK hO g4 dX0_undo_63 ?_
    refine X0_getC hx hb hts hown hK hO g4 2 (by decide) (hK.nw q532 rfl) dX0_undo_64 ?_
    obtain ⟨z5, e6, h⟩ := bn1_e h
    refine clX0_setTo hf hK hO hA hZ hS (metX0_setTo l D aC A o la (gI z3 120 (gF z3 5)) (gI z3 121 (gF z3 5)) (gI z3 122 (gF z3 5)) z3 z5 e6) q486 hl.1 (Nat.le_of_ble_eq_true rfl) ⟨Nat.le_of_ble_eq_true rfl, Nat.le_of_ble_eq_true rfl⟩ ⟨Nat.le_of_ble_eq_true rfl, Nat.le_of_ble_eq_true rfl⟩ dX0_undo_67 (fun H locs hO hS => ?_)
    refine lv_aload_n hx hb dX0_undo_70 rfl (lv_at hl 0 rfl) ?_
    refine X0_getF hx hb hts hown hK hO 5 (by decide) rfl (hts _ q169) dX0_undo_71 ?_
    obtain ⟨e8, rfl⟩ := Prod.mk.inj (Option.some.inj h)
    exact g_retG hx hb hr hlocks e8 hO hS dX0_undo_74
  · have h := it_t c1 h
    refine lv_bipush (v := (-5)) hx hb dX0_undo_7 (by decide) ?_
    obtain ⟨e8, rfl⟩ := Prod.mk.inj (Option.some.inj h)
    exact g_retG hx hb hr hlocks e8 hO hS dX0_undo_9
theorem clX0_undo {p : Program} {l : Launch} {e : Env} {R : Room} {s : State} {m : MethodId} {args : Array Value} {below : List Frame} {meth : Method} {c : Code} {H : Heap} {locs : List Loc} {cells slots : Nat} {Q : State → Prop} {cc : ByteArray} {pc nL idx fr lo : Nat} {ls : Array Slot} {rest : List Value} {own : String} {D : va_G} {aC : Nat → ClassId} {A : Nat → Prop} {o : Nat} {la : LC} {z : GS} {zq : GS}  {r : Int32} (hf : CallFix p m c cc nL s args lw_all own) (hK : KC D aC s) (hO : OC D aC A o la z H) (hA : ∀ q : Nat, s.heap.size ≤ q → A q) (hZ : ZX A s s.heap) (hS : va_S A s.heap H locs) (hM : Met l yX0_undo (ws_ yX0_undo cX0_undo 1 (some .int)) ({ frames := fr, cells := 0, slots := 0, locals := lo }) (va_Pc [.ref o] (PC D aC A o la z)) (QG (some (.int r)) (OC D aC A o la zq) A) 0 0 A) (hq : Cond.methodLink own idx yX0_undo ∈ lw_all) (hs : ls.size = nL) (hr : (rest.map fun v => v.category).sum ≤ 8) (hR : fr + 1 ≤ R.frames ∧ 8 + (1 + 11) + lo ≤ R.locals) (hcs : cells + 0 ≤ R.cells ∧ slots + 0 ≤ R.slots) (hd : decode cc pc = .ok (.invokevirtual idx, 3)) (kk : ∀ (H1 : Heap) (locs1 : List Loc), OC D aC A o la zq H1 → va_S A s.heap H1 locs1 → W p l e R s m args below meth c H1 locs1 cells slots Q (F0 m (pc + 3) ls (.int r :: rest))) : W p l e R s m args below meth c H locs cells slots Q (F0 m pc ls (.ref o :: rest)) :=
  g_callG (W.runV (As := []) (rest := rest) hf hM (cwV 0 hf.2.2.2.2 (lw_V hq q483 q484 q90 q485) rfl rfl rfl (by decide +kernel) hR) ⟨PC.blind, OC.recv hK hO, fun U hU hW => ⟨rfl, PC.at hO hK hA hZ hS hU hW⟩⟩ rfl rfl hs rfl (lv_room hr) hd hcs) hS (fun H1 locs1 hP hS _ _ => kk H1 locs1 hP hS)
theorem metX0_redo (l : Launch) (D : va_G) (aC : Nat → ClassId) (A : Nat → Prop) (o : Nat) (la : LC)  (z : GS) (r : Int32) (zq : GS) (h : FX0_redo z = some (r, zq)) : Met l yX0_redo (ws_ yX0_redo cX0_redo 1 (some .int)) ({ frames := 1, cells := 0, slots := 0, locals := 23 }) (va_Pc [.ref o] (PC D aC A o la z)) (QG (some (.int r)) (OC D aC A o la zq) A) 0 0 A := by
  refine g_ofW (cc := cX0_redo) (maxL := 1) (ret := (some .int)) (own := RX0) (by decide) rfl rfl [.ref o] (PC D aC A o la z) (Nat.le_of_ble_eq_true rfl) ?_
  intro p e s m below meth c ls hx hb hr hml hts hown hlocks hnm hPre hl
  obtain ⟨hO, hK, hA, hZ⟩ := hPre
  have hf : CallFix p m c cX0_redo 1 s _ lw_all RX0 := ⟨hx, hb, hml, hown, hts⟩
  have hl : lv_has ls 1 [(0, .ref o)] := hl
  refine g_open (A := A) (OC D aC A o la z) hO (fun H locs hO hS => ?_)
  unfold FX0_redo at h
  refine lv_aload_n hx hb dX0_redo_0 rfl (lv_at hl 0 rfl) ?_
  refine X0_getF hx hb hts hown hK hO 6 (by decide) rfl (hts _ q170) dX0_redo_1 ?_
  refine lv_if_ne (tgt := 10) hx hb dX0_redo_4 (by decide) (fun c1 => ?_) (fun c1 => ?_)
  · have h := it_f c1 h
    refine lv_aload_n hx hb dX0_redo_10 rfl (lv_at hl 0 rfl) ?_
    refine lv_aload_n hx hb dX0_redo_11 rfl (lv_at hl 0 rfl) ?_
    refine X0_getA hx hb hts hown hK hO 4 (by decide) (Or.inl rfl) (hts _ q168) dX0_redo_12 ?_
    refine lv_aload_n hx hb dX0_redo_15 rfl (lv_at hl 0 rfl) ?_
    refine X0_getF hx hb hts hown hK hO 5 (by decide) rfl (hts _ q169) dX0_redo_16 ?_
    obtain ⟨g2, h⟩ := grd h
    refine X0_caald hx hb hK hO g2 dX0_redo_19 ?_
    refine X0_getC hx hb hts hown hK hO g2 0 (by decide) (hK.nw q528 rfl) dX0_redo_20 ?_
    refine lv_aload_n hx hb dX0_redo_23 rfl (lv_at hl 0 rfl) ?_
    refine X0_getA hx hb hts hown hK hO 4 (by decide) (Or.inl rfl) (hts _ q168) dX0_redo_24 ?_
    refine lv_aload_n hx hb dX0_redo_27 rfl (lv_at hl 0 rfl) ?_
    refine X0_getF hx hb hts hown hK hO 5 (by decide) rfl (hts _ q169) dX0_redo_28 ?_
    refine X0_caald hx hb hK hO g2 dX0_redo_31 ?_
    refine X0_getC hx hb hts hown hK hO g2 1 (by decide) (hK.nw q530 rfl) dX0_redo_32 ?_
    refine lv_aload_n hx hb dX0_redo_35 rfl (lv_at hl 0 rfl) ?_
    refine X0_getA hx hb hts hown hK hO 4 (by decide) (Or.inl rfl) (hts _ q168) dX0_redo_36 ?_
    refine lv_aload_n hx hb dX0_redo_39 rfl (lv_at hl 0 rfl) ?_
    refine X0_getF hx hb hts hown hK hO 5 (by decide) rfl (hts _ q169) dX0_redo_40 ?_
    refine X0_caald hx hb hK hO g2 dX0_redo_43 ?_
    refine X0_getC hx hb hts hown hK hO g2 3 (by decide) (hK.nw q534 rfl) dX0_redo_44 ?_
    obtain ⟨z3, e4, h⟩ := bn1_e h
    refine clX0_setTo hf hK hO hA hZ hS (metX0_setTo l D aC A o la (gI z 120 (gF z 5)) (gI z 121 (gF z 5)) (gI z 123 (gF z 5)) z z3 e4) q486 hl.1 (Nat.le_of_ble_eq_true rfl) ⟨Nat.le_of_ble_eq_true rfl, Nat.le_of_ble_eq_true rfl⟩ ⟨Nat.le_of_ble_eq_true rfl, Nat.le_of_ble_eq_true rfl⟩ dX0_redo_47 (fun H locs hO hS => ?_)
    refine lv_aload_n hx hb dX0_redo_50 rfl (lv_at hl 0 rfl) ?_
    refine lv_dup hx hb dX0_redo_51 rfl ?_
    refine X0_getF hx hb hts hown hK hO 5 (by decide) rfl (hts _ q169) dX0_redo_52 ?_
    refine lv_iconst (v := 1) hx hb dX0_redo_55 (by decide) ?_
    refine lv_iadd hx hb dX0_redo_56 ?_
    refine X0_putF hx hb hts hown hK hO hS 5 (by decide) rfl (by decide) (by decide) (hts _ q169) rfl (ty := .int) rfl rfl rfl dX0_redo_57 (fun H locs z5 ez5 hO hS => ?_)
    have h := pin_to ez5 h
    refine lv_aload_n hx hb dX0_redo_60 rfl (lv_at hl 0 rfl) ?_
    refine lv_dup hx hb dX0_redo_61 rfl ?_
    refine X0_getF hx hb hts hown hK hO 6 (by decide) rfl (hts _ q170) dX0_redo_62 ?_
    refine lv_iconst (v := 1) hx hb dX0_redo_65 (by decide) ?_
    refine lv_isub hx hb dX0_redo_66 ?_
    refine X0_putF hx hb hts hown hK hO hS 6 (by decide) rfl (by decide) (by decide) (hts _ q170) rfl (ty := .int) rfl rfl rfl dX0_redo_67 (fun H locs z6 ez6 hO hS => ?_)
    have h := pin_to ez6 h
    refine lv_aload_n hx hb dX0_redo_70 rfl (lv_at hl 0 rfl) ?_
    refine X0_getF hx hb hts hown hK hO 6 (by decide) rfl (hts _ q170) dX0_redo_71 ?_
    obtain ⟨e8, rfl⟩ := Prod.mk.inj (Option.some.inj h)
    exact g_retG hx hb hr hlocks e8 hO hS dX0_redo_74
  · have h := it_t c1 h
    refine lv_bipush (v := (-5)) hx hb dX0_redo_7 (by decide) ?_
    obtain ⟨e8, rfl⟩ := Prod.mk.inj (Option.some.inj h)
    exact g_retG hx hb hr hlocks e8 hO hS dX0_redo_9
theorem clX0_redo {p : Program} {l : Launch} {e : Env} {R : Room} {s : State} {m : MethodId} {args : Array Value} {below : List Frame} {meth : Method} {c : Code} {H : Heap} {locs : List Loc} {cells slots : Nat} {Q : State → Prop} {cc : ByteArray} {pc nL idx fr lo : Nat} {ls : Array Slot} {rest : List Value} {own : String} {D : va_G} {aC : Nat → ClassId} {A : Nat → Prop} {o : Nat} {la : LC} {z : GS} {zq : GS}  {r : Int32} (hf : CallFix p m c cc nL s args lw_all own) (hK : KC D aC s) (hO : OC D aC A o la z H) (hA : ∀ q : Nat, s.heap.size ≤ q → A q) (hZ : ZX A s s.heap) (hS : va_S A s.heap H locs) (hM : Met l yX0_redo (ws_ yX0_redo cX0_redo 1 (some .int)) ({ frames := fr, cells := 0, slots := 0, locals := lo }) (va_Pc [.ref o] (PC D aC A o la z)) (QG (some (.int r)) (OC D aC A o la zq) A) 0 0 A) (hq : Cond.methodLink own idx yX0_redo ∈ lw_all) (hs : ls.size = nL) (hr : (rest.map fun v => v.category).sum ≤ 8) (hR : fr + 1 ≤ R.frames ∧ 8 + (1 + 11) + lo ≤ R.locals) (hcs : cells + 0 ≤ R.cells ∧ slots + 0 ≤ R.slots) (hd : decode cc pc = .ok (.invokevirtual idx, 3)) (kk : ∀ (H1 : Heap) (locs1 : List Loc), OC D aC A o la zq H1 → va_S A s.heap H1 locs1 → W p l e R s m args below meth c H1 locs1 cells slots Q (F0 m (pc + 3) ls (.int r :: rest))) : W p l e R s m args below meth c H locs cells slots Q (F0 m pc ls (.ref o :: rest)) :=
  g_callG (W.runV (As := []) (rest := rest) hf hM (cwV 0 hf.2.2.2.2 (lw_V hq q491 q492 q90 q493) rfl rfl rfl (by decide +kernel) hR) ⟨PC.blind, OC.recv hK hO, fun U hU hW => ⟨rfl, PC.at hO hK hA hZ hS hU hW⟩⟩ rfl rfl hs rfl (lv_room hr) hd hcs) hS (fun H1 locs1 hP hS _ _ => kk H1 locs1 hP hS)
theorem metX0_isPerson (l : Launch) (D : va_G) (aC : Nat → ClassId) (A : Nat → Prop) (o : Nat) (la : LC) (x1 : Int32) (z : GS) (r : Int32) (h : FX0_isPerson x1 z = r) : Met l yX0_isPerson (ws_ yX0_isPerson cX0_isPerson 2 (some .boolean)) ({ frames := 1, cells := 0, slots := 0, locals := 22 }) (va_Pc [.ref o, .int x1] (PC D aC A o la z)) (QR (some (.int r))) 0 0 (fun _ => False) := by
  refine g_ofW (cc := cX0_isPerson) (maxL := 2) (ret := (some .boolean)) (own := RX0) (by decide) rfl rfl [.ref o, .int x1] (PC D aC A o la z) (Nat.le_of_ble_eq_true rfl) ?_
  intro p e s m below meth c ls hx hb hr hml hts hown hlocks hnm hPre hl
  obtain ⟨hO, hK, hA, hZ⟩ := hPre
  have hf : CallFix p m c cX0_isPerson 2 s _ lw_all RX0 := ⟨hx, hb, hml, hown, hts⟩
  have hl : lv_has ls 2 [(0, .ref o), (1, .int x1)] := hl
  have hS : va_S A s.heap s.heap [] := va_S.rf
  unfold FX0_isPerson at h
  refine lv_iload_n hx hb dX0_isPerson_0 rfl (lv_at hl 1 rfl) ?_
  refine lv_iconst (v := 0) hx hb dX0_isPerson_1 (by decide) ?_
  refine lv_aload_n hx hb dX0_isPerson_2 rfl (lv_at hl 0 rfl) ?_
  refine X0_getF hx hb hts hown hK hO 1 (by decide) rfl (hts _ q165) dX0_isPerson_3 ?_
  refine lv_iconst (v := 1) hx hb dX0_isPerson_6 (by decide) ?_
  refine lv_isub hx hb dX0_isPerson_7 ?_
  refine clX0_in hf (metX0_in l x1 0 ((gF z 1) - 1) _ rfl) q309 hl.1 (Nat.le_of_ble_eq_true rfl) ⟨Nat.le_of_ble_eq_true rfl, Nat.le_of_ble_eq_true rfl⟩ ⟨Nat.le_of_ble_eq_true rfl, Nat.le_of_ble_eq_true rfl⟩ dX0_isPerson_8 ?_
  exact g_retRz hx hb hr hlocks (bzX0_in ..) h dX0_isPerson_11
theorem bzX0_isPerson (x1 : Int32) (z : GS) : okZ (FX0_isPerson x1 z) := by
  unfold FX0_isPerson
  repeat' split
  all_goals first | exact Or.inl rfl | exact Or.inr rfl | exact bzX0_in ..
theorem clX0_isPerson {p : Program} {l : Launch} {e : Env} {R : Room} {s : State} {m : MethodId} {args : Array Value} {below : List Frame} {meth : Method} {c : Code} {H : Heap} {locs : List Loc} {cells slots : Nat} {Q : State → Prop} {cc : ByteArray} {pc nL idx fr lo : Nat} {ls : Array Slot} {rest : List Value} {own : String} {D : va_G} {aC : Nat → ClassId} {A : Nat → Prop} {o : Nat} {la : LC} {z : GS} {x1 : Int32} {r : Int32} (hf : CallFix p m c cc nL s args lw_all own) (hK : KC D aC s) (hO : OC D aC A o la z H) (hA : ∀ q : Nat, s.heap.size ≤ q → A q) (hZ : ZX A s s.heap) (hS : va_S A s.heap H locs) (hM : Met l yX0_isPerson (ws_ yX0_isPerson cX0_isPerson 2 (some .boolean)) ({ frames := fr, cells := 0, slots := 0, locals := lo }) (va_Pc [.ref o, .int x1] (PC D aC A o la z)) (QR (some (.int r))) 0 0 (fun _ => False)) (hq : Cond.methodLink own idx yX0_isPerson ∈ lw_all) (hs : ls.size = nL) (hr : (rest.map fun v => v.category).sum ≤ 8) (hR : fr + 1 ≤ R.frames ∧ 8 + (2 + 11) + lo ≤ R.locals) (hcs : cells + 0 ≤ R.cells ∧ slots + 0 ≤ R.slots) (hd : decode cc pc = .ok (.invokevirtual idx, 3)) (kk : W p l e R s m args below meth c H locs cells slots Q (F0 m (pc + 3) ls (.int r :: rest))) : W p l e R s m args below meth c H locs cells slots Q (F0 m pc ls (.int x1 :: .ref o :: rest)) :=
  g_callR (W.runV (As := [.int x1]) (rest := rest) hf hM (cwV 1 hf.2.2.2.2 (lw_V hq q504 qs5 q90 q505) rfl rfl rfl (by decide +kernel) hR) ⟨PC.blind, OC.recv hK hO, fun U hU hW => ⟨rfl, PC.at hO hK hA hZ hS hU hW⟩⟩ rfl rfl hs rfl (lv_room hr) hd hcs) kk
theorem metX0_isOf (l : Launch) (D : va_G) (aC : Nat → ClassId) (A : Nat → Prop) (o : Nat) (la : LC) (x1 : Int32) (x2 : Int32) (z : GS) (r : Int32) (h : FX0_isOf x1 x2 z = r) : Met l yX0_isOf (ws_ yX0_isOf cX0_isOf 3 (some .boolean)) ({ frames := 2, cells := 0, slots := 0, locals := 43 }) (va_Pc [.ref o, .int x1, .int x2] (PC D aC A o la z)) (QR (some (.int r))) 0 0 (fun _ => False) := by
  refine g_ofW (cc := cX0_isOf) (maxL := 3) (ret := (some .boolean)) (own := RX0) (by decide) rfl rfl [.ref o, .int x1, .int x2] (PC D aC A o la z) (Nat.le_of_ble_eq_true rfl) ?_
  intro p e s m below meth c ls hx hb hr hml hts hown hlocks hnm hPre hl
  obtain ⟨hO, hK, hA, hZ⟩ := hPre
  have hf : CallFix p m c cX0_isOf 3 s _ lw_all RX0 := ⟨hx, hb, hml, hown, hts⟩
  have hl : lv_has ls 3 [(0, .ref o), (1, .int x1), (2, .int x2)] := hl
  have hS : va_S A s.heap s.heap [] := va_S.rf
  unfold FX0_isOf at h
  refine lv_iload_n hx hb dX0_isOf_0 rfl (lv_at hl 2 rfl) ?_
  refine lv_iconst (v := 0) hx hb dX0_isOf_1 (by decide) ?_
  refine lv_iconst (v := 4) hx hb dX0_isOf_2 (by decide) ?_
  refine clX0_in hf (metX0_in l x2 0 4 _ rfl) q309 hl.1 (Nat.le_of_ble_eq_true rfl) ⟨Nat.le_of_ble_eq_true rfl, Nat.le_of_ble_eq_true rfl⟩ ⟨Nat.le_of_ble_eq_true rfl, Nat.le_of_ble_eq_true rfl⟩ dX0_isOf_3 ?_
  refine lv_if_eq (tgt := 17) hx hb dX0_isOf_6 (by decide) (fun c1 => ?_) (fun c1 => ?_)
  · have h := it_t c1 h
    refine lv_iload_n hx hb dX0_isOf_17 rfl (lv_at hl 2 rfl) ?_
    refine lv_iconst (v := 5) hx hb dX0_isOf_18 (by decide) ?_
    refine lv_bipush (v := 6) hx hb dX0_isOf_19 (by decide) ?_
    refine clX0_in hf (metX0_in l x2 5 6 _ rfl) q309 hl.1 (Nat.le_of_ble_eq_true rfl) ⟨Nat.le_of_ble_eq_true rfl, Nat.le_of_ble_eq_true rfl⟩ ⟨Nat.le_of_ble_eq_true rfl, Nat.le_of_ble_eq_true rfl⟩ dX0_isOf_21 ?_
    refine lv_if_eq (tgt := 35) hx hb dX0_isOf_24 (by decide) (fun c2 => ?_) (fun c2 => ?_)
    · have h := it_t c2 h
      refine lv_iconst (v := 0) hx hb dX0_isOf_35 (by decide) ?_
      exact g_retRz hx hb hr hlocks (Or.inl rfl) h dX0_isOf_36
    · have h := it_f c2 h
      refine lv_iload_n hx hb dX0_isOf_27 rfl (lv_at hl 1 rfl) ?_
      refine lv_if_ne (tgt := 35) hx hb dX0_isOf_28 (by decide) (fun c3 => ?_) (fun c3 => ?_)
      · have h := it_f c3 h
        refine lv_iconst (v := 0) hx hb dX0_isOf_35 (by decide) ?_
        exact g_retRz hx hb hr hlocks (Or.inl rfl) h dX0_isOf_36
      · have h := it_t c3 h
        refine lv_iconst (v := 1) hx hb dX0_isOf_31 (by decide) ?_
        refine lv_goto (tgt := 36) hx hb dX0_isOf_32 (by decide) ?_
        exact g_retRz hx hb hr hlocks (Or.inr rfl) h dX0_isOf_36
  · have h := it_f c1 h
    refine lv_aload_n hx hb dX0_isOf_9 rfl (lv_at hl 0 rfl) ?_
    refine lv_iload_n hx hb dX0_isOf_10 rfl (lv_at hl 1 rfl) ?_
    refine clX0_isPerson hf hK hO hA hZ hS (metX0_isPerson l D aC A o la x1 z _ rfl) q502 hl.1 (Nat.le_of_ble_eq_true rfl) ⟨Nat.le_of_ble_eq_true rfl, Nat.le_of_ble_eq_true rfl⟩ ⟨Nat.le_of_ble_eq_true rfl, Nat.le_of_ble_eq_true rfl⟩ dX0_isOf_11 ?_
    refine lv_goto (tgt := 36) hx hb dX0_isOf_14 (by decide) ?_
    exact g_retRz hx hb hr hlocks (bzX0_isPerson ..) h dX0_isOf_36
theorem bzX0_isOf (x1 : Int32) (x2 : Int32) (z : GS) : okZ (FX0_isOf x1 x2 z) := by
  unfold FX0_isOf
  repeat' split
  all_goals first | exact Or.inl rfl | exact Or.inr rfl | exact bzX0_isPerson ..
theorem clX0_isOf {p : Program} {l : Launch} {e : Env} {R : Room} {s : State} {m : MethodId} {args : Array Value} {below : List Frame} {meth : Method} {c : Code} {H : Heap} {locs : List Loc} {cells slots : Nat} {Q : State → Prop} {cc : ByteArray} {pc nL idx fr lo : Nat} {ls : Array Slot} {rest : List Value} {own : String} {D : va_G} {aC : Nat → ClassId} {A : Nat → Prop} {o : Nat} {la : LC} {z : GS} {x1 : Int32} {x2 : Int32} {r : Int32} (hf : CallFix p m c cc nL s args lw_all own) (hK : KC D aC s) (hO : OC D aC A o la z H) (hA : ∀ q : Nat, s.heap.size ≤ q → A q) (hZ : ZX A s s.heap) (hS : va_S A s.heap H locs) (hM : Met l yX0_isOf (ws_ yX0_isOf cX0_isOf 3 (some .boolean)) ({ frames := fr, cells := 0, slots := 0, locals := lo }) (va_Pc [.ref o, .int x1, .int x2] (PC D aC A o la z)) (QR (some (.int r))) 0 0 (fun _ => False)) (hq : Cond.methodLink own idx yX0_isOf ∈ lw_all) (hs : ls.size = nL) (hr : (rest.map fun v => v.category).sum ≤ 8) (hR : fr + 1 ≤ R.frames ∧ 8 + (3 + 11) + lo ≤ R.locals) (hcs : cells + 0 ≤ R.cells ∧ slots + 0 ≤ R.slots) (hd : decode cc pc = .ok (.invokevirtual idx, 3)) (kk : W p l e R s m args below meth c H locs cells slots Q (F0 m (pc + 3) ls (.int r :: rest))) : W p l e R s m args below meth c H locs cells slots Q (F0 m pc ls (.int x2 :: .int x1 :: .ref o :: rest)) :=
  g_callR (W.runV (As := [.int x1, .int x2]) (rest := rest) hf hM (cwV 2 hf.2.2.2.2 (lw_V hq q500 qs4 q90 q501) rfl rfl rfl (by decide +kernel) hR) ⟨PC.blind, OC.recv hK hO, fun U hU hW => ⟨rfl, PC.at hO hK hA hZ hS hU hW⟩⟩ rfl rfl hs rfl (lv_room hr) hd hcs) kk
theorem metX0_mayCare (l : Launch) (D : va_G) (aC : Nat → ClassId) (A : Nat → Prop) (o : Nat) (la : LC) (x1 : Int32) (x2 : Int32) (z : GS) (r : Int32) (h : FX0_mayCare x1 x2 z = r) : Met l yX0_mayCare (ws_ yX0_mayCare cX0_mayCare 3 (some .boolean)) ({ frames := 2, cells := 0, slots := 0, locals := 43 }) (va_Pc [.ref o, .int x1, .int x2] (PC D aC A o la z)) (QR (some (.int r))) 0 0 (fun _ => False) := by
  refine g_ofW (cc := cX0_mayCare) (maxL := 3) (ret := (some .boolean)) (own := RX0) (by decide) rfl rfl [.ref o, .int x1, .int x2] (PC D aC A o la z) (Nat.le_of_ble_eq_true rfl) ?_
  intro p e s m below meth c ls hx hb hr hml hts hown hlocks hnm hPre hl
  obtain ⟨hO, hK, hA, hZ⟩ := hPre
  have hf : CallFix p m c cX0_mayCare 3 s _ lw_all RX0 := ⟨hx, hb, hml, hown, hts⟩
  have hl : lv_has ls 3 [(0, .ref o), (1, .int x1), (2, .int x2)] := hl
  have hS : va_S A s.heap s.heap [] := va_S.rf
  unfold FX0_mayCare at h
  refine lv_iload_n hx hb dX0_mayCare_0 rfl (lv_at hl 2 rfl) ?_
  refine lv_iconst (v := (-1)) hx hb dX0_mayCare_1 (by decide) ?_
  obtain ⟨k1, e5, h⟩ := pin_nm h
  have hk1 : ∀  (ls : Array Slot), k1  = r → lv_has ls 3 [(0, .ref o)] → W p l e ({ frames := 2, cells := 0, slots := 0, locals := 43 }) s m ([.ref o, .int x1, .int x2] : List Value).toArray below meth c s.heap [] 0 0 (MQ below (QR (some (.int r))) ([.ref o, .int x1, .int x2] : List Value).toArray s 0 0 (fun _ => False)) (F0 m 18 ls []) := by
    intro  ls h hl
    rw [e5] at h
    refine lv_iconst (v := 1) hx hb dX0_mayCare_18 (by decide) ?_
    refine lv_goto (tgt := 23) hx hb dX0_mayCare_19 (by decide) ?_
    exact g_retRz hx hb hr hlocks (Or.inr rfl) h dX0_mayCare_23
  refine lv_icmp_eq (tgt := 18) hx hb dX0_mayCare_2 (by decide) (fun c2 => ?_) (fun c2 => ?_)
  · have h := it_t c2 h
    exact hk1 _ h (lv_sub hl [0] rfl)
  · have h := it_f c2 h
    refine lv_aload_n hx hb dX0_mayCare_5 rfl (lv_at hl 0 rfl) ?_
    refine lv_iload_n hx hb dX0_mayCare_6 rfl (lv_at hl 2 rfl) ?_
    refine clX0_isPerson hf hK hO hA hZ hS (metX0_isPerson l D aC A o la x2 z _ rfl) q502 hl.1 (Nat.le_of_ble_eq_true rfl) ⟨Nat.le_of_ble_eq_true rfl, Nat.le_of_ble_eq_true rfl⟩ ⟨Nat.le_of_ble_eq_true rfl, Nat.le_of_ble_eq_true rfl⟩ dX0_mayCare_7 ?_
    refine lv_if_eq (tgt := 22) hx hb dX0_mayCare_10 (by decide) (fun c3 => ?_) (fun c3 => ?_)
    · have h := it_t c3 h
      refine lv_iconst (v := 0) hx hb dX0_mayCare_22 (by decide) ?_
      exact g_retRz hx hb hr hlocks (Or.inl rfl) h dX0_mayCare_23
    · have h := it_f c3 h
      refine lv_iload_n hx hb dX0_mayCare_13 rfl (lv_at hl 2 rfl) ?_
      refine lv_iload_n hx hb dX0_mayCare_14 rfl (lv_at hl 1 rfl) ?_
      refine lv_icmp_eq (tgt := 22) hx hb dX0_mayCare_15 (by decide) (fun c4 => ?_) (fun c4 => ?_)
      · have h := it_t c4 h
        refine lv_iconst (v := 0) hx hb dX0_mayCare_22 (by decide) ?_
        exact g_retRz hx hb hr hlocks (Or.inl rfl) h dX0_mayCare_23
      · have h := it_f c4 h
        exact hk1 _ h (lv_sub hl [0] rfl)
theorem bzX0_mayCare (x1 : Int32) (x2 : Int32) (z : GS) : okZ (FX0_mayCare x1 x2 z) := by
  unfold FX0_mayCare
  repeat' split
  all_goals first | exact Or.inl rfl | exact Or.inr rfl
theorem clX0_mayCare {p : Program} {l : Launch} {e : Env} {R : Room} {s : State} {m : MethodId} {args : Array Value} {below : List Frame} {meth : Method} {c : Code} {H : Heap} {locs : List Loc} {cells slots : Nat} {Q : State → Prop} {cc : ByteArray} {pc nL idx fr lo : Nat} {ls : Array Slot} {rest : List Value} {own : String} {D : va_G} {aC : Nat → ClassId} {A : Nat → Prop} {o : Nat} {la : LC} {z : GS} {x1 : Int32} {x2 : Int32} {r : Int32} (hf : CallFix p m c cc nL s args lw_all own) (hK : KC D aC s) (hO : OC D aC A o la z H) (hA : ∀ q : Nat, s.heap.size ≤ q → A q) (hZ : ZX A s s.heap) (hS : va_S A s.heap H locs) (hM : Met l yX0_mayCare (ws_ yX0_mayCare cX0_mayCare 3 (some .boolean)) ({ frames := fr, cells := 0, slots := 0, locals := lo }) (va_Pc [.ref o, .int x1, .int x2] (PC D aC A o la z)) (QR (some (.int r))) 0 0 (fun _ => False)) (hq : Cond.methodLink own idx yX0_mayCare ∈ lw_all) (hs : ls.size = nL) (hr : (rest.map fun v => v.category).sum ≤ 8) (hR : fr + 1 ≤ R.frames ∧ 8 + (3 + 11) + lo ≤ R.locals) (hcs : cells + 0 ≤ R.cells ∧ slots + 0 ≤ R.slots) (hd : decode cc pc = .ok (.invokevirtual idx, 3)) (kk : W p l e R s m args below meth c H locs cells slots Q (F0 m (pc + 3) ls (.int r :: rest))) : W p l e R s m args below meth c H locs cells slots Q (F0 m pc ls (.int x2 :: .int x1 :: .ref o :: rest)) :=
  g_callR (W.runV (As := [.int x1, .int x2]) (rest := rest) hf hM (cwV 2 hf.2.2.2.2 (lw_V hq q512 qs7 q90 q513) rfl rfl rfl (by decide +kernel) hR) ⟨PC.blind, OC.recv hK hO, fun U hU hW => ⟨rfl, PC.at hO hK hA hZ hS hU hW⟩⟩ rfl rfl hs rfl (lv_room hr) hd hcs) kk
theorem metX0_mayBe (l : Launch) (D : va_G) (aC : Nat → ClassId) (A : Nat → Prop) (o : Nat) (la : LC) (x1 : Int32) (x2 : Int32) (x3 : Int32) (z : GS) (r : Int32) (h : FX0_mayBe x1 x2 x3 z = r) : Met l yX0_mayBe (ws_ yX0_mayBe cX0_mayBe 4 (some .boolean)) ({ frames := 3, cells := 0, slots := 0, locals := 65 }) (va_Pc [.ref o, .int x1, .int x2, .int x3] (PC D aC A o la z)) (QR (some (.int r))) 0 0 (fun _ => False) := by
  refine g_ofW (cc := cX0_mayBe) (maxL := 4) (ret := (some .boolean)) (own := RX0) (by decide) rfl rfl [.ref o, .int x1, .int x2, .int x3] (PC D aC A o la z) (Nat.le_of_ble_eq_true rfl) ?_
  intro p e s m below meth c ls hx hb hr hml hts hown hlocks hnm hPre hl
  obtain ⟨hO, hK, hA, hZ⟩ := hPre
  have hf : CallFix p m c cX0_mayBe 4 s _ lw_all RX0 := ⟨hx, hb, hml, hown, hts⟩
  have hl : lv_has ls 4 [(0, .ref o), (1, .int x1), (2, .int x2), (3, .int x3)] := hl
  have hS : va_S A s.heap s.heap [] := va_S.rf
  unfold FX0_mayBe at h
  refine lv_iload_n hx hb dX0_mayBe_0 rfl (lv_at hl 2 rfl) ?_
  obtain ⟨k1, e11, h⟩ := pin_nm h
  have hk1 : ∀  (ls : Array Slot), k1  = r → lv_has ls 4 [(0, .ref o), (3, .int x3)] → W p l e ({ frames := 3, cells := 0, slots := 0, locals := 65 }) s m ([.ref o, .int x1, .int x2, .int x3] : List Value).toArray below meth c s.heap [] 0 0 (MQ below (QR (some (.int r))) ([.ref o, .int x1, .int x2, .int x3] : List Value).toArray s 0 0 (fun _ => False)) (F0 m 64 ls []) := by
    intro  ls h hl
    rw [e11] at h
    refine lv_iload_n hx hb dX0_mayBe_64 rfl (lv_at hl 1 rfl) ?_
    refine lv_iconst (v := 0) hx hb dX0_mayBe_65 (by decide) ?_
    refine lv_bipush (v := 9) hx hb dX0_mayBe_66 (by decide) ?_
    refine clX0_in hf (metX0_in l x3 0 9 _ rfl) q309 hl.1 (Nat.le_of_ble_eq_true rfl) ⟨Nat.le_of_ble_eq_true rfl, Nat.le_of_ble_eq_true rfl⟩ ⟨Nat.le_of_ble_eq_true rfl, Nat.le_of_ble_eq_true rfl⟩ dX0_mayBe_68 ?_
    exact g_retRz hx hb hr hlocks (bzX0_in ..) h dX0_mayBe_71
  obtain ⟨k2, e10, h⟩ := pin_nm h
  have hk2 : ∀  (ls : Array Slot), k2  = r → lv_has ls 4 [(0, .ref o), (3, .int x3)] → W p l e ({ frames := 3, cells := 0, slots := 0, locals := 65 }) s m ([.ref o, .int x1, .int x2, .int x3] : List Value).toArray below meth c s.heap [] 0 0 (MQ below (QR (some (.int r))) ([.ref o, .int x1, .int x2, .int x3] : List Value).toArray s 0 0 (fun _ => False)) (F0 m 49 ls []) := by
    intro  ls h hl
    rw [e10] at h
    refine lv_iload_n hx hb dX0_mayBe_49 rfl (lv_at hl 1 rfl) ?_
    refine lv_iconst (v := 0) hx hb dX0_mayBe_50 (by decide) ?_
    refine lv_bipush (v := 99) hx hb dX0_mayBe_51 (by decide) ?_
    refine clX0_in hf (metX0_in l x3 0 99 _ rfl) q309 hl.1 (Nat.le_of_ble_eq_true rfl) ⟨Nat.le_of_ble_eq_true rfl, Nat.le_of_ble_eq_true rfl⟩ ⟨Nat.le_of_ble_eq_true rfl, Nat.le_of_ble_eq_true rfl⟩ dX0_mayBe_53 ?_
    exact g_retRz hx hb hr hlocks (bzX0_in ..) h dX0_mayBe_56
  by_cases c3 : x2 = 0
  · have h := it_t c3 h
    refine lv_tableIn (off := 43) (tgt := 44) hx hb dX0_mayBe_1 (by rw [c3]; decide) (by rw [c3]; decide) (by rw [c3]; rfl) (by decide) ?_
    refine lv_iload_n hx hb dX0_mayBe_44 rfl (lv_at hl 3 rfl) ?_
    refine clX0_isPlace hf (metX0_isPlace l x3 _ rfl) q306 hl.1 (Nat.le_of_ble_eq_true rfl) ⟨Nat.le_of_ble_eq_true rfl, Nat.le_of_ble_eq_true rfl⟩ ⟨Nat.le_of_ble_eq_true rfl, Nat.le_of_ble_eq_true rfl⟩ dX0_mayBe_45 ?_
    exact g_retRz hx hb hr hlocks (bzX0_isPlace ..) h dX0_mayBe_48
  have h := it_f c3 h
  by_cases c4 : x2 = 1
  · have h := it_t c4 h
    refine lv_tableIn (off := 63) (tgt := 64) hx hb dX0_mayBe_1 (by rw [c4]; decide) (by rw [c4]; decide) (by rw [c4]; rfl) (by decide) ?_
    exact hk1 _ h (lv_sub hl [0, 3] rfl)
  have h := it_f c4 h
  by_cases c5 : x2 = 2
  · have h := it_t c5 h
    refine lv_tableIn (off := 63) (tgt := 64) hx hb dX0_mayBe_1 (by rw [c5]; decide) (by rw [c5]; decide) (by rw [c5]; rfl) (by decide) ?_
    exact hk1 _ h (lv_sub hl [0, 3] rfl)
  have h := it_f c5 h
  by_cases c6 : x2 = 3
  · have h := it_t c6 h
    refine lv_tableIn (off := 48) (tgt := 49) hx hb dX0_mayBe_1 (by rw [c6]; decide) (by rw [c6]; decide) (by rw [c6]; rfl) (by decide) ?_
    exact hk2 _ h (lv_sub hl [0, 3] rfl)
  have h := it_f c6 h
  by_cases c7 : x2 = 4
  · have h := it_t c7 h
    refine lv_tableIn (off := 56) (tgt := 57) hx hb dX0_mayBe_1 (by rw [c7]; decide) (by rw [c7]; decide) (by rw [c7]; rfl) (by decide) ?_
    refine lv_aload_n hx hb dX0_mayBe_57 rfl (lv_at hl 0 rfl) ?_
    refine lv_iload_n hx hb dX0_mayBe_58 rfl (lv_at hl 1 rfl) ?_
    refine lv_iload_n hx hb dX0_mayBe_59 rfl (lv_at hl 3 rfl) ?_
    refine clX0_mayCare hf hK hO hA hZ hS (metX0_mayCare l D aC A o la x1 x3 z _ rfl) q510 hl.1 (Nat.le_of_ble_eq_true rfl) ⟨Nat.le_of_ble_eq_true rfl, Nat.le_of_ble_eq_true rfl⟩ ⟨Nat.le_of_ble_eq_true rfl, Nat.le_of_ble_eq_true rfl⟩ dX0_mayBe_60 ?_
    exact g_retRz hx hb hr hlocks (bzX0_mayCare ..) h dX0_mayBe_63
  have h := it_f c7 h
  by_cases c8 : x2 = 5
  · have h := it_t c8 h
    refine lv_tableIn (off := 63) (tgt := 64) hx hb dX0_mayBe_1 (by rw [c8]; decide) (by rw [c8]; decide) (by rw [c8]; rfl) (by decide) ?_
    exact hk1 _ h (lv_sub hl [0, 3] rfl)
  have h := it_f c8 h
  by_cases c9 : x2 = 6
  · have h := it_t c9 h
    refine lv_tableIn (off := 48) (tgt := 49) hx hb dX0_mayBe_1 (by rw [c9]; decide) (by rw [c9]; decide) (by rw [c9]; rfl) (by decide) ?_
    exact hk2 _ h (lv_sub hl [0, 3] rfl)
  have h := it_f c9 h
  have tc3 := lv_neT (a := 0) c3 rfl
  have tc4 := lv_neT (a := 1) c4 rfl
  have tc5 := lv_neT (a := 2) c5 rfl
  have tc6 := lv_neT (a := 3) c6 rfl
  have tc7 := lv_neT (a := 4) c7 rfl
  have tc8 := lv_neT (a := 5) c8 rfl
  have tc9 := lv_neT (a := 6) c9 rfl
  refine lv_tableOut (tgt := 64) hx hb dX0_mayBe_1 (by omega) (by decide) ?_
  exact hk1 _ h (lv_sub hl [0, 3] rfl)
theorem bzX0_mayBe (x1 : Int32) (x2 : Int32) (x3 : Int32) (z : GS) : okZ (FX0_mayBe x1 x2 x3 z) := by
  unfold FX0_mayBe
  repeat' split
  all_goals first | exact Or.inl rfl | exact Or.inr rfl | exact bzX0_in .. | exact bzX0_isPlace .. | exact bzX0_mayCare ..
theorem clX0_mayBe {p : Program} {l : Launch} {e : Env} {R : Room} {s : State} {m : MethodId} {args : Array Value} {below : List Frame} {meth : Method} {c : Code} {H : Heap} {locs : List Loc} {cells slots : Nat} {Q : State → Prop} {cc : ByteArray} {pc nL idx fr lo : Nat} {ls : Array Slot} {rest : List Value} {own : String} {D : va_G} {aC : Nat → ClassId} {A : Nat → Prop} {o : Nat} {la : LC} {z : GS} {x1 : Int32} {x2 : Int32} {x3 : Int32} {r : Int32} (hf : CallFix p m c cc nL s args lw_all own) (hK : KC D aC s) (hO : OC D aC A o la z H) (hA : ∀ q : Nat, s.heap.size ≤ q → A q) (hZ : ZX A s s.heap) (hS : va_S A s.heap H locs) (hM : Met l yX0_mayBe (ws_ yX0_mayBe cX0_mayBe 4 (some .boolean)) ({ frames := fr, cells := 0, slots := 0, locals := lo }) (va_Pc [.ref o, .int x1, .int x2, .int x3] (PC D aC A o la z)) (QR (some (.int r))) 0 0 (fun _ => False)) (hq : Cond.methodLink own idx yX0_mayBe ∈ lw_all) (hs : ls.size = nL) (hr : (rest.map fun v => v.category).sum ≤ 8) (hR : fr + 1 ≤ R.frames ∧ 8 + (4 + 11) + lo ≤ R.locals) (hcs : cells + 0 ≤ R.cells ∧ slots + 0 ≤ R.slots) (hd : decode cc pc = .ok (.invokevirtual idx, 3)) (kk : W p l e R s m args below meth c H locs cells slots Q (F0 m (pc + 3) ls (.int r :: rest))) : W p l e R s m args below meth c H locs cells slots Q (F0 m pc ls (.int x3 :: .int x2 :: .int x1 :: .ref o :: rest)) :=
  g_callR (W.runV (As := [.int x1, .int x2, .int x3]) (rest := rest) hf hM (cwV 3 hf.2.2.2.2 (lw_V hq q508 qs6 q90 q509) rfl rfl rfl (by decide +kernel) hR) ⟨PC.blind, OC.recv hK hO, fun U hU hW => ⟨rfl, PC.at hO hK hA hZ hS hU hW⟩⟩ rfl rfl hs rfl (lv_room hr) hd hcs) kk
theorem metX0_valueOf (l : Launch) (D : va_G) (aC : Nat → ClassId) (A : Nat → Prop) (o : Nat) (la : LC) (x1 : Int32) (x2 : Int32) (z : GS) (r : Int32) (h : FX0_valueOf x1 x2 z = some r) : Met l yX0_valueOf (ws_ yX0_valueOf cX0_valueOf 3 (some .int)) ({ frames := 0, cells := 0, slots := 0, locals := 0 }) (va_Pc [.ref o, .int x1, .int x2] (PC D aC A o la z)) (QR (some (.int r))) 0 0 (fun _ => False) := by
  refine g_ofW (cc := cX0_valueOf) (maxL := 3) (ret := (some .int)) (own := RX0) (by decide) rfl rfl [.ref o, .int x1, .int x2] (PC D aC A o la z) (Nat.le_of_ble_eq_true rfl) ?_
  intro p e s m below meth c ls hx hb hr hml hts hown hlocks hnm hPre hl
  obtain ⟨hO, hK, hA, hZ⟩ := hPre
  have hf : CallFix p m c cX0_valueOf 3 s _ lw_all RX0 := ⟨hx, hb, hml, hown, hts⟩
  have hl : lv_has ls 3 [(0, .ref o), (1, .int x1), (2, .int x2)] := hl
  have hS : va_S A s.heap s.heap [] := va_S.rf
  unfold FX0_valueOf at h
  refine lv_iload_n hx hb dX0_valueOf_0 rfl (lv_at hl 2 rfl) ?_
  by_cases c1 : x2 = 0
  · have h := it_t c1 h
    refine lv_tableIn (off := 39) (tgt := 40) hx hb dX0_valueOf_1 (by rw [c1]; decide) (by rw [c1]; decide) (by rw [c1]; rfl) (by decide) ?_
    refine lv_aload_n hx hb dX0_valueOf_40 rfl (lv_at hl 0 rfl) ?_
    refine X0_getA hx hb hts hown hK hO 0 (by decide) (Or.inl rfl) (hts _ q164) dX0_valueOf_41 ?_
    refine lv_iload_n hx hb dX0_valueOf_44 rfl (lv_at hl 1 rfl) ?_
    obtain ⟨g2, h⟩ := grd h
    refine X0_paald hx hb hK hO g2 dX0_valueOf_45 ?_
    refine X0_getP hx hb hts hown hK hO g2 0 (by decide) (hK.nw q322 rfl) dX0_valueOf_46 ?_
    exact g_retR hx hb hr hlocks (Option.some.inj h) dX0_valueOf_49
  have h := it_f c1 h
  by_cases c3 : x2 = 1
  · have h := it_t c3 h
    refine lv_tableIn (off := 49) (tgt := 50) hx hb dX0_valueOf_1 (by rw [c3]; decide) (by rw [c3]; decide) (by rw [c3]; rfl) (by decide) ?_
    refine lv_aload_n hx hb dX0_valueOf_50 rfl (lv_at hl 0 rfl) ?_
    refine X0_getA hx hb hts hown hK hO 0 (by decide) (Or.inl rfl) (hts _ q164) dX0_valueOf_51 ?_
    refine lv_iload_n hx hb dX0_valueOf_54 rfl (lv_at hl 1 rfl) ?_
    obtain ⟨g4, h⟩ := grd h
    refine X0_paald hx hb hK hO g4 dX0_valueOf_55 ?_
    refine X0_getP hx hb hts hown hK hO g4 1 (by decide) (hK.nw q324 rfl) dX0_valueOf_56 ?_
    exact g_retR hx hb hr hlocks (Option.some.inj h) dX0_valueOf_59
  have h := it_f c3 h
  by_cases c5 : x2 = 2
  · have h := it_t c5 h
    refine lv_tableIn (off := 59) (tgt := 60) hx hb dX0_valueOf_1 (by rw [c5]; decide) (by rw [c5]; decide) (by rw [c5]; rfl) (by decide) ?_
    refine lv_aload_n hx hb dX0_valueOf_60 rfl (lv_at hl 0 rfl) ?_
    refine X0_getA hx hb hts hown hK hO 0 (by decide) (Or.inl rfl) (hts _ q164) dX0_valueOf_61 ?_
    refine lv_iload_n hx hb dX0_valueOf_64 rfl (lv_at hl 1 rfl) ?_
    obtain ⟨g6, h⟩ := grd h
    refine X0_paald hx hb hK hO g6 dX0_valueOf_65 ?_
    refine X0_getP hx hb hts hown hK hO g6 2 (by decide) (hK.nw q326 rfl) dX0_valueOf_66 ?_
    exact g_retR hx hb hr hlocks (Option.some.inj h) dX0_valueOf_69
  have h := it_f c5 h
  by_cases c7 : x2 = 3
  · have h := it_t c7 h
    refine lv_tableIn (off := 69) (tgt := 70) hx hb dX0_valueOf_1 (by rw [c7]; decide) (by rw [c7]; decide) (by rw [c7]; rfl) (by decide) ?_
    refine lv_aload_n hx hb dX0_valueOf_70 rfl (lv_at hl 0 rfl) ?_
    refine X0_getA hx hb hts hown hK hO 0 (by decide) (Or.inl rfl) (hts _ q164) dX0_valueOf_71 ?_
    refine lv_iload_n hx hb dX0_valueOf_74 rfl (lv_at hl 1 rfl) ?_
    obtain ⟨g8, h⟩ := grd h
    refine X0_paald hx hb hK hO g8 dX0_valueOf_75 ?_
    refine X0_getP hx hb hts hown hK hO g8 3 (by decide) (hK.nw q328 rfl) dX0_valueOf_76 ?_
    exact g_retR hx hb hr hlocks (Option.some.inj h) dX0_valueOf_79
  have h := it_f c7 h
  by_cases c9 : x2 = 4
  · have h := it_t c9 h
    refine lv_tableIn (off := 79) (tgt := 80) hx hb dX0_valueOf_1 (by rw [c9]; decide) (by rw [c9]; decide) (by rw [c9]; rfl) (by decide) ?_
    refine lv_aload_n hx hb dX0_valueOf_80 rfl (lv_at hl 0 rfl) ?_
    refine X0_getA hx hb hts hown hK hO 0 (by decide) (Or.inl rfl) (hts _ q164) dX0_valueOf_81 ?_
    refine lv_iload_n hx hb dX0_valueOf_84 rfl (lv_at hl 1 rfl) ?_
    obtain ⟨g10, h⟩ := grd h
    refine X0_paald hx hb hK hO g10 dX0_valueOf_85 ?_
    refine X0_getP hx hb hts hown hK hO g10 4 (by decide) (hK.nw q330 rfl) dX0_valueOf_86 ?_
    exact g_retR hx hb hr hlocks (Option.some.inj h) dX0_valueOf_89
  have h := it_f c9 h
  by_cases c11 : x2 = 5
  · have h := it_t c11 h
    refine lv_tableIn (off := 89) (tgt := 90) hx hb dX0_valueOf_1 (by rw [c11]; decide) (by rw [c11]; decide) (by rw [c11]; rfl) (by decide) ?_
    refine lv_aload_n hx hb dX0_valueOf_90 rfl (lv_at hl 0 rfl) ?_
    refine X0_getF hx hb hts hown hK hO 2 (by decide) rfl (hts _ q166) dX0_valueOf_91 ?_
    exact g_retR hx hb hr hlocks (Option.some.inj h) dX0_valueOf_94
  have h := it_f c11 h
  have tc1 := lv_neT (a := 0) c1 rfl
  have tc3 := lv_neT (a := 1) c3 rfl
  have tc5 := lv_neT (a := 2) c5 rfl
  have tc7 := lv_neT (a := 3) c7 rfl
  have tc9 := lv_neT (a := 4) c9 rfl
  have tc11 := lv_neT (a := 5) c11 rfl
  refine lv_tableOut (tgt := 95) hx hb dX0_valueOf_1 (by omega) (by decide) ?_
  refine lv_aload_n hx hb dX0_valueOf_95 rfl (lv_at hl 0 rfl) ?_
  refine X0_getF hx hb hts hown hK hO 3 (by decide) rfl (hts _ q167) dX0_valueOf_96 ?_
  exact g_retR hx hb hr hlocks (Option.some.inj h) dX0_valueOf_99
theorem clX0_valueOf {p : Program} {l : Launch} {e : Env} {R : Room} {s : State} {m : MethodId} {args : Array Value} {below : List Frame} {meth : Method} {c : Code} {H : Heap} {locs : List Loc} {cells slots : Nat} {Q : State → Prop} {cc : ByteArray} {pc nL idx fr lo : Nat} {ls : Array Slot} {rest : List Value} {own : String} {D : va_G} {aC : Nat → ClassId} {A : Nat → Prop} {o : Nat} {la : LC} {z : GS} {x1 : Int32} {x2 : Int32} {r : Int32} (hf : CallFix p m c cc nL s args lw_all own) (hK : KC D aC s) (hO : OC D aC A o la z H) (hA : ∀ q : Nat, s.heap.size ≤ q → A q) (hZ : ZX A s s.heap) (hS : va_S A s.heap H locs) (hM : Met l yX0_valueOf (ws_ yX0_valueOf cX0_valueOf 3 (some .int)) ({ frames := fr, cells := 0, slots := 0, locals := lo }) (va_Pc [.ref o, .int x1, .int x2] (PC D aC A o la z)) (QR (some (.int r))) 0 0 (fun _ => False)) (hq : Cond.methodLink own idx yX0_valueOf ∈ lw_all) (hs : ls.size = nL) (hr : (rest.map fun v => v.category).sum ≤ 8) (hR : fr + 1 ≤ R.frames ∧ 8 + (3 + 11) + lo ≤ R.locals) (hcs : cells + 0 ≤ R.cells ∧ slots + 0 ≤ R.slots) (hd : decode cc pc = .ok (.invokevirtual idx, 3)) (kk : W p l e R s m args below meth c H locs cells slots Q (F0 m (pc + 3) ls (.int r :: rest))) : W p l e R s m args below meth c H locs cells slots Q (F0 m pc ls (.int x2 :: .int x1 :: .ref o :: rest)) :=
  g_callR (W.runV (As := [.int x1, .int x2]) (rest := rest) hf hM (cwV 2 hf.2.2.2.2 (lw_V hq q516 qs8 q90 q517) rfl rfl rfl (by decide +kernel) hR) ⟨PC.blind, OC.recv hK hO, fun U hU hW => ⟨rfl, PC.at hO hK hA hZ hS hU hW⟩⟩ rfl rfl hs rfl (lv_room hr) hd hcs) kk
theorem metX0_of (l : Launch) (D : va_G) (aC : Nat → ClassId) (A : Nat → Prop) (o : Nat) (la : LC) (x1 : Int32) (x2 : Int32) (z : GS) (r : Int32) (h : FX0_of x1 x2 z = some r) : Met l yX0_of (ws_ yX0_of cX0_of 3 (some .int)) ({ frames := 3, cells := 0, slots := 0, locals := 65 }) (va_Pc [.ref o, .int x1, .int x2] (PC D aC A o la z)) (QR (some (.int r))) 0 0 (fun _ => False) := by
  refine g_ofW (cc := cX0_of) (maxL := 3) (ret := (some .int)) (own := RX0) (by decide) rfl rfl [.ref o, .int x1, .int x2] (PC D aC A o la z) (Nat.le_of_ble_eq_true rfl) ?_
  intro p e s m below meth c ls hx hb hr hml hts hown hlocks hnm hPre hl
  obtain ⟨hO, hK, hA, hZ⟩ := hPre
  have hf : CallFix p m c cX0_of 3 s _ lw_all RX0 := ⟨hx, hb, hml, hown, hts⟩
  have hl : lv_has ls 3 [(0, .ref o), (1, .int x1), (2, .int x2)] := hl
  have hS : va_S A s.heap s.heap [] := va_S.rf
  unfold FX0_of at h
  refine lv_aload_n hx hb dX0_of_0 rfl (lv_at hl 0 rfl) ?_
  refine lv_iload_n hx hb dX0_of_1 rfl (lv_at hl 1 rfl) ?_
  refine lv_iload_n hx hb dX0_of_2 rfl (lv_at hl 2 rfl) ?_
  refine clX0_isOf hf hK hO hA hZ hS (metX0_isOf l D aC A o la x1 x2 z _ rfl) q498 hl.1 (Nat.le_of_ble_eq_true rfl) ⟨Nat.le_of_ble_eq_true rfl, Nat.le_of_ble_eq_true rfl⟩ ⟨Nat.le_of_ble_eq_true rfl, Nat.le_of_ble_eq_true rfl⟩ dX0_of_3 ?_
  refine lv_if_eq (tgt := 18) hx hb dX0_of_6 (by decide) (fun c1 => ?_) (fun c1 => ?_)
  · have h := it_t c1 h
    refine lv_ldc (v := (-2000000000)) hx hb hown (hts _ q544) dX0_of_18 ?_
    exact g_retR hx hb hr hlocks (Option.some.inj h) dX0_of_20
  · have h := it_f c1 h
    refine lv_aload_n hx hb dX0_of_9 rfl (lv_at hl 0 rfl) ?_
    refine lv_iload_n hx hb dX0_of_10 rfl (lv_at hl 1 rfl) ?_
    refine lv_iload_n hx hb dX0_of_11 rfl (lv_at hl 2 rfl) ?_
    obtain ⟨r2, e3, h⟩ := bn1_e h
    refine clX0_valueOf hf hK hO hA hZ hS (metX0_valueOf l D aC A o la x1 x2 z r2 e3) q514 hl.1 (Nat.le_of_ble_eq_true rfl) ⟨Nat.le_of_ble_eq_true rfl, Nat.le_of_ble_eq_true rfl⟩ ⟨Nat.le_of_ble_eq_true rfl, Nat.le_of_ble_eq_true rfl⟩ dX0_of_12 ?_
    refine lv_goto (tgt := 20) hx hb dX0_of_15 (by decide) ?_
    exact g_retR hx hb hr hlocks (Option.some.inj h) dX0_of_20
theorem clX0_of {p : Program} {l : Launch} {e : Env} {R : Room} {s : State} {m : MethodId} {args : Array Value} {below : List Frame} {meth : Method} {c : Code} {H : Heap} {locs : List Loc} {cells slots : Nat} {Q : State → Prop} {cc : ByteArray} {pc nL idx fr lo : Nat} {ls : Array Slot} {rest : List Value} {own : String} {D : va_G} {aC : Nat → ClassId} {A : Nat → Prop} {o : Nat} {la : LC} {z : GS} {x1 : Int32} {x2 : Int32} {r : Int32} (hf : CallFix p m c cc nL s args lw_all own) (hK : KC D aC s) (hO : OC D aC A o la z H) (hA : ∀ q : Nat, s.heap.size ≤ q → A q) (hZ : ZX A s s.heap) (hS : va_S A s.heap H locs) (hM : Met l yX0_of (ws_ yX0_of cX0_of 3 (some .int)) ({ frames := fr, cells := 0, slots := 0, locals := lo }) (va_Pc [.ref o, .int x1, .int x2] (PC D aC A o la z)) (QR (some (.int r))) 0 0 (fun _ => False)) (hq : Cond.methodLink own idx yX0_of ∈ lw_all) (hs : ls.size = nL) (hr : (rest.map fun v => v.category).sum ≤ 8) (hR : fr + 1 ≤ R.frames ∧ 8 + (3 + 11) + lo ≤ R.locals) (hcs : cells + 0 ≤ R.cells ∧ slots + 0 ≤ R.slots) (hd : decode cc pc = .ok (.invokevirtual idx, 3)) (kk : W p l e R s m args below meth c H locs cells slots Q (F0 m (pc + 3) ls (.int r :: rest))) : W p l e R s m args below meth c H locs cells slots Q (F0 m pc ls (.int x2 :: .int x1 :: .ref o :: rest)) :=
  g_callR (W.runV (As := [.int x1, .int x2]) (rest := rest) hf hM (cwV 2 hf.2.2.2.2 (lw_V hq q546 q547 q90 q548) rfl rfl rfl (by decide +kernel) hR) ⟨PC.blind, OC.recv hK hO, fun U hU hW => ⟨rfl, PC.at hO hK hA hZ hS hU hW⟩⟩ rfl rfl hs rfl (lv_room hr) hd hcs) kk
theorem metX0_feed (l : Launch) (D : va_G) (aC : Nat → ClassId) (A : Nat → Prop) (o : Nat) (la : LC) (x1 : Int32) (z : GS) (r : Int32) (zq : GS) (h : FX0_feed x1 z = some (r, zq)) : Met l yX0_feed (ws_ yX0_feed cX0_feed 2 (some .int)) ({ frames := 1, cells := 0, slots := 0, locals := 22 }) (va_Pc [.ref o, .int x1] (PC D aC A o la z)) (QG (some (.int r)) (OC D aC A o la zq) A) 0 0 A := by
  refine g_ofW (cc := cX0_feed) (maxL := 2) (ret := (some .int)) (own := RX0) (by decide) rfl rfl [.ref o, .int x1] (PC D aC A o la z) (Nat.le_of_ble_eq_true rfl) ?_
  intro p e s m below meth c ls hx hb hr hml hts hown hlocks hnm hPre hl
  obtain ⟨hO, hK, hA, hZ⟩ := hPre
  have hf : CallFix p m c cX0_feed 2 s _ lw_all RX0 := ⟨hx, hb, hml, hown, hts⟩
  have hl : lv_has ls 2 [(0, .ref o), (1, .int x1)] := hl
  refine g_open (A := A) (OC D aC A o la z) hO (fun H locs hO hS => ?_)
  unfold FX0_feed at h
  refine lv_iload_n hx hb dX0_feed_0 rfl (lv_at hl 1 rfl) ?_
  refine lv_iconst (v := 0) hx hb dX0_feed_1 (by decide) ?_
  refine lv_sipush (v := 255) hx hb dX0_feed_2 (by decide) ?_
  refine clX0_in hf (metX0_in l x1 0 255 _ rfl) q309 hl.1 (Nat.le_of_ble_eq_true rfl) ⟨Nat.le_of_ble_eq_true rfl, Nat.le_of_ble_eq_true rfl⟩ ⟨Nat.le_of_ble_eq_true rfl, Nat.le_of_ble_eq_true rfl⟩ dX0_feed_5 ?_
  refine lv_if_ne (tgt := 13) hx hb dX0_feed_8 (by decide) (fun c1 => ?_) (fun c1 => ?_)
  · have h := it_f c1 h
    refine lv_aload_n hx hb dX0_feed_13 rfl (lv_at hl 0 rfl) ?_
    refine X0_getF hx hb hts hown hK hO 8 (by decide) rfl (hts _ q174) dX0_feed_14 ?_
    refine lv_bipush (v := 120) hx hb dX0_feed_17 (by decide) ?_
    refine lv_icmp_ne (tgt := 25) hx hb dX0_feed_19 (by decide) (fun c2 => ?_) (fun c2 => ?_)
    · have h := it_f c2 h
      refine lv_aload_n hx hb dX0_feed_25 rfl (lv_at hl 0 rfl) ?_
      refine X0_getA hx hb hts hown hK hO 7 (by decide) (Or.inl rfl) (hts _ q171) dX0_feed_26 ?_
      refine lv_aload_n hx hb dX0_feed_29 rfl (lv_at hl 0 rfl) ?_
      refine X0_getF hx hb hts hown hK hO 8 (by decide) rfl (hts _ q174) dX0_feed_30 ?_
      refine lv_iload_n hx hb dX0_feed_33 rfl (lv_at hl 1 rfl) ?_
      refine lv_i2b (v := (x1.toInt8.toInt32)) hx hb dX0_feed_34 rfl ?_
      obtain ⟨g3, h⟩ := grd h
      refine X0_bastore hx hb hK hO hS 7 (by decide) rfl rfl g3 dX0_feed_35 (fun H locs z4 ez4 hO hS => ?_)
      have h := pin_to ez4 h
      refine lv_aload_n hx hb dX0_feed_36 rfl (lv_at hl 0 rfl) ?_
      refine lv_dup hx hb dX0_feed_37 rfl ?_
      refine X0_getF hx hb hts hown hK hO 8 (by decide) rfl (hts _ q174) dX0_feed_38 ?_
      refine lv_iconst (v := 1) hx hb dX0_feed_41 (by decide) ?_
      refine lv_iadd hx hb dX0_feed_42 ?_
      refine X0_putF hx hb hts hown hK hO hS 8 (by decide) rfl (by decide) (by decide) (hts _ q174) rfl (ty := .int) rfl rfl rfl dX0_feed_43 (fun H locs z5 ez5 hO hS => ?_)
      have h := pin_to ez5 h
      refine lv_aload_n hx hb dX0_feed_46 rfl (lv_at hl 0 rfl) ?_
      refine X0_getF hx hb hts hown hK hO 8 (by decide) rfl (hts _ q174) dX0_feed_47 ?_
      obtain ⟨e8, rfl⟩ := Prod.mk.inj (Option.some.inj h)
      exact g_retG hx hb hr hlocks e8 hO hS dX0_feed_50
    · have h := it_t c2 h
      refine lv_bipush (v := (-3)) hx hb dX0_feed_22 (by decide) ?_
      obtain ⟨e8, rfl⟩ := Prod.mk.inj (Option.some.inj h)
      exact g_retG hx hb hr hlocks e8 hO hS dX0_feed_24
  · have h := it_t c1 h
    refine lv_iconst (v := (-1)) hx hb dX0_feed_11 (by decide) ?_
    obtain ⟨e8, rfl⟩ := Prod.mk.inj (Option.some.inj h)
    exact g_retG hx hb hr hlocks e8 hO hS dX0_feed_12
theorem clX0_feed {p : Program} {l : Launch} {e : Env} {R : Room} {s : State} {m : MethodId} {args : Array Value} {below : List Frame} {meth : Method} {c : Code} {H : Heap} {locs : List Loc} {cells slots : Nat} {Q : State → Prop} {cc : ByteArray} {pc nL idx fr lo : Nat} {ls : Array Slot} {rest : List Value} {own : String} {D : va_G} {aC : Nat → ClassId} {A : Nat → Prop} {o : Nat} {la : LC} {z : GS} {zq : GS} {x1 : Int32} {r : Int32} (hf : CallFix p m c cc nL s args lw_all own) (hK : KC D aC s) (hO : OC D aC A o la z H) (hA : ∀ q : Nat, s.heap.size ≤ q → A q) (hZ : ZX A s s.heap) (hS : va_S A s.heap H locs) (hM : Met l yX0_feed (ws_ yX0_feed cX0_feed 2 (some .int)) ({ frames := fr, cells := 0, slots := 0, locals := lo }) (va_Pc [.ref o, .int x1] (PC D aC A o la z)) (QG (some (.int r)) (OC D aC A o la zq) A) 0 0 A) (hq : Cond.methodLink own idx yX0_feed ∈ lw_all) (hs : ls.size = nL) (hr : (rest.map fun v => v.category).sum ≤ 8) (hR : fr + 1 ≤ R.frames ∧ 8 + (2 + 11) + lo ≤ R.locals) (hcs : cells + 0 ≤ R.cells ∧ slots + 0 ≤ R.slots) (hd : decode cc pc = .ok (.invokevirtual idx, 3)) (kk : ∀ (H1 : Heap) (locs1 : List Loc), OC D aC A o la zq H1 → va_S A s.heap H1 locs1 → W p l e R s m args below meth c H1 locs1 cells slots Q (F0 m (pc + 3) ls (.int r :: rest))) : W p l e R s m args below meth c H locs cells slots Q (F0 m pc ls (.int x1 :: .ref o :: rest)) :=
  g_callG (W.runV (As := [.int x1]) (rest := rest) hf hM (cwV 1 hf.2.2.2.2 (lw_V hq q550 q551 q90 q552) rfl rfl rfl (by decide +kernel) hR) ⟨PC.blind, OC.recv hK hO, fun U hU hW => ⟨rfl, PC.at hO hK hA hZ hS hU hW⟩⟩ rfl rfl hs rfl (lv_room hr) hd hcs) hS (fun H1 locs1 hP hS _ _ => kk H1 locs1 hP hS)
theorem metX0_layNow (l : Launch) (D : va_G) (aC : Nat → ClassId) (A : Nat → Prop) (o : Nat) (la : LC)  (z : GS)  (zq : GS) (h : FX0_layNow z = some zq) : Met l yX0_layNow (ws_ yX0_layNow cX0_layNow 2 none) ({ frames := 0, cells := 0, slots := 0, locals := 0 }) (va_Pc [.ref o] (PC D aC A o la z)) (QG none (OC D aC A o la zq) A) 0 0 A := by
  refine g_ofW (cc := cX0_layNow) (maxL := 2) (ret := none) (own := RX0) (by decide) rfl rfl [.ref o] (PC D aC A o la z) (Nat.le_of_ble_eq_true rfl) ?_
  intro p e s m below meth c ls hx hb hr hml hts hown hlocks hnm hPre hl
  obtain ⟨hO, hK, hA, hZ⟩ := hPre
  have hf : CallFix p m c cX0_layNow 2 s _ lw_all RX0 := ⟨hx, hb, hml, hown, hts⟩
  have hl : lv_has ls 2 [(0, .ref o)] := hl
  refine g_open (A := A) (OC D aC A o la z) hO (fun H locs hO hS => ?_)
  unfold FX0_layNow at h
  refine lv_iconst (v := 0) hx hb dX0_layNow_0 (by decide) ?_
  refine lv_istore_n (lv' := [(1, .int 0), (0, .ref o)]) hx hb dX0_layNow_1 rfl hl (by decide) rfl (fun ls hl => ?_)
  obtain ⟨k1, e15, h⟩ := pin_nm h
  have hk1 : ∀  (z2 : GS) (H : Heap) (locs : List Loc) (ls : Array Slot), k1  z2 = some zq → OC D aC A o la z2 H → va_S A s.heap H locs → lv_has ls 2 [(0, .ref o)] → W p l e ({ frames := 0, cells := 0, slots := 0, locals := 0 }) s m ([.ref o] : List Value).toArray below meth c H locs 0 0 (MQ below (QG none (OC D aC A o la zq) A) ([.ref o] : List Value).toArray s 0 0 A) (F0 m 46 ls []) := by
    intro  z2 H locs ls h hO hS hl
    rw [e15] at h
    refine lv_aload_n hx hb dX0_layNow_46 rfl (lv_at hl 0 rfl) ?_
    refine lv_aload_n hx hb dX0_layNow_47 rfl (lv_at hl 0 rfl) ?_
    refine X0_getF hx hb hts hown hK hO 3 (by decide) rfl (hts _ q167) dX0_layNow_48 ?_
    refine X0_putF hx hb hts hown hK hO hS 15 (by decide) rfl (by decide) (by decide) (hts _ q181) rfl (ty := .int) rfl rfl rfl dX0_layNow_51 (fun H locs z3 ez3 hO hS => ?_)
    have h := pin_to ez3 h
    refine lv_aload_n hx hb dX0_layNow_54 rfl (lv_at hl 0 rfl) ?_
    refine lv_iconst (v := 1) hx hb dX0_layNow_55 (by decide) ?_
    refine lv_aload_n hx hb dX0_layNow_56 rfl (lv_at hl 0 rfl) ?_
    refine X0_getF hx hb hts hown hK hO 1 (by decide) rfl (hts _ q165) dX0_layNow_57 ?_
    refine g_ishl hx hb dX0_layNow_60 ?_
    refine lv_iconst (v := 1) hx hb dX0_layNow_61 (by decide) ?_
    refine lv_isub hx hb dX0_layNow_62 ?_
    refine X0_putF hx hb hts hown hK hO hS 16 (by decide) rfl (by decide) (by decide) (hts _ q182) rfl (ty := .int) rfl rfl rfl dX0_layNow_63 (fun H locs z4 ez4 hO hS => ?_)
    have h := pin_to ez4 h
    refine lv_aload_n hx hb dX0_layNow_66 rfl (lv_at hl 0 rfl) ?_
    refine lv_iconst (v := 0) hx hb dX0_layNow_67 (by decide) ?_
    refine X0_putF hx hb hts hown hK hO hS 17 (by decide) rfl (by decide) (by decide) (hts _ q183) rfl (ty := .int) rfl rfl rfl dX0_layNow_68 (fun H locs z5 ez5 hO hS => ?_)
    have h := pin_to ez5 h
    cases Option.some.inj h
    exact g_retGv hx hb hr hlocks hO hS dX0_layNow_71
  have key14 : ∀ (f : Nat) (v1 : Int32) (z : GS) (H : Heap) (locs : List Loc) (ls : Array Slot), FX0_layNow_L2 k1 f v1 z = some zq → OC D aC A o la z H → va_S A s.heap H locs → lv_has ls 2 [(0, .ref o), (1, .int v1)] → W p l e ({ frames := 0, cells := 0, slots := 0, locals := 0 }) s m ([.ref o] : List Value).toArray below meth c H locs 0 0 (MQ below (QG none (OC D aC A o la zq) A) ([.ref o] : List Value).toArray s 0 0 A) (F0 m 2 ls []) := by
    intro f
    induction f with
    | zero =>
      intro v1 z H locs ls h
      rw [FX0_layNow_L2] at h
      cases h
    | succ f ih6 =>
      intro v1 z H locs ls h hO hS hl
      rw [FX0_layNow_L2] at h
      refine lv_iload_n hx hb dX0_layNow_2 rfl (lv_at hl 1 rfl) ?_
      refine lv_aload_n hx hb dX0_layNow_3 rfl (lv_at hl 0 rfl) ?_
      refine X0_getF hx hb hts hown hK hO 1 (by decide) rfl (hts _ q165) dX0_layNow_4 ?_
      refine lv_icmp_ge (tgt := 46) hx hb dX0_layNow_7 (by decide) (fun c7 => ?_) (fun c7 => ?_)
      · have h := it_t c7 h
        exact hk1 _ _ _ _ h hO hS (lv_sub hl [0] rfl)
      · have h := it_f c7 h
        refine lv_aload_n hx hb dX0_layNow_10 rfl (lv_at hl 0 rfl) ?_
        refine X0_getA hx hb hts hown hK hO 11 (by decide) (Or.inl rfl) (hts _ q177) dX0_layNow_11 ?_
        refine lv_iload_n hx hb dX0_layNow_14 rfl (lv_at hl 1 rfl) ?_
        refine lv_aload_n hx hb dX0_layNow_15 rfl (lv_at hl 0 rfl) ?_
        refine X0_getA hx hb hts hown hK hO 0 (by decide) (Or.inl rfl) (hts _ q164) dX0_layNow_16 ?_
        refine lv_iload_n hx hb dX0_layNow_19 rfl (lv_at hl 1 rfl) ?_
        obtain ⟨g8, h⟩ := grd h
        refine X0_paald hx hb hK hO g8 dX0_layNow_20 ?_
        refine X0_getP hx hb hts hown hK hO g8 3 (by decide) (hK.nw q328 rfl) dX0_layNow_21 ?_
        obtain ⟨g9, h⟩ := grd h
        refine X0_iastore hx hb hK hO hS 11 (by decide) rfl rfl g9 dX0_layNow_24 (fun H locs z10 ez10 hO hS => ?_)
        have h := pin_to ez10 h
        refine lv_aload_n hx hb dX0_layNow_25 rfl (lv_at hl 0 rfl) ?_
        refine X0_getA hx hb hts hown hK hO 12 (by decide) (Or.inl rfl) (hts _ q178) dX0_layNow_26 ?_
        refine lv_iload_n hx hb dX0_layNow_29 rfl (lv_at hl 1 rfl) ?_
        refine lv_aload_n hx hb dX0_layNow_30 rfl (lv_at hl 0 rfl) ?_
        refine X0_getA hx hb hts hown hK hO 0 (by decide) (Or.inl rfl) (hts _ q164) dX0_layNow_31 ?_
        refine lv_iload_n hx hb dX0_layNow_34 rfl (lv_at hl 1 rfl) ?_
        obtain ⟨g11, h⟩ := grd h
        refine X0_paald hx hb hK hO g11 dX0_layNow_35 ?_
        refine X0_getP hx hb hts hown hK hO g11 4 (by decide) (hK.nw q330 rfl) dX0_layNow_36 ?_
        obtain ⟨g12, h⟩ := grd h
        refine X0_iastore hx hb hK hO hS 12 (by decide) rfl rfl g12 dX0_layNow_39 (fun H locs z13 ez13 hO hS => ?_)
        have h := pin_to ez13 h
        refine lv_iinc (v := (v1 + 1)) (lv' := [(1, .int (v1 + 1)), (0, .ref o)]) hx hb dX0_layNow_40 hl (k := 1) rfl rfl (by decide) rfl (fun ls hl => ?_)
        refine lv_goto (tgt := 2) hx hb dX0_layNow_43 (by decide) ?_
        exact ih6 _ _ _ _ _ h hO hS (lv_sub hl [1, 0] rfl)
  exact key14 FU _ _ _ _ _ h hO hS (lv_sub hl [1, 0] rfl)
theorem clX0_layNow {p : Program} {l : Launch} {e : Env} {R : Room} {s : State} {m : MethodId} {args : Array Value} {below : List Frame} {meth : Method} {c : Code} {H : Heap} {locs : List Loc} {cells slots : Nat} {Q : State → Prop} {cc : ByteArray} {pc nL idx fr lo : Nat} {ls : Array Slot} {rest : List Value} {own : String} {D : va_G} {aC : Nat → ClassId} {A : Nat → Prop} {o : Nat} {la : LC} {z : GS} {zq : GS}   (hf : CallFix p m c cc nL s args lw_all own) (hK : KC D aC s) (hO : OC D aC A o la z H) (hA : ∀ q : Nat, s.heap.size ≤ q → A q) (hZ : ZX A s s.heap) (hS : va_S A s.heap H locs) (hM : Met l yX0_layNow (ws_ yX0_layNow cX0_layNow 2 none) ({ frames := fr, cells := 0, slots := 0, locals := lo }) (va_Pc [.ref o] (PC D aC A o la z)) (QG none (OC D aC A o la zq) A) 0 0 A) (hq : Cond.methodLink own idx yX0_layNow ∈ lw_all) (hs : ls.size = nL) (hr : (rest.map fun v => v.category).sum ≤ 8) (hR : fr + 1 ≤ R.frames ∧ 8 + (2 + 11) + lo ≤ R.locals) (hcs : cells + 0 ≤ R.cells ∧ slots + 0 ≤ R.slots) (hd : decode cc pc = .ok (.invokevirtual idx, 3)) (kk : ∀ (H1 : Heap) (locs1 : List Loc), OC D aC A o la zq H1 → va_S A s.heap H1 locs1 → W p l e R s m args below meth c H1 locs1 cells slots Q (F0 m (pc + 3) ls (rest))) : W p l e R s m args below meth c H locs cells slots Q (F0 m pc ls (.ref o :: rest)) :=
  g_callG (W.runV (As := []) (rest := rest) hf hM (cwV 0 hf.2.2.2.2 (lw_V hq q804 qs22 q90 q805) rfl rfl rfl (by decide +kernel) hR) ⟨PC.blind, OC.recv hK hO, fun U hU hW => ⟨rfl, PC.at hO hK hA hZ hS hU hW⟩⟩ rfl rfl hs rfl (lv_room hr) hd hcs) hS (fun H1 locs1 hP hS _ _ => kk H1 locs1 hP hS)
theorem metX0_has (l : Launch) (x1 : Int32) (x2 : Int32)  (r : Int32) (h : FX0_has x1 x2 = r) : Met l yX0_has (ws_ yX0_has cX0_has 2 (some .boolean)) ({ frames := 0, cells := 0, slots := 0, locals := 0 }) (va_Pc [.int x1, .int x2] (fun _ => True)) (QR (some (.int r))) 0 0 (fun _ => False) := by
  refine g_ofW (cc := cX0_has) (maxL := 2) (ret := (some .boolean)) (own := RX0) (by decide) rfl rfl [.int x1, .int x2] (fun _ => True) (Nat.le_of_ble_eq_true rfl) ?_
  intro p e s m below meth c ls hx hb hr hml hts hown hlocks hnm hPre hl
  have hf : CallFix p m c cX0_has 2 s _ lw_all RX0 := ⟨hx, hb, hml, hown, hts⟩
  have hl : lv_has ls 2 [(0, .int x1), (1, .int x2)] := hl
  unfold FX0_has at h
  refine lv_iload_n hx hb dX0_has_0 rfl (lv_at hl 0 rfl) ?_
  refine lv_iload_n hx hb dX0_has_1 rfl (lv_at hl 1 rfl) ?_
  refine g_ishr hx hb dX0_has_2 ?_
  refine lv_iconst (v := 1) hx hb dX0_has_3 (by decide) ?_
  refine lv_iand hx hb dX0_has_4 ?_
  refine lv_iconst (v := 1) hx hb dX0_has_5 (by decide) ?_
  refine lv_icmp_ne (tgt := 13) hx hb dX0_has_6 (by decide) (fun c1 => ?_) (fun c1 => ?_)
  · have h := it_f c1 h
    refine lv_iconst (v := 0) hx hb dX0_has_13 (by decide) ?_
    exact g_retRz hx hb hr hlocks (Or.inl rfl) h dX0_has_14
  · have h := it_t c1 h
    refine lv_iconst (v := 1) hx hb dX0_has_9 (by decide) ?_
    refine lv_goto (tgt := 14) hx hb dX0_has_10 (by decide) ?_
    exact g_retRz hx hb hr hlocks (Or.inr rfl) h dX0_has_14
theorem bzX0_has (x1 : Int32) (x2 : Int32)  : okZ (FX0_has x1 x2) := by
  unfold FX0_has
  repeat' split
  all_goals first | exact Or.inl rfl | exact Or.inr rfl
theorem clX0_has {p : Program} {l : Launch} {e : Env} {R : Room} {s : State} {m : MethodId} {args : Array Value} {below : List Frame} {meth : Method} {c : Code} {H : Heap} {locs : List Loc} {cells slots : Nat} {Q : State → Prop} {cc : ByteArray} {pc nL idx fr lo : Nat} {ls : Array Slot} {rest : List Value} {own : String}  {x1 : Int32} {x2 : Int32} {r : Int32} (hf : CallFix p m c cc nL s args lw_all own) (hM : Met l yX0_has (ws_ yX0_has cX0_has 2 (some .boolean)) ({ frames := fr, cells := 0, slots := 0, locals := lo }) (va_Pc [.int x1, .int x2] (fun _ => True)) (QR (some (.int r))) 0 0 (fun _ => False)) (hq : Cond.methodLink own idx yX0_has ∈ lw_all) (hs : ls.size = nL) (hr : (rest.map fun v => v.category).sum ≤ 8) (hR : fr + 1 ≤ R.frames ∧ 8 + (2 + 11) + lo ≤ R.locals) (hcs : cells + 0 ≤ R.cells ∧ slots + 0 ≤ R.slots) (hd : decode cc pc = .ok (.invokestatic idx, 3)) (kk : W p l e R s m args below meth c H locs cells slots Q (F0 m (pc + 3) ls (.int r :: rest))) : W p l e R s m args below meth c H locs cells slots Q (F0 m pc ls (.int x2 :: .int x1 :: rest)) :=
  g_callR (W.runS (As := [.int x1, .int x2]) (rest := rest) hf hM (va_cwS 2 hf.2.2.2.2 (lw_S hq q811 q90 q812) rfl rfl rfl (by decide +kernel) hR) ⟨fun a U g mk q => q, fun U hU hW => ⟨rfl, trivial⟩⟩ rfl rfl hs rfl (lv_room hr) hd hcs) kk
theorem metX0_countCarers (l : Launch) (D : va_G) (aC : Nat → ClassId) (A : Nat → Prop) (o : Nat) (la : LC)  (z : GS)  (zq : GS) (h : FX0_countCarers z = some zq) : Met l yX0_countCarers (ws_ yX0_countCarers cX0_countCarers 2 none) ({ frames := 1, cells := 0, slots := 0, locals := 21 }) (va_Pc [.ref o] (PC D aC A o la z)) (QG none (OC D aC A o la zq) A) 0 0 A := by
  refine g_ofW (cc := cX0_countCarers) (maxL := 2) (ret := none) (own := RX0) (by decide) rfl rfl [.ref o] (PC D aC A o la z) (Nat.le_of_ble_eq_true rfl) ?_
  intro p e s m below meth c ls hx hb hr hml hts hown hlocks hnm hPre hl
  obtain ⟨hO, hK, hA, hZ⟩ := hPre
  have hf : CallFix p m c cX0_countCarers 2 s _ lw_all RX0 := ⟨hx, hb, hml, hown, hts⟩
  have hl : lv_has ls 2 [(0, .ref o)] := hl
  refine g_open (A := A) (OC D aC A o la z) hO (fun H locs hO hS => ?_)
  unfold FX0_countCarers at h
  refine lv_iconst (v := 0) hx hb dX0_countCarers_0 (by decide) ?_
  refine lv_istore_n (lv' := [(1, .int 0), (0, .ref o)]) hx hb dX0_countCarers_1 rfl hl (by decide) rfl (fun ls hl => ?_)
  obtain ⟨k1, e21, h⟩ := pin_nm h
  have hk1 : ∀  (z2 : GS) (H : Heap) (locs : List Loc) (ls : Array Slot), k1  z2 = some zq → OC D aC A o la z2 H → va_S A s.heap H locs → lv_has ls 2 [(0, .ref o)] → W p l e ({ frames := 1, cells := 0, slots := 0, locals := 21 }) s m ([.ref o] : List Value).toArray below meth c H locs 0 0 (MQ below (QG none (OC D aC A o la zq) A) ([.ref o] : List Value).toArray s 0 0 A) (F0 m 23 ls []) := by
    intro  z2 H locs ls h hO hS hl
    rw [e21] at h
    refine lv_iconst (v := 0) hx hb dX0_countCarers_23 (by decide) ?_
    refine lv_istore_n (lv' := [(1, .int 0), (0, .ref o)]) hx hb dX0_countCarers_24 rfl hl (by decide) rfl (fun ls hl => ?_)
    have key15 : ∀ (f : Nat) (v1 : Int32) (z : GS) (H : Heap) (locs : List Loc) (ls : Array Slot), FX0_countCarers_L25 f v1 z = some zq → OC D aC A o la z H → va_S A s.heap H locs → lv_has ls 2 [(0, .ref o), (1, .int v1)] → W p l e ({ frames := 1, cells := 0, slots := 0, locals := 21 }) s m ([.ref o] : List Value).toArray below meth c H locs 0 0 (MQ below (QG none (OC D aC A o la zq) A) ([.ref o] : List Value).toArray s 0 0 A) (F0 m 25 ls []) := by
      intro f
      induction f with
      | zero =>
        intro v1 z H locs ls h
        rw [FX0_countCarers_L25] at h
        cases h
      | succ f ih3 =>
        intro v1 z H locs ls h hO hS hl
        rw [FX0_countCarers_L25] at h
        refine lv_iload_n hx hb dX0_countCarers_25 rfl (lv_at hl 1 rfl) ?_
        refine lv_aload_n hx hb dX0_countCarers_26 rfl (lv_at hl 0 rfl) ?_
        refine X0_getF hx hb hts hown hK hO 1 (by decide) rfl (hts _ q165) dX0_countCarers_27 ?_
        refine lv_icmp_ge (tgt := 74) hx hb dX0_countCarers_30 (by decide) (fun c4 => ?_) (fun c4 => ?_)
        · have h := it_t c4 h
          cases Option.some.inj h
          exact g_retGv hx hb hr hlocks hO hS dX0_countCarers_74
        · have h := it_f c4 h
          refine lv_aload_n hx hb dX0_countCarers_33 rfl (lv_at hl 0 rfl) ?_
          refine X0_getF hx hb hts hown hK hO 16 (by decide) rfl (hts _ q182) dX0_countCarers_34 ?_
          refine lv_iload_n hx hb dX0_countCarers_37 rfl (lv_at hl 1 rfl) ?_
          refine clX0_has hf (metX0_has l (gF z 16) v1 _ rfl) q810 hl.1 (Nat.le_of_ble_eq_true rfl) ⟨Nat.le_of_ble_eq_true rfl, Nat.le_of_ble_eq_true rfl⟩ ⟨Nat.le_of_ble_eq_true rfl, Nat.le_of_ble_eq_true rfl⟩ dX0_countCarers_38 ?_
          obtain ⟨k5, e14, h⟩ := pin_nm h
          have hk5 : ∀  (z6 : GS) (H : Heap) (locs : List Loc) (ls : Array Slot), k5  z6 = some zq → OC D aC A o la z6 H → va_S A s.heap H locs → lv_has ls 2 [(0, .ref o), (1, .int v1)] → W p l e ({ frames := 1, cells := 0, slots := 0, locals := 21 }) s m ([.ref o] : List Value).toArray below meth c H locs 0 0 (MQ below (QG none (OC D aC A o la zq) A) ([.ref o] : List Value).toArray s 0 0 A) (F0 m 68 ls []) := by
            intro  z6 H locs ls h hO hS hl
            rw [e14] at h
            refine lv_iinc (v := (v1 + 1)) (lv' := [(1, .int (v1 + 1)), (0, .ref o)]) hx hb dX0_countCarers_68 hl (k := 1) rfl rfl (by decide) rfl (fun ls hl => ?_)
            refine lv_goto (tgt := 25) hx hb dX0_countCarers_71 (by decide) ?_
            exact ih3 _ _ _ _ _ h hO hS (lv_sub hl [1, 0] rfl)
          refine lv_if_eq (tgt := 68) hx hb dX0_countCarers_41 (by decide) (fun c7 => ?_) (fun c7 => ?_)
          · have h := it_t c7 h
            exact hk5 _ _ _ _ h hO hS (lv_sub hl [0, 1] rfl)
          · have h := it_f c7 h
            refine lv_aload_n hx hb dX0_countCarers_44 rfl (lv_at hl 0 rfl) ?_
            refine X0_getA hx hb hts hown hK hO 12 (by decide) (Or.inl rfl) (hts _ q178) dX0_countCarers_45 ?_
            refine lv_iload_n hx hb dX0_countCarers_48 rfl (lv_at hl 1 rfl) ?_
            obtain ⟨g8, h⟩ := grd h
            refine X0_iaload hx hb hK hO 12 (by decide) rfl rfl g8 dX0_countCarers_49 ?_
            refine lv_if_lt (tgt := 68) hx hb dX0_countCarers_50 (by decide) (fun c9 => ?_) (fun c9 => ?_)
            · have h := it_t c9 h
              exact hk5 _ _ _ _ h hO hS (lv_sub hl [0, 1] rfl)
            · have h := it_f c9 h
              refine lv_aload_n hx hb dX0_countCarers_53 rfl (lv_at hl 0 rfl) ?_
              refine X0_getA hx hb hts hown hK hO 14 (by decide) (Or.inl rfl) (hts _ q180) dX0_countCarers_54 ?_
              refine lv_aload_n hx hb dX0_countCarers_57 rfl (lv_at hl 0 rfl) ?_
              refine X0_getA hx hb hts hown hK hO 12 (by decide) (Or.inl rfl) (hts _ q178) dX0_countCarers_58 ?_
              refine lv_iload_n hx hb dX0_countCarers_61 rfl (lv_at hl 1 rfl) ?_
              obtain ⟨g10, h⟩ := grd h
              refine X0_iaload hx hb hK hO 12 (by decide) rfl rfl g10 dX0_countCarers_62 ?_
              refine lv_dup2_11 hx hb dX0_countCarers_63 rfl rfl ?_
              obtain ⟨g11, h⟩ := grd h
              refine X0_iaload hx hb hK hO 14 (by decide) rfl rfl g11 dX0_countCarers_64 ?_
              refine lv_iconst (v := 1) hx hb dX0_countCarers_65 (by decide) ?_
              refine lv_iadd hx hb dX0_countCarers_66 ?_
              obtain ⟨g12, h⟩ := grd h
              refine X0_iastore hx hb hK hO hS 14 (by decide) rfl rfl g12 dX0_countCarers_67 (fun H locs z13 ez13 hO hS => ?_)
              have h := pin_to ez13 h
              exact hk5 _ _ _ _ h hO hS (lv_sub hl [0, 1] rfl)
    exact key15 FU _ _ _ _ _ h hO hS (lv_sub hl [1, 0] rfl)
  have key20 : ∀ (f : Nat) (v1 : Int32) (z : GS) (H : Heap) (locs : List Loc) (ls : Array Slot), FX0_countCarers_L2 k1 f v1 z = some zq → OC D aC A o la z H → va_S A s.heap H locs → lv_has ls 2 [(0, .ref o), (1, .int v1)] → W p l e ({ frames := 1, cells := 0, slots := 0, locals := 21 }) s m ([.ref o] : List Value).toArray below meth c H locs 0 0 (MQ below (QG none (OC D aC A o la zq) A) ([.ref o] : List Value).toArray s 0 0 A) (F0 m 2 ls []) := by
    intro f
    induction f with
    | zero =>
      intro v1 z H locs ls h
      rw [FX0_countCarers_L2] at h
      cases h
    | succ f ih16 =>
      intro v1 z H locs ls h hO hS hl
      rw [FX0_countCarers_L2] at h
      refine lv_iload_n hx hb dX0_countCarers_2 rfl (lv_at hl 1 rfl) ?_
      refine lv_aload_n hx hb dX0_countCarers_3 rfl (lv_at hl 0 rfl) ?_
      refine X0_getF hx hb hts hown hK hO 1 (by decide) rfl (hts _ q165) dX0_countCarers_4 ?_
      refine lv_icmp_ge (tgt := 23) hx hb dX0_countCarers_7 (by decide) (fun c17 => ?_) (fun c17 => ?_)
      · have h := it_t c17 h
        exact hk1 _ _ _ _ h hO hS (lv_sub hl [0] rfl)
      · have h := it_f c17 h
        refine lv_aload_n hx hb dX0_countCarers_10 rfl (lv_at hl 0 rfl) ?_
        refine X0_getA hx hb hts hown hK hO 14 (by decide) (Or.inl rfl) (hts _ q180) dX0_countCarers_11 ?_
        refine lv_iload_n hx hb dX0_countCarers_14 rfl (lv_at hl 1 rfl) ?_
        refine lv_iconst (v := 0) hx hb dX0_countCarers_15 (by decide) ?_
        obtain ⟨g18, h⟩ := grd h
        refine X0_iastore hx hb hK hO hS 14 (by decide) rfl rfl g18 dX0_countCarers_16 (fun H locs z19 ez19 hO hS => ?_)
        have h := pin_to ez19 h
        refine lv_iinc (v := (v1 + 1)) (lv' := [(1, .int (v1 + 1)), (0, .ref o)]) hx hb dX0_countCarers_17 hl (k := 1) rfl rfl (by decide) rfl (fun ls hl => ?_)
        refine lv_goto (tgt := 2) hx hb dX0_countCarers_20 (by decide) ?_
        exact ih16 _ _ _ _ _ h hO hS (lv_sub hl [1, 0] rfl)
  exact key20 FU _ _ _ _ _ h hO hS (lv_sub hl [1, 0] rfl)
theorem clX0_countCarers {p : Program} {l : Launch} {e : Env} {R : Room} {s : State} {m : MethodId} {args : Array Value} {below : List Frame} {meth : Method} {c : Code} {H : Heap} {locs : List Loc} {cells slots : Nat} {Q : State → Prop} {cc : ByteArray} {pc nL idx fr lo : Nat} {ls : Array Slot} {rest : List Value} {own : String} {D : va_G} {aC : Nat → ClassId} {A : Nat → Prop} {o : Nat} {la : LC} {z : GS} {zq : GS}   (hf : CallFix p m c cc nL s args lw_all own) (hK : KC D aC s) (hO : OC D aC A o la z H) (hA : ∀ q : Nat, s.heap.size ≤ q → A q) (hZ : ZX A s s.heap) (hS : va_S A s.heap H locs) (hM : Met l yX0_countCarers (ws_ yX0_countCarers cX0_countCarers 2 none) ({ frames := fr, cells := 0, slots := 0, locals := lo }) (va_Pc [.ref o] (PC D aC A o la z)) (QG none (OC D aC A o la zq) A) 0 0 A) (hq : Cond.methodLink own idx yX0_countCarers ∈ lw_all) (hs : ls.size = nL) (hr : (rest.map fun v => v.category).sum ≤ 8) (hR : fr + 1 ≤ R.frames ∧ 8 + (2 + 11) + lo ≤ R.locals) (hcs : cells + 0 ≤ R.cells ∧ slots + 0 ≤ R.slots) (hd : decode cc pc = .ok (.invokevirtual idx, 3)) (kk : ∀ (H1 : Heap) (locs1 : List Loc), OC D aC A o la zq H1 → va_S A s.heap H1 locs1 → W p l e R s m args below meth c H1 locs1 cells slots Q (F0 m (pc + 3) ls (rest))) : W p l e R s m args below meth c H locs cells slots Q (F0 m pc ls (.ref o :: rest)) :=
  g_callG (W.runV (As := []) (rest := rest) hf hM (cwV 0 hf.2.2.2.2 (lw_V hq q808 qs23 q90 q809) rfl rfl rfl (by decide +kernel) hR) ⟨PC.blind, OC.recv hK hO, fun U hU hW => ⟨rfl, PC.at hO hK hA hZ hS hU hW⟩⟩ rfl rfl hs rfl (lv_room hr) hd hcs) hS (fun H1 locs1 hP hS _ _ => kk H1 locs1 hP hS)
theorem metX0_farOf (l : Launch) (x1 : Int32) (x2 : Int32)  (r : Int32) (h : FX0_farOf x1 x2 = r) : Met l yX0_farOf (ws_ yX0_farOf cX0_farOf 2 (some .int)) ({ frames := 1, cells := 0, slots := 0, locals := 60 }) (va_Pc [.int x1, .int x2] (fun _ => True)) (QR (some (.int r))) 0 0 (fun _ => False) := by
  refine g_ofW (cc := cX0_farOf) (maxL := 2) (ret := (some .int)) (own := RX0) (by decide) rfl rfl [.int x1, .int x2] (fun _ => True) (Nat.le_of_ble_eq_true rfl) ?_
  intro p e s m below meth c ls hx hb hr hml hts hown hlocks hnm hPre hl
  have hf : CallFix p m c cX0_farOf 2 s _ lw_all RX0 := ⟨hx, hb, hml, hown, hts⟩
  have hl : lv_has ls 2 [(0, .int x1), (1, .int x2)] := hl
  unfold FX0_farOf at h
  refine lv_iload_n hx hb dX0_farOf_0 rfl (lv_at hl 0 rfl) ?_
  refine lv_bipush (v := 6) hx hb dX0_farOf_1 (by decide) ?_
  refine g_irem hx hb dX0_farOf_3 (by decide) ?_
  refine lv_iload_n hx hb dX0_farOf_4 rfl (lv_at hl 1 rfl) ?_
  refine lv_bipush (v := 6) hx hb dX0_farOf_5 (by decide) ?_
  refine g_irem hx hb dX0_farOf_7 (by decide) ?_
  refine lv_isub hx hb dX0_farOf_8 ?_
  refine g_mabs hx hb (hml.trans hl.1.symm) hown (hts _ q820) (hts _ q821) (hts _ q106) (hts _ q822) (Nat.le_of_ble_eq_true rfl) (Nat.le_of_ble_eq_true rfl) (Nat.le_refl _) (Nat.le_refl _) dX0_farOf_9 ?_
  refine lv_iload_n hx hb dX0_farOf_12 rfl (lv_at hl 0 rfl) ?_
  refine lv_bipush (v := 6) hx hb dX0_farOf_13 (by decide) ?_
  refine lv_idiv hx hb dX0_farOf_15 (by decide) ?_
  refine lv_iload_n hx hb dX0_farOf_16 rfl (lv_at hl 1 rfl) ?_
  refine lv_bipush (v := 6) hx hb dX0_farOf_17 (by decide) ?_
  refine lv_idiv hx hb dX0_farOf_19 (by decide) ?_
  refine lv_isub hx hb dX0_farOf_20 ?_
  refine g_mabs hx hb (hml.trans hl.1.symm) hown (hts _ q820) (hts _ q821) (hts _ q106) (hts _ q822) (Nat.le_of_ble_eq_true rfl) (Nat.le_of_ble_eq_true rfl) (Nat.le_refl _) (Nat.le_refl _) dX0_farOf_21 ?_
  refine lv_iadd hx hb dX0_farOf_24 ?_
  exact g_retR hx hb hr hlocks h dX0_farOf_25
theorem clX0_farOf {p : Program} {l : Launch} {e : Env} {R : Room} {s : State} {m : MethodId} {args : Array Value} {below : List Frame} {meth : Method} {c : Code} {H : Heap} {locs : List Loc} {cells slots : Nat} {Q : State → Prop} {cc : ByteArray} {pc nL idx fr lo : Nat} {ls : Array Slot} {rest : List Value} {own : String}  {x1 : Int32} {x2 : Int32} {r : Int32} (hf : CallFix p m c cc nL s args lw_all own) (hM : Met l yX0_farOf (ws_ yX0_farOf cX0_farOf 2 (some .int)) ({ frames := fr, cells := 0, slots := 0, locals := lo }) (va_Pc [.int x1, .int x2] (fun _ => True)) (QR (some (.int r))) 0 0 (fun _ => False)) (hq : Cond.methodLink own idx yX0_farOf ∈ lw_all) (hs : ls.size = nL) (hr : (rest.map fun v => v.category).sum ≤ 8) (hR : fr + 1 ≤ R.frames ∧ 8 + (2 + 11) + lo ≤ R.locals) (hcs : cells + 0 ≤ R.cells ∧ slots + 0 ≤ R.slots) (hd : decode cc pc = .ok (.invokestatic idx, 3)) (kk : W p l e R s m args below meth c H locs cells slots Q (F0 m (pc + 3) ls (.int r :: rest))) : W p l e R s m args below meth c H locs cells slots Q (F0 m pc ls (.int x2 :: .int x1 :: rest)) :=
  g_callR (W.runS (As := [.int x1, .int x2]) (rest := rest) hf hM (va_cwS 2 hf.2.2.2.2 (lw_S hq q818 q90 q819) rfl rfl rfl (by decide +kernel) hR) ⟨fun a U g mk q => q, fun U hU hW => ⟨rfl, trivial⟩⟩ rfl rfl hs rfl (lv_room hr) hd hcs) kk
theorem metX0_comesFrom (l : Launch) (D : va_G) (aC : Nat → ClassId) (A : Nat → Prop) (o : Nat) (la : LC) (x1 : Int32) (z : GS) (r : Int32) (zq : GS) (h : FX0_comesFrom x1 z = some (r, zq)) : Met l yX0_comesFrom (ws_ yX0_comesFrom cX0_comesFrom 5 (some .int)) ({ frames := 201, cells := 0, slots := 0, locals := 20021 }) (va_Pc [.ref o, .int x1] (PC D aC A o la z)) (QG (some (.int r)) (OC D aC A o la zq) A) 0 0 A := by
  refine g_ofW (cc := cX0_comesFrom) (maxL := 5) (ret := (some .int)) (own := RX0) (by decide) rfl rfl [.ref o, .int x1] (PC D aC A o la z) (Nat.le_of_ble_eq_true rfl) ?_
  intro p e s m below meth c ls hx hb hr hml hts hown hlocks hnm hPre hl
  obtain ⟨hO, hK, hA, hZ⟩ := hPre
  have hf : CallFix p m c cX0_comesFrom 5 s _ lw_all RX0 := ⟨hx, hb, hml, hown, hts⟩
  have hl : lv_has ls 5 [(0, .ref o), (1, .int x1)] := hl
  refine g_open (A := A) (OC D aC A o la z) hO (fun H locs hO hS => ?_)
  unfold FX0_comesFrom at h
  refine lv_aload_n hx hb dX0_comesFrom_0 rfl (lv_at hl 0 rfl) ?_
  refine X0_getF hx hb hts hown hK hO 16 (by decide) rfl (hts _ q182) dX0_comesFrom_1 ?_
  refine lv_iload_n hx hb dX0_comesFrom_4 rfl (lv_at hl 1 rfl) ?_
  refine clX0_has hf (metX0_has l (gF z 16) x1 _ rfl) q810 hl.1 (Nat.le_of_ble_eq_true rfl) ⟨Nat.le_of_ble_eq_true rfl, Nat.le_of_ble_eq_true rfl⟩ ⟨Nat.le_of_ble_eq_true rfl, Nat.le_of_ble_eq_true rfl⟩ dX0_comesFrom_5 ?_
  refine lv_if_eq (tgt := 29) hx hb dX0_comesFrom_8 (by decide) (fun c1 => ?_) (fun c1 => ?_)
  · have h := it_t c1 h
    refine lv_iconst (v := 0) hx hb dX0_comesFrom_29 (by decide) ?_
    obtain ⟨e8, rfl⟩ := Prod.mk.inj (Option.some.inj h)
    exact g_retG hx hb hr hlocks e8 hO hS dX0_comesFrom_30
  · have h := it_f c1 h
    refine lv_aload_n hx hb dX0_comesFrom_11 rfl (lv_at hl 0 rfl) ?_
    refine X0_getA hx hb hts hown hK hO 12 (by decide) (Or.inl rfl) (hts _ q178) dX0_comesFrom_12 ?_
    refine lv_iload_n hx hb dX0_comesFrom_15 rfl (lv_at hl 1 rfl) ?_
    obtain ⟨g2, h⟩ := grd h
    refine X0_iaload hx hb hK hO 12 (by decide) rfl rfl g2 dX0_comesFrom_16 ?_
    refine lv_if_lt (tgt := 29) hx hb dX0_comesFrom_17 (by decide) (fun c3 => ?_) (fun c3 => ?_)
    · have h := it_t c3 h
      refine lv_iconst (v := 0) hx hb dX0_comesFrom_29 (by decide) ?_
      obtain ⟨e8, rfl⟩ := Prod.mk.inj (Option.some.inj h)
      exact g_retG hx hb hr hlocks e8 hO hS dX0_comesFrom_30
    · have h := it_f c3 h
      refine lv_aload_n hx hb dX0_comesFrom_20 rfl (lv_at hl 0 rfl) ?_
      refine X0_getA hx hb hts hown hK hO 11 (by decide) (Or.inl rfl) (hts _ q177) dX0_comesFrom_21 ?_
      refine lv_iload_n hx hb dX0_comesFrom_24 rfl (lv_at hl 1 rfl) ?_
      obtain ⟨g4, h⟩ := grd h
      refine X0_iaload hx hb hK hO 11 (by decide) rfl rfl g4 dX0_comesFrom_25 ?_
      refine lv_if_ne (tgt := 31) hx hb dX0_comesFrom_26 (by decide) (fun c5 => ?_) (fun c5 => ?_)
      · have h := it_f c5 h
        refine lv_aload_n hx hb dX0_comesFrom_31 rfl (lv_at hl 0 rfl) ?_
        refine X0_getA hx hb hts hown hK hO 0 (by decide) (Or.inl rfl) (hts _ q164) dX0_comesFrom_32 ?_
        refine lv_aload_n hx hb dX0_comesFrom_35 rfl (lv_at hl 0 rfl) ?_
        refine X0_getA hx hb hts hown hK hO 12 (by decide) (Or.inl rfl) (hts _ q178) dX0_comesFrom_36 ?_
        refine lv_iload_n hx hb dX0_comesFrom_39 rfl (lv_at hl 1 rfl) ?_
        obtain ⟨g6, h⟩ := grd h
        refine X0_iaload hx hb hK hO 12 (by decide) rfl rfl g6 dX0_comesFrom_40 ?_
        obtain ⟨g7, h⟩ := grd h
        refine X0_paald hx hb hK hO g7 dX0_comesFrom_41 ?_
        refine lv_astore_n (lv' := [(2, .ref (lPa la (gI z 12 x1).toNatClampNeg)), (0, .ref o), (1, .int x1)]) hx hb dX0_comesFrom_42 rfl hl (by decide) rfl (fun ls hl => ?_)
        refine lv_aload_n hx hb dX0_comesFrom_43 rfl (lv_at hl 1 rfl) ?_
        refine X0_getA hx hb hts hown hK hO 0 (by decide) (Or.inl rfl) (hts _ q164) dX0_comesFrom_44 ?_
        refine lv_iload_n hx hb dX0_comesFrom_47 rfl (lv_at hl 2 rfl) ?_
        obtain ⟨g8, h⟩ := grd h
        refine X0_paald hx hb hK hO g8 dX0_comesFrom_48 ?_
        refine X0_getP hx hb hts hown hK hO g8 0 (by decide) (hK.nw q322 rfl) dX0_comesFrom_49 ?_
        refine lv_aload_n hx hb dX0_comesFrom_52 rfl (lv_at hl 0 rfl) ?_
        refine X0_getP hx hb hts hown hK hO g7 0 (by decide) (hK.nw q322 rfl) dX0_comesFrom_53 ?_
        refine clX0_farOf hf (metX0_farOf l (gI z 100 x1) (gI z 100 (gI z 12 x1)) _ rfl) q817 hl.1 (Nat.le_of_ble_eq_true rfl) ⟨Nat.le_of_ble_eq_true rfl, Nat.le_of_ble_eq_true rfl⟩ ⟨Nat.le_of_ble_eq_true rfl, Nat.le_of_ble_eq_true rfl⟩ dX0_comesFrom_56 ?_
        refine lv_topi (fun y9 ey9 => ?_)
        have h := pin_to ey9 h
        refine lv_istore_n (lv' := [(3, .int y9), (2, .ref (lPa la (gI z 12 x1).toNatClampNeg)), (0, .ref o), (1, .int x1)]) hx hb dX0_comesFrom_59 rfl hl (by decide) rfl (fun ls hl => ?_)
        refine lv_aload_n hx hb dX0_comesFrom_60 rfl (lv_at hl 2 rfl) ?_
        refine X0_getA hx hb hts hown hK hO 0 (by decide) (Or.inl rfl) (hts _ q164) dX0_comesFrom_61 ?_
        refine lv_iload_n hx hb dX0_comesFrom_64 rfl (lv_at hl 3 rfl) ?_
        refine X0_paald hx hb hK hO g8 dX0_comesFrom_65 ?_
        refine X0_getP hx hb hts hown hK hO g8 1 (by decide) (hK.nw q324 rfl) dX0_comesFrom_66 ?_
        refine lv_iload_n hx hb dX0_comesFrom_69 rfl (lv_at hl 0 rfl) ?_
        refine lv_iconst (v := 2) hx hb dX0_comesFrom_70 (by decide) ?_
        refine lv_idiv hx hb dX0_comesFrom_71 (by decide) ?_
        refine lv_isub hx hb dX0_comesFrom_72 ?_
        refine lv_topi (fun y10 ey10 => ?_)
        have h := pin_to ey10 h
        refine lv_istore (lv' := [(4, .int y10), (3, .int y9), (2, .ref (lPa la (gI z 12 x1).toNatClampNeg)), (0, .ref o), (1, .int x1)]) hx hb dX0_comesFrom_73 hl (by decide) rfl (fun ls hl => ?_)
        refine lv_aload_n hx hb dX0_comesFrom_75 rfl (lv_at hl 3 rfl) ?_
        refine X0_getLaw hx hb hts hown hK hO (hts _ q175) dX0_comesFrom_76 ?_
        obtain ⟨k11, e35, h⟩ := pin_nm h
        have hk11 : ∀ (v12 : Int32) (z13 : GS) (H : Heap) (locs : List Loc) (ls : Array Slot), k11 v12 z13 = some (r, zq) → OC D aC A o la z13 H → va_S A s.heap H locs → lv_has ls 5 [(0, .ref o), (4, .int v12)] → W p l e ({ frames := 201, cells := 0, slots := 0, locals := 20021 }) s m ([.ref o, .int x1] : List Value).toArray below meth c H locs 0 0 (MQ below (QG (some (.int r)) (OC D aC A o la zq) A) ([.ref o, .int x1] : List Value).toArray s 0 0 A) (F0 m 190 ls []) := by
          intro v12 z13 H locs ls h hO hS hl
          rw [e35] at h
          refine lv_iconst (v := 0) hx hb dX0_comesFrom_190 (by decide) ?_
          refine lv_bipush (v := 20) hx hb dX0_comesFrom_191 (by decide) ?_
          refine lv_iload hx hb dX0_comesFrom_193 (lv_at hl 1 rfl) ?_
          refine g_mmin hx hb (hml.trans hl.1.symm) hown (hts _ q855) (hts _ q669) (hts _ q106) (hts _ q670) (Nat.le_of_ble_eq_true rfl) (Nat.le_of_ble_eq_true rfl) (Nat.le_refl _) (Nat.le_refl _) dX0_comesFrom_195 ?_
          refine g_mmax hx hb (hml.trans hl.1.symm) hown (hts _ q856) (hts _ q666) (hts _ q106) (hts _ q667) (Nat.le_of_ble_eq_true rfl) (Nat.le_of_ble_eq_true rfl) (Nat.le_refl _) (Nat.le_refl _) dX0_comesFrom_198 ?_
          obtain ⟨e8, rfl⟩ := Prod.mk.inj (Option.some.inj h)
          exact g_retG hx hb hr hlocks e8 hO hS dX0_comesFrom_201
        refine X0_ifnull (tgt := 190) hx hb hO dX0_comesFrom_79 (by decide) (fun c14 => ?_) (fun c14 => ?_)
        · have h := it_t c14 h
          exact hk11 _ _ _ _ _ h hO hS (lv_sub hl [3, 0] rfl)
        · have h := it_f c14 h
          refine lv_aload_n hx hb dX0_comesFrom_82 rfl (lv_at hl 3 rfl) ?_
          refine X0_getA hx hb hts hown hK hO 10 (by decide) (Or.inr rfl) (hts _ q176) dX0_comesFrom_83 ?_
          refine clX1_clear hf hK hO hA hZ hS (metX1_clear l D aC A o la z) q823 hl.1 (Nat.le_of_ble_eq_true rfl) ⟨Nat.le_of_ble_eq_true rfl, Nat.le_of_ble_eq_true rfl⟩ ⟨Nat.le_of_ble_eq_true rfl, Nat.le_of_ble_eq_true rfl⟩ dX0_comesFrom_86 (fun H locs hO hS => ?_)
          obtain ⟨z15, e16, h⟩ := pin_nm h
          rw [← e16] at hO
          refine lv_aload_n hx hb dX0_comesFrom_89 rfl (lv_at hl 3 rfl) ?_
          refine X0_getA hx hb hts hown hK hO 10 (by decide) (Or.inr rfl) (hts _ q176) dX0_comesFrom_90 ?_
          refine X0_getNamed hx hb hts hown hK hO (hK.nw q154 rfl) dX0_comesFrom_93 ?_
          refine lv_bipush (v := 103) hx hb dX0_comesFrom_96 (by decide) ?_
          refine lv_aload_n hx hb dX0_comesFrom_98 rfl (lv_at hl 3 rfl) ?_
          refine X0_getA hx hb hts hown hK hO 0 (by decide) (Or.inl rfl) (hts _ q164) dX0_comesFrom_99 ?_
          refine lv_iload_n hx hb dX0_comesFrom_102 rfl (lv_at hl 4 rfl) ?_
          obtain ⟨g17, h⟩ := grd h
          refine X0_paald hx hb hK hO g17 dX0_comesFrom_103 ?_
          refine X0_getP hx hb hts hown hK hO g17 1 (by decide) (hK.nw q324 rfl) dX0_comesFrom_104 ?_
          obtain ⟨g18, h⟩ := grd h
          refine X0_nastore hx hb hK hO hS g18 dX0_comesFrom_107 (fun H locs z19 ez19 hO hS => ?_)
          have h := pin_to ez19 h
          refine lv_aload_n hx hb dX0_comesFrom_108 rfl (lv_at hl 3 rfl) ?_
          refine X0_getA hx hb hts hown hK hO 10 (by decide) (Or.inr rfl) (hts _ q176) dX0_comesFrom_109 ?_
          refine X0_getNamed hx hb hts hown hK hO (hK.nw q154 rfl) dX0_comesFrom_112 ?_
          refine lv_bipush (v := 100) hx hb dX0_comesFrom_115 (by decide) ?_
          refine lv_iload_n hx hb dX0_comesFrom_117 rfl (lv_at hl 1 rfl) ?_
          obtain ⟨g20, h⟩ := grd h
          refine X0_nastore hx hb hK hO hS g20 dX0_comesFrom_118 (fun H locs z21 ez21 hO hS => ?_)
          have h := pin_to ez21 h
          refine lv_aload_n hx hb dX0_comesFrom_119 rfl (lv_at hl 3 rfl) ?_
          refine X0_getA hx hb hts hown hK hO 10 (by decide) (Or.inr rfl) (hts _ q176) dX0_comesFrom_120 ?_
          refine X0_getNamed hx hb hts hown hK hO (hK.nw q154 rfl) dX0_comesFrom_123 ?_
          refine lv_bipush (v := 110) hx hb dX0_comesFrom_126 (by decide) ?_
          refine lv_aload_n hx hb dX0_comesFrom_128 rfl (lv_at hl 2 rfl) ?_
          obtain ⟨g22, h⟩ := grd h
          refine X0_getP hx hb hts hown hK hO g22 2 (by decide) (hK.nw q326 rfl) dX0_comesFrom_129 ?_
          obtain ⟨g23, h⟩ := grd h
          refine X0_nastore hx hb hK hO hS g23 dX0_comesFrom_132 (fun H locs z24 ez24 hO hS => ?_)
          have h := pin_to ez24 h
          refine lv_aload_n hx hb dX0_comesFrom_133 rfl (lv_at hl 3 rfl) ?_
          refine X0_getA hx hb hts hown hK hO 10 (by decide) (Or.inr rfl) (hts _ q176) dX0_comesFrom_134 ?_
          refine X0_getNamed hx hb hts hown hK hO (hK.nw q154 rfl) dX0_comesFrom_137 ?_
          refine lv_bipush (v := 107) hx hb dX0_comesFrom_140 (by decide) ?_
          refine lv_aload_n hx hb dX0_comesFrom_142 rfl (lv_at hl 3 rfl) ?_
          refine X0_getA hx hb hts hown hK hO 14 (by decide) (Or.inl rfl) (hts _ q180) dX0_comesFrom_143 ?_
          refine lv_aload_n hx hb dX0_comesFrom_146 rfl (lv_at hl 3 rfl) ?_
          refine X0_getA hx hb hts hown hK hO 12 (by decide) (Or.inl rfl) (hts _ q178) dX0_comesFrom_147 ?_
          refine lv_iload_n hx hb dX0_comesFrom_150 rfl (lv_at hl 4 rfl) ?_
          obtain ⟨g25, h⟩ := grd h
          refine X0_iaload hx hb hK hO 12 (by decide) rfl rfl g25 dX0_comesFrom_151 ?_
          obtain ⟨g26, h⟩ := grd h
          refine X0_iaload hx hb hK hO 14 (by decide) rfl rfl g26 dX0_comesFrom_152 ?_
          obtain ⟨g27, h⟩ := grd h
          refine X0_nastore hx hb hK hO hS g27 dX0_comesFrom_153 (fun H locs z28 ez28 hO hS => ?_)
          have h := pin_to ez28 h
          refine lv_aload_n hx hb dX0_comesFrom_154 rfl (lv_at hl 3 rfl) ?_
          refine X0_getA hx hb hts hown hK hO 10 (by decide) (Or.inr rfl) (hts _ q176) dX0_comesFrom_155 ?_
          refine X0_getNamed hx hb hts hown hK hO (hK.nw q154 rfl) dX0_comesFrom_158 ?_
          refine lv_bipush (v := 115) hx hb dX0_comesFrom_161 (by decide) ?_
          refine lv_aload_n hx hb dX0_comesFrom_163 rfl (lv_at hl 3 rfl) ?_
          refine X0_getA hx hb hts hown hK hO 11 (by decide) (Or.inl rfl) (hts _ q177) dX0_comesFrom_164 ?_
          refine lv_iload_n hx hb dX0_comesFrom_167 rfl (lv_at hl 4 rfl) ?_
          obtain ⟨g29, h⟩ := grd h
          refine X0_iaload hx hb hK hO 11 (by decide) rfl rfl g29 dX0_comesFrom_168 ?_
          obtain ⟨g30, h⟩ := grd h
          refine X0_nastore hx hb hK hO hS g30 dX0_comesFrom_169 (fun H locs z31 ez31 hO hS => ?_)
          have h := pin_to ez31 h
          refine lv_aload_n hx hb dX0_comesFrom_170 rfl (lv_at hl 3 rfl) ?_
          refine X0_getA hx hb hts hown hK hO 10 (by decide) (Or.inr rfl) (hts _ q176) dX0_comesFrom_171 ?_
          refine X0_getNamed hx hb hts hown hK hO (hK.nw q154 rfl) dX0_comesFrom_174 ?_
          refine lv_bipush (v := 116) hx hb dX0_comesFrom_177 (by decide) ?_
          refine lv_aload_n hx hb dX0_comesFrom_179 rfl (lv_at hl 3 rfl) ?_
          refine X0_getF hx hb hts hown hK hO 15 (by decide) rfl (hts _ q181) dX0_comesFrom_180 ?_
          obtain ⟨g32, h⟩ := grd h
          refine X0_nastore hx hb hK hO hS g32 dX0_comesFrom_183 (fun H locs z33 ez33 hO hS => ?_)
          have h := pin_to ez33 h
          refine lv_aload_n hx hb dX0_comesFrom_184 rfl (lv_at hl 3 rfl) ?_
          refine clX0_lawGives hf hK hO hA hZ hS (metX0_lawGives l D aC A o la z33 _ rfl) q827 hl.1 (Nat.le_of_ble_eq_true rfl) ⟨Nat.le_of_ble_eq_true rfl, Nat.le_of_ble_eq_true rfl⟩ ⟨Nat.le_of_ble_eq_true rfl, Nat.le_of_ble_eq_true rfl⟩ dX0_comesFrom_185 ?_
          refine lv_topi (fun y34 ey34 => ?_)
          have h := pin_to ey34 h
          refine lv_istore (lv' := [(4, .int y34), (3, .int y9), (2, .ref (lPa la (gI z 12 x1).toNatClampNeg)), (0, .ref o), (1, .int x1)]) hx hb dX0_comesFrom_188 hl (by decide) rfl (fun ls hl => ?_)
          exact hk11 _ _ _ _ _ h hO hS (lv_sub hl [3, 0] rfl)
      · have h := it_t c5 h
        refine lv_iconst (v := 0) hx hb dX0_comesFrom_29 (by decide) ?_
        obtain ⟨e8, rfl⟩ := Prod.mk.inj (Option.some.inj h)
        exact g_retG hx hb hr hlocks e8 hO hS dX0_comesFrom_30
theorem clX0_comesFrom {p : Program} {l : Launch} {e : Env} {R : Room} {s : State} {m : MethodId} {args : Array Value} {below : List Frame} {meth : Method} {c : Code} {H : Heap} {locs : List Loc} {cells slots : Nat} {Q : State → Prop} {cc : ByteArray} {pc nL idx fr lo : Nat} {ls : Array Slot} {rest : List Value} {own : String} {D : va_G} {aC : Nat → ClassId} {A : Nat → Prop} {o : Nat} {la : LC} {z : GS} {zq : GS} {x1 : Int32} {r : Int32} (hf : CallFix p m c cc nL s args lw_all own) (hK : KC D aC s) (hO : OC D aC A o la z H) (hA : ∀ q : Nat, s.heap.size ≤ q → A q) (hZ : ZX A s s.heap) (hS : va_S A s.heap H locs) (hM : Met l yX0_comesFrom (ws_ yX0_comesFrom cX0_comesFrom 5 (some .int)) ({ frames := fr, cells := 0, slots := 0, locals := lo }) (va_Pc [.ref o, .int x1] (PC D aC A o la z)) (QG (some (.int r)) (OC D aC A o la zq) A) 0 0 A) (hq : Cond.methodLink own idx yX0_comesFrom ∈ lw_all) (hs : ls.size = nL) (hr : (rest.map fun v => v.category).sum ≤ 8) (hR : fr + 1 ≤ R.frames ∧ 8 + (5 + 11) + lo ≤ R.locals) (hcs : cells + 0 ≤ R.cells ∧ slots + 0 ≤ R.slots) (hd : decode cc pc = .ok (.invokevirtual idx, 3)) (kk : ∀ (H1 : Heap) (locs1 : List Loc), OC D aC A o la zq H1 → va_S A s.heap H1 locs1 → W p l e R s m args below meth c H1 locs1 cells slots Q (F0 m (pc + 3) ls (.int r :: rest))) : W p l e R s m args below meth c H locs cells slots Q (F0 m pc ls (.int x1 :: .ref o :: rest)) :=
  g_callG (W.runV (As := [.int x1]) (rest := rest) hf hM (cwV 1 hf.2.2.2.2 (lw_V hq q815 qs24 q90 q816) rfl rfl rfl (by decide +kernel) hR) ⟨PC.blind, OC.recv hK hO, fun U hU hW => ⟨rfl, PC.at hO hK hA hZ hS hU hW⟩⟩ rfl rfl hs rfl (lv_room hr) hd hcs) hS (fun H1 locs1 hP hS _ _ => kk H1 locs1 hP hS)
theorem metX0_comes (l : Launch) (D : va_G) (aC : Nat → ClassId) (A : Nat → Prop) (o : Nat) (la : LC) (x1 : Int32) (z : GS) (r : Int32) (zq : GS) (h : FX0_comes x1 z = some (r, zq)) : Met l yX0_comes (ws_ yX0_comes cX0_comes 2 (some .int)) ({ frames := 202, cells := 0, slots := 0, locals := 20045 }) (va_Pc [.ref o, .int x1] (PC D aC A o la z)) (QG (some (.int r)) (OC D aC A o la zq) A) 0 0 A := by
  refine g_ofW (cc := cX0_comes) (maxL := 2) (ret := (some .int)) (own := RX0) (by decide) rfl rfl [.ref o, .int x1] (PC D aC A o la z) (Nat.le_of_ble_eq_true rfl) ?_
  intro p e s m below meth c ls hx hb hr hml hts hown hlocks hnm hPre hl
  obtain ⟨hO, hK, hA, hZ⟩ := hPre
  have hf : CallFix p m c cX0_comes 2 s _ lw_all RX0 := ⟨hx, hb, hml, hown, hts⟩
  have hl : lv_has ls 2 [(0, .ref o), (1, .int x1)] := hl
  refine g_open (A := A) (OC D aC A o la z) hO (fun H locs hO hS => ?_)
  unfold FX0_comes at h
  refine lv_aload_n hx hb dX0_comes_0 rfl (lv_at hl 0 rfl) ?_
  refine lv_iload_n hx hb dX0_comes_1 rfl (lv_at hl 1 rfl) ?_
  refine clX0_isPerson hf hK hO hA hZ hS (metX0_isPerson l D aC A o la x1 z _ rfl) q502 hl.1 (Nat.le_of_ble_eq_true rfl) ⟨Nat.le_of_ble_eq_true rfl, Nat.le_of_ble_eq_true rfl⟩ ⟨Nat.le_of_ble_eq_true rfl, Nat.le_of_ble_eq_true rfl⟩ dX0_comes_2 ?_
  refine lv_if_ne (tgt := 10) hx hb dX0_comes_5 (by decide) (fun c1 => ?_) (fun c1 => ?_)
  · have h := it_f c1 h
    refine lv_aload_n hx hb dX0_comes_10 rfl (lv_at hl 0 rfl) ?_
    obtain ⟨z2, e3, h⟩ := bn1_e h
    refine clX0_layNow hf hK hO hA hZ hS (metX0_layNow l D aC A o la z z2 e3) q802 hl.1 (Nat.le_of_ble_eq_true rfl) ⟨Nat.le_of_ble_eq_true rfl, Nat.le_of_ble_eq_true rfl⟩ ⟨Nat.le_of_ble_eq_true rfl, Nat.le_of_ble_eq_true rfl⟩ dX0_comes_11 (fun H locs hO hS => ?_)
    refine lv_aload_n hx hb dX0_comes_14 rfl (lv_at hl 0 rfl) ?_
    obtain ⟨z4, e5, h⟩ := bn1_e h
    refine clX0_countCarers hf hK hO hA hZ hS (metX0_countCarers l D aC A o la z2 z4 e5) q806 hl.1 (Nat.le_of_ble_eq_true rfl) ⟨Nat.le_of_ble_eq_true rfl, Nat.le_of_ble_eq_true rfl⟩ ⟨Nat.le_of_ble_eq_true rfl, Nat.le_of_ble_eq_true rfl⟩ dX0_comes_15 (fun H locs hO hS => ?_)
    refine lv_aload_n hx hb dX0_comes_18 rfl (lv_at hl 0 rfl) ?_
    refine lv_iload_n hx hb dX0_comes_19 rfl (lv_at hl 1 rfl) ?_
    obtain ⟨r6, z7, e8, h⟩ := bnd_e h
    refine clX0_comesFrom hf hK hO hA hZ hS (metX0_comesFrom l D aC A o la x1 z4 r6 z7 e8) q813 hl.1 (Nat.le_of_ble_eq_true rfl) ⟨Nat.le_of_ble_eq_true rfl, Nat.le_of_ble_eq_true rfl⟩ ⟨Nat.le_of_ble_eq_true rfl, Nat.le_of_ble_eq_true rfl⟩ dX0_comes_20 (fun H locs hO hS => ?_)
    obtain ⟨e8, rfl⟩ := Prod.mk.inj (Option.some.inj h)
    exact g_retG hx hb hr hlocks e8 hO hS dX0_comes_23
  · have h := it_t c1 h
    refine lv_iconst (v := (-1)) hx hb dX0_comes_8 (by decide) ?_
    obtain ⟨e8, rfl⟩ := Prod.mk.inj (Option.some.inj h)
    exact g_retG hx hb hr hlocks e8 hO hS dX0_comes_9
theorem clX0_comes {p : Program} {l : Launch} {e : Env} {R : Room} {s : State} {m : MethodId} {args : Array Value} {below : List Frame} {meth : Method} {c : Code} {H : Heap} {locs : List Loc} {cells slots : Nat} {Q : State → Prop} {cc : ByteArray} {pc nL idx fr lo : Nat} {ls : Array Slot} {rest : List Value} {own : String} {D : va_G} {aC : Nat → ClassId} {A : Nat → Prop} {o : Nat} {la : LC} {z : GS} {zq : GS} {x1 : Int32} {r : Int32} (hf : CallFix p m c cc nL s args lw_all own) (hK : KC D aC s) (hO : OC D aC A o la z H) (hA : ∀ q : Nat, s.heap.size ≤ q → A q) (hZ : ZX A s s.heap) (hS : va_S A s.heap H locs) (hM : Met l yX0_comes (ws_ yX0_comes cX0_comes 2 (some .int)) ({ frames := fr, cells := 0, slots := 0, locals := lo }) (va_Pc [.ref o, .int x1] (PC D aC A o la z)) (QG (some (.int r)) (OC D aC A o la zq) A) 0 0 A) (hq : Cond.methodLink own idx yX0_comes ∈ lw_all) (hs : ls.size = nL) (hr : (rest.map fun v => v.category).sum ≤ 8) (hR : fr + 1 ≤ R.frames ∧ 8 + (2 + 11) + lo ≤ R.locals) (hcs : cells + 0 ≤ R.cells ∧ slots + 0 ≤ R.slots) (hd : decode cc pc = .ok (.invokevirtual idx, 3)) (kk : ∀ (H1 : Heap) (locs1 : List Loc), OC D aC A o la zq H1 → va_S A s.heap H1 locs1 → W p l e R s m args below meth c H1 locs1 cells slots Q (F0 m (pc + 3) ls (.int r :: rest))) : W p l e R s m args below meth c H locs cells slots Q (F0 m pc ls (.int x1 :: .ref o :: rest)) :=
  g_callG (W.runV (As := [.int x1]) (rest := rest) hf hM (cwV 1 hf.2.2.2.2 (lw_V hq q799 q800 q90 q801) rfl rfl rfl (by decide +kernel) hR) ⟨PC.blind, OC.recv hK hO, fun U hU hW => ⟨rfl, PC.at hO hK hA hZ hS hU hW⟩⟩ rfl rfl hs rfl (lv_room hr) hd hcs) hS (fun H1 locs1 hP hS _ _ => kk H1 locs1 hP hS)
theorem metX0_areDays (l : Launch) (x1 : Int32)  (r : Int32) (h : FX0_areDays x1 = r) : Met l yX0_areDays (ws_ yX0_areDays cX0_areDays 1 (some .boolean)) ({ frames := 1, cells := 0, slots := 0, locals := 22 }) (va_Pc [.int x1] (fun _ => True)) (QR (some (.int r))) 0 0 (fun _ => False) := by
  refine g_ofW (cc := cX0_areDays) (maxL := 1) (ret := (some .boolean)) (own := RX0) (by decide) rfl rfl [.int x1] (fun _ => True) (Nat.le_of_ble_eq_true rfl) ?_
  intro p e s m below meth c ls hx hb hr hml hts hown hlocks hnm hPre hl
  have hf : CallFix p m c cX0_areDays 1 s _ lw_all RX0 := ⟨hx, hb, hml, hown, hts⟩
  have hl : lv_has ls 1 [(0, .int x1)] := hl
  unfold FX0_areDays at h
  refine lv_iload_n hx hb dX0_areDays_0 rfl (lv_at hl 0 rfl) ?_
  refine lv_iconst (v := 0) hx hb dX0_areDays_1 (by decide) ?_
  refine lv_bipush (v := 40) hx hb dX0_areDays_2 (by decide) ?_
  refine clX0_in hf (metX0_in l x1 0 40 _ rfl) q309 hl.1 (Nat.le_of_ble_eq_true rfl) ⟨Nat.le_of_ble_eq_true rfl, Nat.le_of_ble_eq_true rfl⟩ ⟨Nat.le_of_ble_eq_true rfl, Nat.le_of_ble_eq_true rfl⟩ dX0_areDays_4 ?_
  exact g_retRz hx hb hr hlocks (bzX0_in ..) h dX0_areDays_7
theorem bzX0_areDays (x1 : Int32)  : okZ (FX0_areDays x1) := by
  unfold FX0_areDays
  repeat' split
  all_goals first | exact Or.inl rfl | exact Or.inr rfl | exact bzX0_in ..
theorem clX0_areDays {p : Program} {l : Launch} {e : Env} {R : Room} {s : State} {m : MethodId} {args : Array Value} {below : List Frame} {meth : Method} {c : Code} {H : Heap} {locs : List Loc} {cells slots : Nat} {Q : State → Prop} {cc : ByteArray} {pc nL idx fr lo : Nat} {ls : Array Slot} {rest : List Value} {own : String}  {x1 : Int32} {r : Int32} (hf : CallFix p m c cc nL s args lw_all own) (hM : Met l yX0_areDays (ws_ yX0_areDays cX0_areDays 1 (some .boolean)) ({ frames := fr, cells := 0, slots := 0, locals := lo }) (va_Pc [.int x1] (fun _ => True)) (QR (some (.int r))) 0 0 (fun _ => False)) (hq : Cond.methodLink own idx yX0_areDays ∈ lw_all) (hs : ls.size = nL) (hr : (rest.map fun v => v.category).sum ≤ 8) (hR : fr + 1 ≤ R.frames ∧ 8 + (1 + 11) + lo ≤ R.locals) (hcs : cells + 0 ≤ R.cells ∧ slots + 0 ≤ R.slots) (hd : decode cc pc = .ok (.invokestatic idx, 3)) (kk : W p l e R s m args below meth c H locs cells slots Q (F0 m (pc + 3) ls (.int r :: rest))) : W p l e R s m args below meth c H locs cells slots Q (F0 m pc ls (.int x1 :: rest)) :=
  g_callR (W.runS (As := [.int x1]) (rest := rest) hf hM (va_cwS 1 hf.2.2.2.2 (lw_S hq q862 q90 q863) rfl rfl rfl (by decide +kernel) hR) ⟨fun a U g mk q => q, fun U hU hW => ⟨rfl, trivial⟩⟩ rfl rfl hs rfl (lv_room hr) hd hcs) kk
theorem metX0_held (l : Launch) (x1 : Int32)  (r : Int32) (h : FX0_held x1 = r) : Met l yX0_held (ws_ yX0_held cX0_held 1 (some .int)) ({ frames := 1, cells := 0, slots := 0, locals := 60 }) (va_Pc [.int x1] (fun _ => True)) (QR (some (.int r))) 0 0 (fun _ => False) := by
  refine g_ofW (cc := cX0_held) (maxL := 1) (ret := (some .int)) (own := RX0) (by decide) rfl rfl [.int x1] (fun _ => True) (Nat.le_of_ble_eq_true rfl) ?_
  intro p e s m below meth c ls hx hb hr hml hts hown hlocks hnm hPre hl
  have hf : CallFix p m c cX0_held 1 s _ lw_all RX0 := ⟨hx, hb, hml, hown, hts⟩
  have hl : lv_has ls 1 [(0, .int x1)] := hl
  unfold FX0_held at h
  refine lv_iconst (v := 0) hx hb dX0_held_0 (by decide) ?_
  refine lv_bipush (v := 99) hx hb dX0_held_1 (by decide) ?_
  refine lv_iload_n hx hb dX0_held_3 rfl (lv_at hl 0 rfl) ?_
  refine g_mmin hx hb (hml.trans hl.1.symm) hown (hts _ q855) (hts _ q669) (hts _ q106) (hts _ q670) (Nat.le_of_ble_eq_true rfl) (Nat.le_of_ble_eq_true rfl) (Nat.le_refl _) (Nat.le_refl _) dX0_held_4 ?_
  refine g_mmax hx hb (hml.trans hl.1.symm) hown (hts _ q856) (hts _ q666) (hts _ q106) (hts _ q667) (Nat.le_of_ble_eq_true rfl) (Nat.le_of_ble_eq_true rfl) (Nat.le_refl _) (Nat.le_refl _) dX0_held_7 ?_
  exact g_retR hx hb hr hlocks h dX0_held_10
theorem clX0_held {p : Program} {l : Launch} {e : Env} {R : Room} {s : State} {m : MethodId} {args : Array Value} {below : List Frame} {meth : Method} {c : Code} {H : Heap} {locs : List Loc} {cells slots : Nat} {Q : State → Prop} {cc : ByteArray} {pc nL idx fr lo : Nat} {ls : Array Slot} {rest : List Value} {own : String}  {x1 : Int32} {r : Int32} (hf : CallFix p m c cc nL s args lw_all own) (hM : Met l yX0_held (ws_ yX0_held cX0_held 1 (some .int)) ({ frames := fr, cells := 0, slots := 0, locals := lo }) (va_Pc [.int x1] (fun _ => True)) (QR (some (.int r))) 0 0 (fun _ => False)) (hq : Cond.methodLink own idx yX0_held ∈ lw_all) (hs : ls.size = nL) (hr : (rest.map fun v => v.category).sum ≤ 8) (hR : fr + 1 ≤ R.frames ∧ 8 + (1 + 11) + lo ≤ R.locals) (hcs : cells + 0 ≤ R.cells ∧ slots + 0 ≤ R.slots) (hd : decode cc pc = .ok (.invokestatic idx, 3)) (kk : W p l e R s m args below meth c H locs cells slots Q (F0 m (pc + 3) ls (.int r :: rest))) : W p l e R s m args below meth c H locs cells slots Q (F0 m pc ls (.int x1 :: rest)) :=
  g_callR (W.runS (As := [.int x1]) (rest := rest) hf hM (va_cwS 1 hf.2.2.2.2 (lw_S hq q873 q90 q874) rfl rfl rfl (by decide +kernel) hR) ⟨fun a U g mk q => q, fun U hU hW => ⟨rfl, trivial⟩⟩ rfl rfl hs rfl (lv_room hr) hd hcs) kk
theorem metX0_goDay (l : Launch) (D : va_G) (aC : Nat → ClassId) (A : Nat → Prop) (o : Nat) (la : LC)  (z : GS)  (zq : GS) (h : FX0_goDay z = some zq) : Met l yX0_goDay (ws_ yX0_goDay cX0_goDay 3 none) ({ frames := 202, cells := 0, slots := 0, locals := 20045 }) (va_Pc [.ref o] (PC D aC A o la z)) (QG none (OC D aC A o la zq) A) 0 0 A := by
  refine g_ofW (cc := cX0_goDay) (maxL := 3) (ret := none) (own := RX0) (by decide) rfl rfl [.ref o] (PC D aC A o la z) (Nat.le_of_ble_eq_true rfl) ?_
  intro p e s m below meth c ls hx hb hr hml hts hown hlocks hnm hPre hl
  obtain ⟨hO, hK, hA, hZ⟩ := hPre
  have hf : CallFix p m c cX0_goDay 3 s _ lw_all RX0 := ⟨hx, hb, hml, hown, hts⟩
  have hl : lv_has ls 3 [(0, .ref o)] := hl
  refine g_open (A := A) (OC D aC A o la z) hO (fun H locs hO hS => ?_)
  unfold FX0_goDay at h
  refine lv_aload_n hx hb dX0_goDay_0 rfl (lv_at hl 0 rfl) ?_
  obtain ⟨z1, e2, h⟩ := bn1_e h
  refine clX0_countCarers hf hK hO hA hZ hS (metX0_countCarers l D aC A o la z z1 e2) q806 hl.1 (Nat.le_of_ble_eq_true rfl) ⟨Nat.le_of_ble_eq_true rfl, Nat.le_of_ble_eq_true rfl⟩ ⟨Nat.le_of_ble_eq_true rfl, Nat.le_of_ble_eq_true rfl⟩ dX0_goDay_1 (fun H locs hO hS => ?_)
  refine lv_iconst (v := 0) hx hb dX0_goDay_4 (by decide) ?_
  refine lv_istore_n (lv' := [(1, .int 0), (0, .ref o)]) hx hb dX0_goDay_5 rfl hl (by decide) rfl (fun ls hl => ?_)
  obtain ⟨k3, e45, h⟩ := pin_nm h
  have hk3 : ∀  (z4 : GS) (H : Heap) (locs : List Loc) (ls : Array Slot), k3  z4 = some zq → OC D aC A o la z4 H → va_S A s.heap H locs → lv_has ls 3 [(0, .ref o)] → W p l e ({ frames := 202, cells := 0, slots := 0, locals := 20045 }) s m ([.ref o] : List Value).toArray below meth c H locs 0 0 (MQ below (QG none (OC D aC A o la zq) A) ([.ref o] : List Value).toArray s 0 0 A) (F0 m 27 ls []) := by
    intro  z4 H locs ls h hO hS hl
    rw [e45] at h
    refine lv_iconst (v := 0) hx hb dX0_goDay_27 (by decide) ?_
    refine lv_istore_n (lv' := [(1, .int 0), (0, .ref o)]) hx hb dX0_goDay_28 rfl hl (by decide) rfl (fun ls hl => ?_)
    obtain ⟨k5, e39, h⟩ := pin_nm h
    have hk5 : ∀  (z6 : GS) (H : Heap) (locs : List Loc) (ls : Array Slot), k5  z6 = some zq → OC D aC A o la z6 H → va_S A s.heap H locs → lv_has ls 3 [(0, .ref o)] → W p l e ({ frames := 202, cells := 0, slots := 0, locals := 20045 }) s m ([.ref o] : List Value).toArray below meth c H locs 0 0 (MQ below (QG none (OC D aC A o la zq) A) ([.ref o] : List Value).toArray s 0 0 A) (F0 m 81 ls []) := by
      intro  z6 H locs ls h hO hS hl
      rw [e39] at h
      refine lv_iconst (v := 0) hx hb dX0_goDay_81 (by decide) ?_
      refine lv_istore_n (lv' := [(1, .int 0), (0, .ref o)]) hx hb dX0_goDay_82 rfl hl (by decide) rfl (fun ls hl => ?_)
      obtain ⟨k7, e23, h⟩ := pin_nm h
      have hk7 : ∀  (z8 : GS) (H : Heap) (locs : List Loc) (ls : Array Slot), k7  z8 = some zq → OC D aC A o la z8 H → va_S A s.heap H locs → lv_has ls 3 [(0, .ref o)] → W p l e ({ frames := 202, cells := 0, slots := 0, locals := 20045 }) s m ([.ref o] : List Value).toArray below meth c H locs 0 0 (MQ below (QG none (OC D aC A o la zq) A) ([.ref o] : List Value).toArray s 0 0 A) (F0 m 147 ls []) := by
        intro  z8 H locs ls h hO hS hl
        rw [e23] at h
        refine lv_aload_n hx hb dX0_goDay_147 rfl (lv_at hl 0 rfl) ?_
        refine lv_bipush (v := 99) hx hb dX0_goDay_148 (by decide) ?_
        refine lv_aload_n hx hb dX0_goDay_150 rfl (lv_at hl 0 rfl) ?_
        refine X0_getF hx hb hts hown hK hO 15 (by decide) rfl (hts _ q181) dX0_goDay_151 ?_
        refine lv_iconst (v := 1) hx hb dX0_goDay_154 (by decide) ?_
        refine lv_iadd hx hb dX0_goDay_155 ?_
        refine g_mmin hx hb (hml.trans hl.1.symm) hown (hts _ q855) (hts _ q669) (hts _ q106) (hts _ q670) (Nat.le_of_ble_eq_true rfl) (Nat.le_of_ble_eq_true rfl) (Nat.le_refl _) (Nat.le_refl _) dX0_goDay_156 ?_
        refine X0_putF hx hb hts hown hK hO hS 15 (by decide) rfl (by decide) (by decide) (hts _ q181) rfl (ty := .int) rfl rfl rfl dX0_goDay_159 (fun H locs z9 ez9 hO hS => ?_)
        have h := pin_to ez9 h
        cases Option.some.inj h
        exact g_retGv hx hb hr hlocks hO hS dX0_goDay_162
      have key22 : ∀ (f : Nat) (v1 : Int32) (z : GS) (H : Heap) (locs : List Loc) (ls : Array Slot), FX0_goDay_L83 k7 f v1 z = some zq → OC D aC A o la z H → va_S A s.heap H locs → lv_has ls 3 [(0, .ref o), (1, .int v1)] → W p l e ({ frames := 202, cells := 0, slots := 0, locals := 20045 }) s m ([.ref o] : List Value).toArray below meth c H locs 0 0 (MQ below (QG none (OC D aC A o la zq) A) ([.ref o] : List Value).toArray s 0 0 A) (F0 m 83 ls []) := by
        intro f
        induction f with
        | zero =>
          intro v1 z H locs ls h
          rw [FX0_goDay_L83] at h
          cases h
        | succ f ih10 =>
          intro v1 z H locs ls h hO hS hl
          rw [FX0_goDay_L83] at h
          refine lv_iload_n hx hb dX0_goDay_83 rfl (lv_at hl 1 rfl) ?_
          refine lv_aload_n hx hb dX0_goDay_84 rfl (lv_at hl 0 rfl) ?_
          refine X0_getF hx hb hts hown hK hO 1 (by decide) rfl (hts _ q165) dX0_goDay_85 ?_
          refine lv_icmp_ge (tgt := 147) hx hb dX0_goDay_88 (by decide) (fun c11 => ?_) (fun c11 => ?_)
          · have h := it_t c11 h
            exact hk7 _ _ _ _ h hO hS (lv_sub hl [0] rfl)
          · have h := it_f c11 h
            refine lv_aload_n hx hb dX0_goDay_91 rfl (lv_at hl 0 rfl) ?_
            refine X0_getA hx hb hts hown hK hO 11 (by decide) (Or.inl rfl) (hts _ q177) dX0_goDay_92 ?_
            refine lv_iload_n hx hb dX0_goDay_95 rfl (lv_at hl 1 rfl) ?_
            refine lv_aload_n hx hb dX0_goDay_96 rfl (lv_at hl 0 rfl) ?_
            refine X0_getA hx hb hts hown hK hO 11 (by decide) (Or.inl rfl) (hts _ q177) dX0_goDay_97 ?_
            refine lv_iload_n hx hb dX0_goDay_100 rfl (lv_at hl 1 rfl) ?_
            obtain ⟨g12, h⟩ := grd h
            refine X0_iaload hx hb hK hO 11 (by decide) rfl rfl g12 dX0_goDay_101 ?_
            refine lv_aload_n hx hb dX0_goDay_102 rfl (lv_at hl 0 rfl) ?_
            refine X0_getA hx hb hts hown hK hO 13 (by decide) (Or.inl rfl) (hts _ q179) dX0_goDay_103 ?_
            refine lv_iload_n hx hb dX0_goDay_106 rfl (lv_at hl 1 rfl) ?_
            obtain ⟨g13, h⟩ := grd h
            refine X0_iaload hx hb hK hO 13 (by decide) rfl rfl g13 dX0_goDay_107 ?_
            refine lv_iadd hx hb dX0_goDay_108 ?_
            refine lv_aload_n hx hb dX0_goDay_109 rfl (lv_at hl 0 rfl) ?_
            refine X0_getA hx hb hts hown hK hO 0 (by decide) (Or.inl rfl) (hts _ q164) dX0_goDay_110 ?_
            refine lv_iload_n hx hb dX0_goDay_113 rfl (lv_at hl 1 rfl) ?_
            obtain ⟨g14, h⟩ := grd h
            refine X0_paald hx hb hK hO g14 dX0_goDay_114 ?_
            refine X0_getP hx hb hts hown hK hO g14 2 (by decide) (hK.nw q326 rfl) dX0_goDay_115 ?_
            refine lv_isub hx hb dX0_goDay_118 ?_
            refine lv_aload_n hx hb dX0_goDay_119 rfl (lv_at hl 0 rfl) ?_
            refine X0_getA hx hb hts hown hK hO 14 (by decide) (Or.inl rfl) (hts _ q180) dX0_goDay_120 ?_
            refine lv_iload_n hx hb dX0_goDay_123 rfl (lv_at hl 1 rfl) ?_
            obtain ⟨g15, h⟩ := grd h
            refine X0_iaload hx hb hK hO 14 (by decide) rfl rfl g15 dX0_goDay_124 ?_
            obtain ⟨k17, e20, h⟩ := pin_nm2 h
            have hk17 : ∀ (u16 : Int32) (ls : Array Slot), k17 u16 = some zq → lv_has ls 3 [(0, .ref o), (1, .int v1)] → W p l e ({ frames := 202, cells := 0, slots := 0, locals := 20045 }) s m ([.ref o] : List Value).toArray below meth c H locs 0 0 (MQ below (QG none (OC D aC A o la zq) A) ([.ref o] : List Value).toArray s 0 0 A) (F0 m 136 ls [.int u16, .int (((gI z 11 v1) + (gI z 13 v1)) - (gI z 102 v1)), .int v1, .ref (lAd la 11)]) := by
              intro u16 ls h hl
              rw [e20] at h
              refine lv_isub hx hb dX0_goDay_136 ?_
              refine clX0_held hf (metX0_held l ((((gI z 11 v1) + (gI z 13 v1)) - (gI z 102 v1)) - u16) _ rfl) q872 hl.1 (Nat.le_of_ble_eq_true rfl) ⟨Nat.le_of_ble_eq_true rfl, Nat.le_of_ble_eq_true rfl⟩ ⟨Nat.le_of_ble_eq_true rfl, Nat.le_of_ble_eq_true rfl⟩ dX0_goDay_137 ?_
              obtain ⟨g18, h⟩ := grd h
              refine X0_iastore hx hb hK hO hS 11 (by decide) rfl rfl g18 dX0_goDay_140 (fun H locs z19 ez19 hO hS => ?_)
              have h := pin_to ez19 h
              refine lv_iinc (v := (v1 + 1)) (lv' := [(1, .int (v1 + 1)), (0, .ref o)]) hx hb dX0_goDay_141 hl (k := 1) rfl rfl (by decide) rfl (fun ls hl => ?_)
              refine lv_goto (tgt := 83) hx hb dX0_goDay_144 (by decide) ?_
              exact ih10 _ _ _ _ _ h hO hS (lv_sub hl [1, 0] rfl)
            refine lv_if_ne (tgt := 135) hx hb dX0_goDay_125 (by decide) (fun c21 => ?_) (fun c21 => ?_)
            · have h := pt_f (k := k17) c21 h
              refine lv_iconst (v := 0) hx hb dX0_goDay_135 (by decide) ?_
              exact hk17 _ _ h (lv_sub hl [0, 1] rfl)
            · have h := pt_t (k := k17) c21 h
              refine lv_aload_n hx hb dX0_goDay_128 rfl (lv_at hl 0 rfl) ?_
              refine X0_getF hx hb hts hown hK hO 2 (by decide) rfl (hts _ q166) dX0_goDay_129 ?_
              refine lv_goto (tgt := 136) hx hb dX0_goDay_132 (by decide) ?_
              exact hk17 _ _ h (lv_sub hl [0, 1] rfl)
      exact key22 FU _ _ _ _ _ h hO hS (lv_sub hl [1, 0] rfl)
    have key38 : ∀ (f : Nat) (v1 : Int32) (z : GS) (H : Heap) (locs : List Loc) (ls : Array Slot), FX0_goDay_L29 k5 f v1 z = some zq → OC D aC A o la z H → va_S A s.heap H locs → lv_has ls 3 [(0, .ref o), (1, .int v1)] → W p l e ({ frames := 202, cells := 0, slots := 0, locals := 20045 }) s m ([.ref o] : List Value).toArray below meth c H locs 0 0 (MQ below (QG none (OC D aC A o la zq) A) ([.ref o] : List Value).toArray s 0 0 A) (F0 m 29 ls []) := by
      intro f
      induction f with
      | zero =>
        intro v1 z H locs ls h
        rw [FX0_goDay_L29] at h
        cases h
      | succ f ih24 =>
        intro v1 z H locs ls h hO hS hl
        rw [FX0_goDay_L29] at h
        refine lv_iload_n hx hb dX0_goDay_29 rfl (lv_at hl 1 rfl) ?_
        refine lv_aload_n hx hb dX0_goDay_30 rfl (lv_at hl 0 rfl) ?_
        refine X0_getF hx hb hts hown hK hO 1 (by decide) rfl (hts _ q165) dX0_goDay_31 ?_
        refine lv_icmp_ge (tgt := 81) hx hb dX0_goDay_34 (by decide) (fun c25 => ?_) (fun c25 => ?_)
        · have h := it_t c25 h
          exact hk5 _ _ _ _ h hO hS (lv_sub hl [0] rfl)
        · have h := it_f c25 h
          refine lv_aload_n hx hb dX0_goDay_37 rfl (lv_at hl 0 rfl) ?_
          refine lv_iload_n hx hb dX0_goDay_38 rfl (lv_at hl 1 rfl) ?_
          obtain ⟨r26, z27, e28, h⟩ := bnd_e h
          refine clX0_comesFrom hf hK hO hA hZ hS (metX0_comesFrom l D aC A o la v1 z r26 z27 e28) q813 hl.1 (Nat.le_of_ble_eq_true rfl) ⟨Nat.le_of_ble_eq_true rfl, Nat.le_of_ble_eq_true rfl⟩ ⟨Nat.le_of_ble_eq_true rfl, Nat.le_of_ble_eq_true rfl⟩ dX0_goDay_39 (fun H locs hO hS => ?_)
          refine lv_istore_n (lv' := [(2, .int r26), (0, .ref o), (1, .int v1)]) hx hb dX0_goDay_42 rfl hl (by decide) rfl (fun ls hl => ?_)
          refine lv_iload_n hx hb dX0_goDay_43 rfl (lv_at hl 0 rfl) ?_
          obtain ⟨k29, e37, h⟩ := pin_nm h
          have hk29 : ∀  (z30 : GS) (H : Heap) (locs : List Loc) (ls : Array Slot), k29  z30 = some zq → OC D aC A o la z30 H → va_S A s.heap H locs → lv_has ls 3 [(0, .ref o), (1, .int v1)] → W p l e ({ frames := 202, cells := 0, slots := 0, locals := 20045 }) s m ([.ref o] : List Value).toArray below meth c H locs 0 0 (MQ below (QG none (OC D aC A o la zq) A) ([.ref o] : List Value).toArray s 0 0 A) (F0 m 75 ls []) := by
            intro  z30 H locs ls h hO hS hl
            rw [e37] at h
            refine lv_iinc (v := (v1 + 1)) (lv' := [(1, .int (v1 + 1)), (0, .ref o)]) hx hb dX0_goDay_75 hl (k := 1) rfl rfl (by decide) rfl (fun ls hl => ?_)
            refine lv_goto (tgt := 29) hx hb dX0_goDay_78 (by decide) ?_
            exact ih24 _ _ _ _ _ h hO hS (lv_sub hl [1, 0] rfl)
          refine lv_if_ne (tgt := 50) hx hb dX0_goDay_44 (by decide) (fun c31 => ?_) (fun c31 => ?_)
          · have h := it_f c31 h
            refine lv_aload_n hx hb dX0_goDay_50 rfl (lv_at hl 1 rfl) ?_
            refine X0_getA hx hb hts hown hK hO 13 (by decide) (Or.inl rfl) (hts _ q179) dX0_goDay_51 ?_
            refine lv_aload_n hx hb dX0_goDay_54 rfl (lv_at hl 1 rfl) ?_
            refine X0_getA hx hb hts hown hK hO 12 (by decide) (Or.inl rfl) (hts _ q178) dX0_goDay_55 ?_
            refine lv_iload_n hx hb dX0_goDay_58 rfl (lv_at hl 2 rfl) ?_
            obtain ⟨g32, h⟩ := grd h
            refine X0_iaload hx hb hK hO 12 (by decide) rfl rfl g32 dX0_goDay_59 ?_
            refine lv_dup2_11 hx hb dX0_goDay_60 rfl rfl ?_
            obtain ⟨g33, h⟩ := grd h
            refine X0_iaload hx hb hK hO 13 (by decide) rfl rfl g33 dX0_goDay_61 ?_
            refine lv_iload_n hx hb dX0_goDay_62 rfl (lv_at hl 0 rfl) ?_
            refine lv_iadd hx hb dX0_goDay_63 ?_
            obtain ⟨g34, h⟩ := grd h
            refine X0_iastore hx hb hK hO hS 13 (by decide) rfl rfl g34 dX0_goDay_64 (fun H locs z35 ez35 hO hS => ?_)
            have h := pin_to ez35 h
            refine lv_aload_n hx hb dX0_goDay_65 rfl (lv_at hl 1 rfl) ?_
            refine lv_dup hx hb dX0_goDay_66 rfl ?_
            refine X0_getF hx hb hts hown hK hO 17 (by decide) rfl (hts _ q183) dX0_goDay_67 ?_
            refine lv_iload_n hx hb dX0_goDay_70 rfl (lv_at hl 0 rfl) ?_
            refine lv_iadd hx hb dX0_goDay_71 ?_
            refine X0_putF hx hb hts hown hK hO hS 17 (by decide) rfl (by decide) (by decide) (hts _ q183) rfl (ty := .int) rfl rfl rfl dX0_goDay_72 (fun H locs z36 ez36 hO hS => ?_)
            have h := pin_to ez36 h
            exact hk29 _ _ _ _ h hO hS (lv_sub hl [1, 2] rfl)
          · have h := it_t c31 h
            refine lv_goto (tgt := 75) hx hb dX0_goDay_47 (by decide) ?_
            exact hk29 _ _ _ _ h hO hS (lv_sub hl [1, 2] rfl)
    exact key38 FU _ _ _ _ _ h hO hS (lv_sub hl [1, 0] rfl)
  have key44 : ∀ (f : Nat) (v1 : Int32) (z : GS) (H : Heap) (locs : List Loc) (ls : Array Slot), FX0_goDay_L6 k3 f v1 z = some zq → OC D aC A o la z H → va_S A s.heap H locs → lv_has ls 3 [(0, .ref o), (1, .int v1)] → W p l e ({ frames := 202, cells := 0, slots := 0, locals := 20045 }) s m ([.ref o] : List Value).toArray below meth c H locs 0 0 (MQ below (QG none (OC D aC A o la zq) A) ([.ref o] : List Value).toArray s 0 0 A) (F0 m 6 ls []) := by
    intro f
    induction f with
    | zero =>
      intro v1 z H locs ls h
      rw [FX0_goDay_L6] at h
      cases h
    | succ f ih40 =>
      intro v1 z H locs ls h hO hS hl
      rw [FX0_goDay_L6] at h
      refine lv_iload_n hx hb dX0_goDay_6 rfl (lv_at hl 1 rfl) ?_
      refine lv_aload_n hx hb dX0_goDay_7 rfl (lv_at hl 0 rfl) ?_
      refine X0_getF hx hb hts hown hK hO 1 (by decide) rfl (hts _ q165) dX0_goDay_8 ?_
      refine lv_icmp_ge (tgt := 27) hx hb dX0_goDay_11 (by decide) (fun c41 => ?_) (fun c41 => ?_)
      · have h := it_t c41 h
        exact hk3 _ _ _ _ h hO hS (lv_sub hl [0] rfl)
      · have h := it_f c41 h
        refine lv_aload_n hx hb dX0_goDay_14 rfl (lv_at hl 0 rfl) ?_
        refine X0_getA hx hb hts hown hK hO 13 (by decide) (Or.inl rfl) (hts _ q179) dX0_goDay_15 ?_
        refine lv_iload_n hx hb dX0_goDay_18 rfl (lv_at hl 1 rfl) ?_
        refine lv_iconst (v := 0) hx hb dX0_goDay_19 (by decide) ?_
        obtain ⟨g42, h⟩ := grd h
        refine X0_iastore hx hb hK hO hS 13 (by decide) rfl rfl g42 dX0_goDay_20 (fun H locs z43 ez43 hO hS => ?_)
        have h := pin_to ez43 h
        refine lv_iinc (v := (v1 + 1)) (lv' := [(1, .int (v1 + 1)), (0, .ref o)]) hx hb dX0_goDay_21 hl (k := 1) rfl rfl (by decide) rfl (fun ls hl => ?_)
        refine lv_goto (tgt := 6) hx hb dX0_goDay_24 (by decide) ?_
        exact ih40 _ _ _ _ _ h hO hS (lv_sub hl [1, 0] rfl)
  exact key44 FU _ _ _ _ _ h hO hS (lv_sub hl [1, 0] rfl)
theorem clX0_goDay {p : Program} {l : Launch} {e : Env} {R : Room} {s : State} {m : MethodId} {args : Array Value} {below : List Frame} {meth : Method} {c : Code} {H : Heap} {locs : List Loc} {cells slots : Nat} {Q : State → Prop} {cc : ByteArray} {pc nL idx fr lo : Nat} {ls : Array Slot} {rest : List Value} {own : String} {D : va_G} {aC : Nat → ClassId} {A : Nat → Prop} {o : Nat} {la : LC} {z : GS} {zq : GS}   (hf : CallFix p m c cc nL s args lw_all own) (hK : KC D aC s) (hO : OC D aC A o la z H) (hA : ∀ q : Nat, s.heap.size ≤ q → A q) (hZ : ZX A s s.heap) (hS : va_S A s.heap H locs) (hM : Met l yX0_goDay (ws_ yX0_goDay cX0_goDay 3 none) ({ frames := fr, cells := 0, slots := 0, locals := lo }) (va_Pc [.ref o] (PC D aC A o la z)) (QG none (OC D aC A o la zq) A) 0 0 A) (hq : Cond.methodLink own idx yX0_goDay ∈ lw_all) (hs : ls.size = nL) (hr : (rest.map fun v => v.category).sum ≤ 8) (hR : fr + 1 ≤ R.frames ∧ 8 + (3 + 11) + lo ≤ R.locals) (hcs : cells + 0 ≤ R.cells ∧ slots + 0 ≤ R.slots) (hd : decode cc pc = .ok (.invokevirtual idx, 3)) (kk : ∀ (H1 : Heap) (locs1 : List Loc), OC D aC A o la zq H1 → va_S A s.heap H1 locs1 → W p l e R s m args below meth c H1 locs1 cells slots Q (F0 m (pc + 3) ls (rest))) : W p l e R s m args below meth c H locs cells slots Q (F0 m pc ls (.ref o :: rest)) :=
  g_callG (W.runV (As := []) (rest := rest) hf hM (cwV 0 hf.2.2.2.2 (lw_V hq q870 qs27 q90 q871) rfl rfl rfl (by decide +kernel) hR) ⟨PC.blind, OC.recv hK hO, fun U hU hW => ⟨rfl, PC.at hO hK hA hZ hS hU hW⟩⟩ rfl rfl hs rfl (lv_room hr) hd hcs) hS (fun H1 locs1 hP hS _ _ => kk H1 locs1 hP hS)
theorem metX0_goDays (l : Launch) (D : va_G) (aC : Nat → ClassId) (A : Nat → Prop) (o : Nat) (la : LC) (x1 : Int32) (z : GS)  (zq : GS) (h : FX0_goDays x1 z = some zq) : Met l yX0_goDays (ws_ yX0_goDays cX0_goDays 3 none) ({ frames := 203, cells := 0, slots := 0, locals := 20067 }) (va_Pc [.ref o, .int x1] (PC D aC A o la z)) (QG none (OC D aC A o la zq) A) 0 0 A := by
  refine g_ofW (cc := cX0_goDays) (maxL := 3) (ret := none) (own := RX0) (by decide) rfl rfl [.ref o, .int x1] (PC D aC A o la z) (Nat.le_of_ble_eq_true rfl) ?_
  intro p e s m below meth c ls hx hb hr hml hts hown hlocks hnm hPre hl
  obtain ⟨hO, hK, hA, hZ⟩ := hPre
  have hf : CallFix p m c cX0_goDays 3 s _ lw_all RX0 := ⟨hx, hb, hml, hown, hts⟩
  have hl : lv_has ls 3 [(0, .ref o), (1, .int x1)] := hl
  refine g_open (A := A) (OC D aC A o la z) hO (fun H locs hO hS => ?_)
  unfold FX0_goDays at h
  refine lv_iconst (v := 0) hx hb dX0_goDays_0 (by decide) ?_
  refine lv_istore_n (lv' := [(2, .int 0), (0, .ref o), (1, .int x1)]) hx hb dX0_goDays_1 rfl hl (by decide) rfl (fun ls hl => ?_)
  have key5 : ∀ (f : Nat) (v2 : Int32) (z : GS) (H : Heap) (locs : List Loc) (ls : Array Slot), FX0_goDays_L2 x1 f v2 z = some zq → OC D aC A o la z H → va_S A s.heap H locs → lv_has ls 3 [(0, .ref o), (1, .int x1), (2, .int v2)] → W p l e ({ frames := 203, cells := 0, slots := 0, locals := 20067 }) s m ([.ref o, .int x1] : List Value).toArray below meth c H locs 0 0 (MQ below (QG none (OC D aC A o la zq) A) ([.ref o, .int x1] : List Value).toArray s 0 0 A) (F0 m 2 ls []) := by
    intro f
    induction f with
    | zero =>
      intro v2 z H locs ls h
      rw [FX0_goDays_L2] at h
      cases h
    | succ f ih1 =>
      intro v2 z H locs ls h hO hS hl
      rw [FX0_goDays_L2] at h
      refine lv_iload_n hx hb dX0_goDays_2 rfl (lv_at hl 2 rfl) ?_
      refine lv_iload_n hx hb dX0_goDays_3 rfl (lv_at hl 1 rfl) ?_
      refine lv_icmp_ge (tgt := 17) hx hb dX0_goDays_4 (by decide) (fun c2 => ?_) (fun c2 => ?_)
      · have h := it_t c2 h
        cases Option.some.inj h
        exact g_retGv hx hb hr hlocks hO hS dX0_goDays_17
      · have h := it_f c2 h
        refine lv_aload_n hx hb dX0_goDays_7 rfl (lv_at hl 0 rfl) ?_
        obtain ⟨z3, e4, h⟩ := bn1_e h
        refine clX0_goDay hf hK hO hA hZ hS (metX0_goDay l D aC A o la z z3 e4) q868 hl.1 (Nat.le_of_ble_eq_true rfl) ⟨Nat.le_of_ble_eq_true rfl, Nat.le_of_ble_eq_true rfl⟩ ⟨Nat.le_of_ble_eq_true rfl, Nat.le_of_ble_eq_true rfl⟩ dX0_goDays_8 (fun H locs hO hS => ?_)
        refine lv_iinc (v := (v2 + 1)) (lv' := [(2, .int (v2 + 1)), (0, .ref o), (1, .int x1)]) hx hb dX0_goDays_11 hl (k := 2) rfl rfl (by decide) rfl (fun ls hl => ?_)
        refine lv_goto (tgt := 2) hx hb dX0_goDays_14 (by decide) ?_
        exact ih1 _ _ _ _ _ h hO hS (lv_sub hl [1, 2, 0] rfl)
  exact key5 FU _ _ _ _ _ h hO hS (lv_sub hl [1, 2, 0] rfl)
theorem clX0_goDays {p : Program} {l : Launch} {e : Env} {R : Room} {s : State} {m : MethodId} {args : Array Value} {below : List Frame} {meth : Method} {c : Code} {H : Heap} {locs : List Loc} {cells slots : Nat} {Q : State → Prop} {cc : ByteArray} {pc nL idx fr lo : Nat} {ls : Array Slot} {rest : List Value} {own : String} {D : va_G} {aC : Nat → ClassId} {A : Nat → Prop} {o : Nat} {la : LC} {z : GS} {zq : GS} {x1 : Int32}  (hf : CallFix p m c cc nL s args lw_all own) (hK : KC D aC s) (hO : OC D aC A o la z H) (hA : ∀ q : Nat, s.heap.size ≤ q → A q) (hZ : ZX A s s.heap) (hS : va_S A s.heap H locs) (hM : Met l yX0_goDays (ws_ yX0_goDays cX0_goDays 3 none) ({ frames := fr, cells := 0, slots := 0, locals := lo }) (va_Pc [.ref o, .int x1] (PC D aC A o la z)) (QG none (OC D aC A o la zq) A) 0 0 A) (hq : Cond.methodLink own idx yX0_goDays ∈ lw_all) (hs : ls.size = nL) (hr : (rest.map fun v => v.category).sum ≤ 8) (hR : fr + 1 ≤ R.frames ∧ 8 + (3 + 11) + lo ≤ R.locals) (hcs : cells + 0 ≤ R.cells ∧ slots + 0 ≤ R.slots) (hd : decode cc pc = .ok (.invokevirtual idx, 3)) (kk : ∀ (H1 : Heap) (locs1 : List Loc), OC D aC A o la zq H1 → va_S A s.heap H1 locs1 → W p l e R s m args below meth c H1 locs1 cells slots Q (F0 m (pc + 3) ls (rest))) : W p l e R s m args below meth c H locs cells slots Q (F0 m pc ls (.int x1 :: .ref o :: rest)) :=
  g_callG (W.runV (As := [.int x1]) (rest := rest) hf hM (cwV 1 hf.2.2.2.2 (lw_V hq q866 qs26 q90 q867) rfl rfl rfl (by decide +kernel) hR) ⟨PC.blind, OC.recv hK hO, fun U hU hW => ⟨rfl, PC.at hO hK hA hZ hS hU hW⟩⟩ rfl rfl hs rfl (lv_room hr) hd hcs) hS (fun H1 locs1 hP hS _ _ => kk H1 locs1 hP hS)
theorem metX0_allStore (l : Launch) (D : va_G) (aC : Nat → ClassId) (A : Nat → Prop) (o : Nat) (la : LC)  (z : GS) (r : Int32) (h : FX0_allStore z = some r) : Met l yX0_allStore (ws_ yX0_allStore cX0_allStore 3 (some .int)) ({ frames := 0, cells := 0, slots := 0, locals := 0 }) (va_Pc [.ref o] (PC D aC A o la z)) (QR (some (.int r))) 0 0 (fun _ => False) := by
  refine g_ofW (cc := cX0_allStore) (maxL := 3) (ret := (some .int)) (own := RX0) (by decide) rfl rfl [.ref o] (PC D aC A o la z) (Nat.le_of_ble_eq_true rfl) ?_
  intro p e s m below meth c ls hx hb hr hml hts hown hlocks hnm hPre hl
  obtain ⟨hO, hK, hA, hZ⟩ := hPre
  have hf : CallFix p m c cX0_allStore 3 s _ lw_all RX0 := ⟨hx, hb, hml, hown, hts⟩
  have hl : lv_has ls 3 [(0, .ref o)] := hl
  have hS : va_S A s.heap s.heap [] := va_S.rf
  unfold FX0_allStore at h
  refine lv_iconst (v := 0) hx hb dX0_allStore_0 (by decide) ?_
  refine lv_istore_n (lv' := [(1, .int 0), (0, .ref o)]) hx hb dX0_allStore_1 rfl hl (by decide) rfl (fun ls hl => ?_)
  refine lv_iconst (v := 0) hx hb dX0_allStore_2 (by decide) ?_
  refine lv_istore_n (lv' := [(2, .int 0), (1, .int 0), (0, .ref o)]) hx hb dX0_allStore_3 rfl hl (by decide) rfl (fun ls hl => ?_)
  have key5 : ∀ (f : Nat) (v1 : Int32) (v2 : Int32) (ls : Array Slot), FX0_allStore_L4 z f v1 v2 = some r → lv_has ls 3 [(0, .ref o), (1, .int v1), (2, .int v2)] → W p l e ({ frames := 0, cells := 0, slots := 0, locals := 0 }) s m ([.ref o] : List Value).toArray below meth c s.heap [] 0 0 (MQ below (QR (some (.int r))) ([.ref o] : List Value).toArray s 0 0 (fun _ => False)) (F0 m 4 ls []) := by
    intro f
    induction f with
    | zero =>
      intro v1 v2 ls h
      rw [FX0_allStore_L4] at h
      cases h
    | succ f ih1 =>
      intro v1 v2 ls h hl
      rw [FX0_allStore_L4] at h
      refine lv_iload_n hx hb dX0_allStore_4 rfl (lv_at hl 2 rfl) ?_
      refine lv_aload_n hx hb dX0_allStore_5 rfl (lv_at hl 0 rfl) ?_
      refine X0_getF hx hb hts hown hK hO 1 (by decide) rfl (hts _ q165) dX0_allStore_6 ?_
      refine lv_icmp_ge (tgt := 27) hx hb dX0_allStore_9 (by decide) (fun c2 => ?_) (fun c2 => ?_)
      · have h := it_t c2 h
        refine lv_iload_n hx hb dX0_allStore_27 rfl (lv_at hl 1 rfl) ?_
        exact g_retR hx hb hr hlocks (Option.some.inj h) dX0_allStore_28
      · have h := it_f c2 h
        refine lv_iload_n hx hb dX0_allStore_12 rfl (lv_at hl 1 rfl) ?_
        refine lv_aload_n hx hb dX0_allStore_13 rfl (lv_at hl 0 rfl) ?_
        refine X0_getA hx hb hts hown hK hO 11 (by decide) (Or.inl rfl) (hts _ q177) dX0_allStore_14 ?_
        refine lv_iload_n hx hb dX0_allStore_17 rfl (lv_at hl 2 rfl) ?_
        obtain ⟨g3, h⟩ := grd h
        refine X0_iaload hx hb hK hO 11 (by decide) rfl rfl g3 dX0_allStore_18 ?_
        refine lv_iadd hx hb dX0_allStore_19 ?_
        refine lv_topi (fun y4 ey4 => ?_)
        have h := pin_to ey4 h
        refine lv_istore_n (lv' := [(1, .int y4), (0, .ref o), (2, .int v2)]) hx hb dX0_allStore_20 rfl hl (by decide) rfl (fun ls hl => ?_)
        refine lv_iinc (v := (v2 + 1)) (lv' := [(2, .int (v2 + 1)), (1, .int y4), (0, .ref o)]) hx hb dX0_allStore_21 hl (k := 2) rfl rfl (by decide) rfl (fun ls hl => ?_)
        refine lv_goto (tgt := 4) hx hb dX0_allStore_24 (by decide) ?_
        exact ih1 _ _ _ h (lv_sub hl [2, 1, 0] rfl)
  exact key5 FU _ _ _ h (lv_sub hl [2, 1, 0] rfl)
theorem clX0_allStore {p : Program} {l : Launch} {e : Env} {R : Room} {s : State} {m : MethodId} {args : Array Value} {below : List Frame} {meth : Method} {c : Code} {H : Heap} {locs : List Loc} {cells slots : Nat} {Q : State → Prop} {cc : ByteArray} {pc nL idx fr lo : Nat} {ls : Array Slot} {rest : List Value} {own : String} {D : va_G} {aC : Nat → ClassId} {A : Nat → Prop} {o : Nat} {la : LC} {z : GS}  {r : Int32} (hf : CallFix p m c cc nL s args lw_all own) (hK : KC D aC s) (hO : OC D aC A o la z H) (hA : ∀ q : Nat, s.heap.size ≤ q → A q) (hZ : ZX A s s.heap) (hS : va_S A s.heap H locs) (hM : Met l yX0_allStore (ws_ yX0_allStore cX0_allStore 3 (some .int)) ({ frames := fr, cells := 0, slots := 0, locals := lo }) (va_Pc [.ref o] (PC D aC A o la z)) (QR (some (.int r))) 0 0 (fun _ => False)) (hq : Cond.methodLink own idx yX0_allStore ∈ lw_all) (hs : ls.size = nL) (hr : (rest.map fun v => v.category).sum ≤ 8) (hR : fr + 1 ≤ R.frames ∧ 8 + (3 + 11) + lo ≤ R.locals) (hcs : cells + 0 ≤ R.cells ∧ slots + 0 ≤ R.slots) (hd : decode cc pc = .ok (.invokevirtual idx, 3)) (kk : W p l e R s m args below meth c H locs cells slots Q (F0 m (pc + 3) ls (.int r :: rest))) : W p l e R s m args below meth c H locs cells slots Q (F0 m pc ls (.ref o :: rest)) :=
  g_callR (W.runV (As := []) (rest := rest) hf hM (cwV 0 hf.2.2.2.2 (lw_V hq q877 qs28 q90 q878) rfl rfl rfl (by decide +kernel) hR) ⟨PC.blind, OC.recv hK hO, fun U hU hW => ⟨rfl, PC.at hO hK hA hZ hS hU hW⟩⟩ rfl rfl hs rfl (lv_room hr) hd hcs) kk
theorem metX0_later (l : Launch) (D : va_G) (aC : Nat → ClassId) (A : Nat → Prop) (o : Nat) (la : LC) (x1 : Int32) (x2 : Int32) (z : GS) (r : Int32) (zq : GS) (h : FX0_later x1 x2 z = some (r, zq)) : Met l yX0_later (ws_ yX0_later cX0_later 3 (some .int)) ({ frames := 204, cells := 0, slots := 0, locals := 20089 }) (va_Pc [.ref o, .int x1, .int x2] (PC D aC A o la z)) (QG (some (.int r)) (OC D aC A o la zq) A) 0 0 A := by
  refine g_ofW (cc := cX0_later) (maxL := 3) (ret := (some .int)) (own := RX0) (by decide) rfl rfl [.ref o, .int x1, .int x2] (PC D aC A o la z) (Nat.le_of_ble_eq_true rfl) ?_
  intro p e s m below meth c ls hx hb hr hml hts hown hlocks hnm hPre hl
  obtain ⟨hO, hK, hA, hZ⟩ := hPre
  have hf : CallFix p m c cX0_later 3 s _ lw_all RX0 := ⟨hx, hb, hml, hown, hts⟩
  have hl : lv_has ls 3 [(0, .ref o), (1, .int x1), (2, .int x2)] := hl
  refine g_open (A := A) (OC D aC A o la z) hO (fun H locs hO hS => ?_)
  unfold FX0_later at h
  refine lv_iload_n hx hb dX0_later_0 rfl (lv_at hl 1 rfl) ?_
  refine clX0_areDays hf (metX0_areDays l x1 _ rfl) q861 hl.1 (Nat.le_of_ble_eq_true rfl) ⟨Nat.le_of_ble_eq_true rfl, Nat.le_of_ble_eq_true rfl⟩ ⟨Nat.le_of_ble_eq_true rfl, Nat.le_of_ble_eq_true rfl⟩ dX0_later_1 ?_
  refine lv_if_eq (tgt := 21) hx hb dX0_later_4 (by decide) (fun c1 => ?_) (fun c1 => ?_)
  · have h := it_t c1 h
    refine lv_iconst (v := (-1)) hx hb dX0_later_21 (by decide) ?_
    obtain ⟨e8, rfl⟩ := Prod.mk.inj (Option.some.inj h)
    exact g_retG hx hb hr hlocks e8 hO hS dX0_later_22
  · have h := it_f c1 h
    refine lv_iload_n hx hb dX0_later_7 rfl (lv_at hl 2 rfl) ?_
    refine lv_iconst (v := (-1)) hx hb dX0_later_8 (by decide) ?_
    refine lv_aload_n hx hb dX0_later_9 rfl (lv_at hl 0 rfl) ?_
    refine X0_getF hx hb hts hown hK hO 1 (by decide) rfl (hts _ q165) dX0_later_10 ?_
    refine lv_iconst (v := 1) hx hb dX0_later_13 (by decide) ?_
    refine lv_isub hx hb dX0_later_14 ?_
    refine clX0_in hf (metX0_in l x2 (-1) ((gF z 1) - 1) _ rfl) q309 hl.1 (Nat.le_of_ble_eq_true rfl) ⟨Nat.le_of_ble_eq_true rfl, Nat.le_of_ble_eq_true rfl⟩ ⟨Nat.le_of_ble_eq_true rfl, Nat.le_of_ble_eq_true rfl⟩ dX0_later_15 ?_
    refine lv_if_ne (tgt := 23) hx hb dX0_later_18 (by decide) (fun c2 => ?_) (fun c2 => ?_)
    · have h := it_f c2 h
      refine lv_aload_n hx hb dX0_later_23 rfl (lv_at hl 0 rfl) ?_
      obtain ⟨z3, e4, h⟩ := bn1_e h
      refine clX0_layNow hf hK hO hA hZ hS (metX0_layNow l D aC A o la z z3 e4) q802 hl.1 (Nat.le_of_ble_eq_true rfl) ⟨Nat.le_of_ble_eq_true rfl, Nat.le_of_ble_eq_true rfl⟩ ⟨Nat.le_of_ble_eq_true rfl, Nat.le_of_ble_eq_true rfl⟩ dX0_later_24 (fun H locs hO hS => ?_)
      refine lv_aload_n hx hb dX0_later_27 rfl (lv_at hl 0 rfl) ?_
      refine lv_iload_n hx hb dX0_later_28 rfl (lv_at hl 1 rfl) ?_
      obtain ⟨z5, e6, h⟩ := bn1_e h
      refine clX0_goDays hf hK hO hA hZ hS (metX0_goDays l D aC A o la x1 z3 z5 e6) q864 hl.1 (Nat.le_of_ble_eq_true rfl) ⟨Nat.le_of_ble_eq_true rfl, Nat.le_of_ble_eq_true rfl⟩ ⟨Nat.le_of_ble_eq_true rfl, Nat.le_of_ble_eq_true rfl⟩ dX0_later_29 (fun H locs hO hS => ?_)
      refine lv_iload_n hx hb dX0_later_32 rfl (lv_at hl 2 rfl) ?_
      refine lv_if_ge (tgt := 43) hx hb dX0_later_33 (by decide) (fun c7 => ?_) (fun c7 => ?_)
      · have h := it_t c7 h
        refine lv_aload_n hx hb dX0_later_43 rfl (lv_at hl 0 rfl) ?_
        refine X0_getA hx hb hts hown hK hO 11 (by decide) (Or.inl rfl) (hts _ q177) dX0_later_44 ?_
        refine lv_iload_n hx hb dX0_later_47 rfl (lv_at hl 2 rfl) ?_
        obtain ⟨g8, h⟩ := grd h
        refine X0_iaload hx hb hK hO 11 (by decide) rfl rfl g8 dX0_later_48 ?_
        obtain ⟨e8, rfl⟩ := Prod.mk.inj (Option.some.inj h)
        exact g_retG hx hb hr hlocks e8 hO hS dX0_later_49
      · have h := it_f c7 h
        refine lv_aload_n hx hb dX0_later_36 rfl (lv_at hl 0 rfl) ?_
        obtain ⟨r9, e10, h⟩ := bn1_e h
        refine clX0_allStore hf hK hO hA hZ hS (metX0_allStore l D aC A o la z5 r9 e10) q875 hl.1 (Nat.le_of_ble_eq_true rfl) ⟨Nat.le_of_ble_eq_true rfl, Nat.le_of_ble_eq_true rfl⟩ ⟨Nat.le_of_ble_eq_true rfl, Nat.le_of_ble_eq_true rfl⟩ dX0_later_37 ?_
        refine lv_goto (tgt := 49) hx hb dX0_later_40 (by decide) ?_
        obtain ⟨e8, rfl⟩ := Prod.mk.inj (Option.some.inj h)
        exact g_retG hx hb hr hlocks e8 hO hS dX0_later_49
    · have h := it_t c2 h
      refine lv_iconst (v := (-1)) hx hb dX0_later_21 (by decide) ?_
      obtain ⟨e8, rfl⟩ := Prod.mk.inj (Option.some.inj h)
      exact g_retG hx hb hr hlocks e8 hO hS dX0_later_22
theorem clX0_later {p : Program} {l : Launch} {e : Env} {R : Room} {s : State} {m : MethodId} {args : Array Value} {below : List Frame} {meth : Method} {c : Code} {H : Heap} {locs : List Loc} {cells slots : Nat} {Q : State → Prop} {cc : ByteArray} {pc nL idx fr lo : Nat} {ls : Array Slot} {rest : List Value} {own : String} {D : va_G} {aC : Nat → ClassId} {A : Nat → Prop} {o : Nat} {la : LC} {z : GS} {zq : GS} {x1 : Int32} {x2 : Int32} {r : Int32} (hf : CallFix p m c cc nL s args lw_all own) (hK : KC D aC s) (hO : OC D aC A o la z H) (hA : ∀ q : Nat, s.heap.size ≤ q → A q) (hZ : ZX A s s.heap) (hS : va_S A s.heap H locs) (hM : Met l yX0_later (ws_ yX0_later cX0_later 3 (some .int)) ({ frames := fr, cells := 0, slots := 0, locals := lo }) (va_Pc [.ref o, .int x1, .int x2] (PC D aC A o la z)) (QG (some (.int r)) (OC D aC A o la zq) A) 0 0 A) (hq : Cond.methodLink own idx yX0_later ∈ lw_all) (hs : ls.size = nL) (hr : (rest.map fun v => v.category).sum ≤ 8) (hR : fr + 1 ≤ R.frames ∧ 8 + (3 + 11) + lo ≤ R.locals) (hcs : cells + 0 ≤ R.cells ∧ slots + 0 ≤ R.slots) (hd : decode cc pc = .ok (.invokevirtual idx, 3)) (kk : ∀ (H1 : Heap) (locs1 : List Loc), OC D aC A o la zq H1 → va_S A s.heap H1 locs1 → W p l e R s m args below meth c H1 locs1 cells slots Q (F0 m (pc + 3) ls (.int r :: rest))) : W p l e R s m args below meth c H locs cells slots Q (F0 m pc ls (.int x2 :: .int x1 :: .ref o :: rest)) :=
  g_callG (W.runV (As := [.int x1, .int x2]) (rest := rest) hf hM (cwV 2 hf.2.2.2.2 (lw_V hq q858 q859 q90 q860) rfl rfl rfl (by decide +kernel) hR) ⟨PC.blind, OC.recv hK hO, fun U hU hW => ⟨rfl, PC.at hO hK hA hZ hS hU hW⟩⟩ rfl rfl hs rfl (lv_room hr) hd hcs) hS (fun H1 locs1 hP hS _ _ => kk H1 locs1 hP hS)
theorem metX0_lackBits (l : Launch) (D : va_G) (aC : Nat → ClassId) (A : Nat → Prop) (o : Nat) (la : LC)  (z : GS) (r : Int32) (h : FX0_lackBits z = some r) : Met l yX0_lackBits (ws_ yX0_lackBits cX0_lackBits 3 (some .int)) ({ frames := 1, cells := 0, slots := 0, locals := 21 }) (va_Pc [.ref o] (PC D aC A o la z)) (QR (some (.int r))) 0 0 (fun _ => False) := by
  refine g_ofW (cc := cX0_lackBits) (maxL := 3) (ret := (some .int)) (own := RX0) (by decide) rfl rfl [.ref o] (PC D aC A o la z) (Nat.le_of_ble_eq_true rfl) ?_
  intro p e s m below meth c ls hx hb hr hml hts hown hlocks hnm hPre hl
  obtain ⟨hO, hK, hA, hZ⟩ := hPre
  have hf : CallFix p m c cX0_lackBits 3 s _ lw_all RX0 := ⟨hx, hb, hml, hown, hts⟩
  have hl : lv_has ls 3 [(0, .ref o)] := hl
  have hS : va_S A s.heap s.heap [] := va_S.rf
  unfold FX0_lackBits at h
  refine lv_iconst (v := 0) hx hb dX0_lackBits_0 (by decide) ?_
  refine lv_istore_n (lv' := [(1, .int 0), (0, .ref o)]) hx hb dX0_lackBits_1 rfl hl (by decide) rfl (fun ls hl => ?_)
  refine lv_iconst (v := 0) hx hb dX0_lackBits_2 (by decide) ?_
  refine lv_istore_n (lv' := [(2, .int 0), (1, .int 0), (0, .ref o)]) hx hb dX0_lackBits_3 rfl hl (by decide) rfl (fun ls hl => ?_)
  have key10 : ∀ (f : Nat) (v1 : Int32) (v2 : Int32) (ls : Array Slot), FX0_lackBits_L4 z f v1 v2 = some r → lv_has ls 3 [(0, .ref o), (1, .int v1), (2, .int v2)] → W p l e ({ frames := 1, cells := 0, slots := 0, locals := 21 }) s m ([.ref o] : List Value).toArray below meth c s.heap [] 0 0 (MQ below (QR (some (.int r))) ([.ref o] : List Value).toArray s 0 0 (fun _ => False)) (F0 m 4 ls []) := by
    intro f
    induction f with
    | zero =>
      intro v1 v2 ls h
      rw [FX0_lackBits_L4] at h
      cases h
    | succ f ih1 =>
      intro v1 v2 ls h hl
      rw [FX0_lackBits_L4] at h
      refine lv_iload_n hx hb dX0_lackBits_4 rfl (lv_at hl 2 rfl) ?_
      refine lv_aload_n hx hb dX0_lackBits_5 rfl (lv_at hl 0 rfl) ?_
      refine X0_getF hx hb hts hown hK hO 1 (by decide) rfl (hts _ q165) dX0_lackBits_6 ?_
      refine lv_icmp_ge (tgt := 44) hx hb dX0_lackBits_9 (by decide) (fun c2 => ?_) (fun c2 => ?_)
      · have h := it_t c2 h
        refine lv_iload_n hx hb dX0_lackBits_44 rfl (lv_at hl 1 rfl) ?_
        exact g_retR hx hb hr hlocks (Option.some.inj h) dX0_lackBits_45
      · have h := it_f c2 h
        refine lv_aload_n hx hb dX0_lackBits_12 rfl (lv_at hl 0 rfl) ?_
        refine X0_getF hx hb hts hown hK hO 16 (by decide) rfl (hts _ q182) dX0_lackBits_13 ?_
        refine lv_iload_n hx hb dX0_lackBits_16 rfl (lv_at hl 2 rfl) ?_
        refine clX0_has hf (metX0_has l (gF z 16) v2 _ rfl) q810 hl.1 (Nat.le_of_ble_eq_true rfl) ⟨Nat.le_of_ble_eq_true rfl, Nat.le_of_ble_eq_true rfl⟩ ⟨Nat.le_of_ble_eq_true rfl, Nat.le_of_ble_eq_true rfl⟩ dX0_lackBits_17 ?_
        obtain ⟨k3, e9, h⟩ := pin_nm h
        have hk3 : ∀ (v4 : Int32) (ls : Array Slot), k3 v4 = some r → lv_has ls 3 [(0, .ref o), (1, .int v4), (2, .int v2)] → W p l e ({ frames := 1, cells := 0, slots := 0, locals := 21 }) s m ([.ref o] : List Value).toArray below meth c s.heap [] 0 0 (MQ below (QR (some (.int r))) ([.ref o] : List Value).toArray s 0 0 (fun _ => False)) (F0 m 38 ls []) := by
          intro v4 ls h hl
          rw [e9] at h
          refine lv_iinc (v := (v2 + 1)) (lv' := [(2, .int (v2 + 1)), (0, .ref o), (1, .int v4)]) hx hb dX0_lackBits_38 hl (k := 2) rfl rfl (by decide) rfl (fun ls hl => ?_)
          refine lv_goto (tgt := 4) hx hb dX0_lackBits_41 (by decide) ?_
          exact ih1 _ _ _ h (lv_sub hl [1, 2, 0] rfl)
        refine lv_if_eq (tgt := 38) hx hb dX0_lackBits_20 (by decide) (fun c5 => ?_) (fun c5 => ?_)
        · have h := it_t c5 h
          exact hk3 _ _ h (lv_sub hl [0, 1, 2] rfl)
        · have h := it_f c5 h
          refine lv_aload_n hx hb dX0_lackBits_23 rfl (lv_at hl 0 rfl) ?_
          refine X0_getA hx hb hts hown hK hO 11 (by decide) (Or.inl rfl) (hts _ q177) dX0_lackBits_24 ?_
          refine lv_iload_n hx hb dX0_lackBits_27 rfl (lv_at hl 2 rfl) ?_
          obtain ⟨g6, h⟩ := grd h
          refine X0_iaload hx hb hK hO 11 (by decide) rfl rfl g6 dX0_lackBits_28 ?_
          refine lv_if_ne (tgt := 38) hx hb dX0_lackBits_29 (by decide) (fun c7 => ?_) (fun c7 => ?_)
          · have h := it_f c7 h
            exact hk3 _ _ h (lv_sub hl [0, 1, 2] rfl)
          · have h := it_t c7 h
            refine lv_iload_n hx hb dX0_lackBits_32 rfl (lv_at hl 1 rfl) ?_
            refine lv_iconst (v := 1) hx hb dX0_lackBits_33 (by decide) ?_
            refine lv_iload_n hx hb dX0_lackBits_34 rfl (lv_at hl 2 rfl) ?_
            refine g_ishl hx hb dX0_lackBits_35 ?_
            refine lv_ior hx hb dX0_lackBits_36 ?_
            refine lv_topi (fun y8 ey8 => ?_)
            have h := pin_to ey8 h
            refine lv_istore_n (lv' := [(1, .int y8), (0, .ref o), (2, .int v2)]) hx hb dX0_lackBits_37 rfl hl (by decide) rfl (fun ls hl => ?_)
            exact hk3 _ _ h (lv_sub hl [1, 0, 2] rfl)
  exact key10 FU _ _ _ h (lv_sub hl [2, 1, 0] rfl)
theorem clX0_lackBits {p : Program} {l : Launch} {e : Env} {R : Room} {s : State} {m : MethodId} {args : Array Value} {below : List Frame} {meth : Method} {c : Code} {H : Heap} {locs : List Loc} {cells slots : Nat} {Q : State → Prop} {cc : ByteArray} {pc nL idx fr lo : Nat} {ls : Array Slot} {rest : List Value} {own : String} {D : va_G} {aC : Nat → ClassId} {A : Nat → Prop} {o : Nat} {la : LC} {z : GS}  {r : Int32} (hf : CallFix p m c cc nL s args lw_all own) (hK : KC D aC s) (hO : OC D aC A o la z H) (hA : ∀ q : Nat, s.heap.size ≤ q → A q) (hZ : ZX A s s.heap) (hS : va_S A s.heap H locs) (hM : Met l yX0_lackBits (ws_ yX0_lackBits cX0_lackBits 3 (some .int)) ({ frames := fr, cells := 0, slots := 0, locals := lo }) (va_Pc [.ref o] (PC D aC A o la z)) (QR (some (.int r))) 0 0 (fun _ => False)) (hq : Cond.methodLink own idx yX0_lackBits ∈ lw_all) (hs : ls.size = nL) (hr : (rest.map fun v => v.category).sum ≤ 8) (hR : fr + 1 ≤ R.frames ∧ 8 + (3 + 11) + lo ≤ R.locals) (hcs : cells + 0 ≤ R.cells ∧ slots + 0 ≤ R.slots) (hd : decode cc pc = .ok (.invokevirtual idx, 3)) (kk : W p l e R s m args below meth c H locs cells slots Q (F0 m (pc + 3) ls (.int r :: rest))) : W p l e R s m args below meth c H locs cells slots Q (F0 m pc ls (.ref o :: rest)) :=
  g_callR (W.runV (As := []) (rest := rest) hf hM (cwV 0 hf.2.2.2.2 (lw_V hq q885 qs29 q90 q886) rfl rfl rfl (by decide +kernel) hR) ⟨PC.blind, OC.recv hK hO, fun U hU hW => ⟨rfl, PC.at hO hK hA hZ hS hU hW⟩⟩ rfl rfl hs rfl (lv_room hr) hd hcs) kk
theorem metX0_lacking (l : Launch) (D : va_G) (aC : Nat → ClassId) (A : Nat → Prop) (o : Nat) (la : LC) (x1 : Int32) (z : GS) (r : Int32) (zq : GS) (h : FX0_lacking x1 z = some (r, zq)) : Met l yX0_lacking (ws_ yX0_lacking cX0_lacking 2 (some .int)) ({ frames := 204, cells := 0, slots := 0, locals := 20089 }) (va_Pc [.ref o, .int x1] (PC D aC A o la z)) (QG (some (.int r)) (OC D aC A o la zq) A) 0 0 A := by
  refine g_ofW (cc := cX0_lacking) (maxL := 2) (ret := (some .int)) (own := RX0) (by decide) rfl rfl [.ref o, .int x1] (PC D aC A o la z) (Nat.le_of_ble_eq_true rfl) ?_
  intro p e s m below meth c ls hx hb hr hml hts hown hlocks hnm hPre hl
  obtain ⟨hO, hK, hA, hZ⟩ := hPre
  have hf : CallFix p m c cX0_lacking 2 s _ lw_all RX0 := ⟨hx, hb, hml, hown, hts⟩
  have hl : lv_has ls 2 [(0, .ref o), (1, .int x1)] := hl
  refine g_open (A := A) (OC D aC A o la z) hO (fun H locs hO hS => ?_)
  unfold FX0_lacking at h
  refine lv_iload_n hx hb dX0_lacking_0 rfl (lv_at hl 1 rfl) ?_
  refine clX0_areDays hf (metX0_areDays l x1 _ rfl) q861 hl.1 (Nat.le_of_ble_eq_true rfl) ⟨Nat.le_of_ble_eq_true rfl, Nat.le_of_ble_eq_true rfl⟩ ⟨Nat.le_of_ble_eq_true rfl, Nat.le_of_ble_eq_true rfl⟩ dX0_lacking_1 ?_
  refine lv_if_ne (tgt := 9) hx hb dX0_lacking_4 (by decide) (fun c1 => ?_) (fun c1 => ?_)
  · have h := it_f c1 h
    refine lv_aload_n hx hb dX0_lacking_9 rfl (lv_at hl 0 rfl) ?_
    obtain ⟨z2, e3, h⟩ := bn1_e h
    refine clX0_layNow hf hK hO hA hZ hS (metX0_layNow l D aC A o la z z2 e3) q802 hl.1 (Nat.le_of_ble_eq_true rfl) ⟨Nat.le_of_ble_eq_true rfl, Nat.le_of_ble_eq_true rfl⟩ ⟨Nat.le_of_ble_eq_true rfl, Nat.le_of_ble_eq_true rfl⟩ dX0_lacking_10 (fun H locs hO hS => ?_)
    refine lv_aload_n hx hb dX0_lacking_13 rfl (lv_at hl 0 rfl) ?_
    refine lv_iload_n hx hb dX0_lacking_14 rfl (lv_at hl 1 rfl) ?_
    obtain ⟨z4, e5, h⟩ := bn1_e h
    refine clX0_goDays hf hK hO hA hZ hS (metX0_goDays l D aC A o la x1 z2 z4 e5) q864 hl.1 (Nat.le_of_ble_eq_true rfl) ⟨Nat.le_of_ble_eq_true rfl, Nat.le_of_ble_eq_true rfl⟩ ⟨Nat.le_of_ble_eq_true rfl, Nat.le_of_ble_eq_true rfl⟩ dX0_lacking_15 (fun H locs hO hS => ?_)
    refine lv_aload_n hx hb dX0_lacking_18 rfl (lv_at hl 0 rfl) ?_
    obtain ⟨r6, e7, h⟩ := bn1_e h
    refine clX0_lackBits hf hK hO hA hZ hS (metX0_lackBits l D aC A o la z4 r6 e7) q883 hl.1 (Nat.le_of_ble_eq_true rfl) ⟨Nat.le_of_ble_eq_true rfl, Nat.le_of_ble_eq_true rfl⟩ ⟨Nat.le_of_ble_eq_true rfl, Nat.le_of_ble_eq_true rfl⟩ dX0_lacking_19 ?_
    obtain ⟨e8, rfl⟩ := Prod.mk.inj (Option.some.inj h)
    exact g_retG hx hb hr hlocks e8 hO hS dX0_lacking_22
  · have h := it_t c1 h
    refine lv_iconst (v := (-1)) hx hb dX0_lacking_7 (by decide) ?_
    obtain ⟨e8, rfl⟩ := Prod.mk.inj (Option.some.inj h)
    exact g_retG hx hb hr hlocks e8 hO hS dX0_lacking_8
theorem clX0_lacking {p : Program} {l : Launch} {e : Env} {R : Room} {s : State} {m : MethodId} {args : Array Value} {below : List Frame} {meth : Method} {c : Code} {H : Heap} {locs : List Loc} {cells slots : Nat} {Q : State → Prop} {cc : ByteArray} {pc nL idx fr lo : Nat} {ls : Array Slot} {rest : List Value} {own : String} {D : va_G} {aC : Nat → ClassId} {A : Nat → Prop} {o : Nat} {la : LC} {z : GS} {zq : GS} {x1 : Int32} {r : Int32} (hf : CallFix p m c cc nL s args lw_all own) (hK : KC D aC s) (hO : OC D aC A o la z H) (hA : ∀ q : Nat, s.heap.size ≤ q → A q) (hZ : ZX A s s.heap) (hS : va_S A s.heap H locs) (hM : Met l yX0_lacking (ws_ yX0_lacking cX0_lacking 2 (some .int)) ({ frames := fr, cells := 0, slots := 0, locals := lo }) (va_Pc [.ref o, .int x1] (PC D aC A o la z)) (QG (some (.int r)) (OC D aC A o la zq) A) 0 0 A) (hq : Cond.methodLink own idx yX0_lacking ∈ lw_all) (hs : ls.size = nL) (hr : (rest.map fun v => v.category).sum ≤ 8) (hR : fr + 1 ≤ R.frames ∧ 8 + (2 + 11) + lo ≤ R.locals) (hcs : cells + 0 ≤ R.cells ∧ slots + 0 ≤ R.slots) (hd : decode cc pc = .ok (.invokevirtual idx, 3)) (kk : ∀ (H1 : Heap) (locs1 : List Loc), OC D aC A o la zq H1 → va_S A s.heap H1 locs1 → W p l e R s m args below meth c H1 locs1 cells slots Q (F0 m (pc + 3) ls (.int r :: rest))) : W p l e R s m args below meth c H locs cells slots Q (F0 m pc ls (.int x1 :: .ref o :: rest)) :=
  g_callG (W.runV (As := [.int x1]) (rest := rest) hf hM (cwV 1 hf.2.2.2.2 (lw_V hq q880 q881 q90 q882) rfl rfl rfl (by decide +kernel) hR) ⟨PC.blind, OC.recv hK hO, fun U hU hW => ⟨rfl, PC.at hO hK hA hZ hS hU hW⟩⟩ rfl rfl hs rfl (lv_room hr) hd hcs) hS (fun H1 locs1 hP hS _ _ => kk H1 locs1 hP hS)
theorem metX0_first (l : Launch) (D : va_G) (aC : Nat → ClassId) (A : Nat → Prop) (o : Nat) (la : LC) (x1 : Int32) (z : GS) (r : Int32) (zq : GS) (h : FX0_first x1 z = some (r, zq)) : Met l yX0_first (ws_ yX0_first cX0_first 4 (some .int)) ({ frames := 203, cells := 0, slots := 0, locals := 20067 }) (va_Pc [.ref o, .int x1] (PC D aC A o la z)) (QG (some (.int r)) (OC D aC A o la zq) A) 0 0 A := by
  refine g_ofW (cc := cX0_first) (maxL := 4) (ret := (some .int)) (own := RX0) (by decide) rfl rfl [.ref o, .int x1] (PC D aC A o la z) (Nat.le_of_ble_eq_true rfl) ?_
  intro p e s m below meth c ls hx hb hr hml hts hown hlocks hnm hPre hl
  obtain ⟨hO, hK, hA, hZ⟩ := hPre
  have hf : CallFix p m c cX0_first 4 s _ lw_all RX0 := ⟨hx, hb, hml, hown, hts⟩
  have hl : lv_has ls 4 [(0, .ref o), (1, .int x1)] := hl
  refine g_open (A := A) (OC D aC A o la z) hO (fun H locs hO hS => ?_)
  unfold FX0_first at h
  refine lv_iload_n hx hb dX0_first_0 rfl (lv_at hl 1 rfl) ?_
  refine lv_iconst (v := (-1)) hx hb dX0_first_1 (by decide) ?_
  refine lv_aload_n hx hb dX0_first_2 rfl (lv_at hl 0 rfl) ?_
  refine X0_getF hx hb hts hown hK hO 1 (by decide) rfl (hts _ q165) dX0_first_3 ?_
  refine lv_iconst (v := 1) hx hb dX0_first_6 (by decide) ?_
  refine lv_isub hx hb dX0_first_7 ?_
  refine clX0_in hf (metX0_in l x1 (-1) ((gF z 1) - 1) _ rfl) q309 hl.1 (Nat.le_of_ble_eq_true rfl) ⟨Nat.le_of_ble_eq_true rfl, Nat.le_of_ble_eq_true rfl⟩ ⟨Nat.le_of_ble_eq_true rfl, Nat.le_of_ble_eq_true rfl⟩ dX0_first_8 ?_
  refine lv_if_ne (tgt := 16) hx hb dX0_first_11 (by decide) (fun c1 => ?_) (fun c1 => ?_)
  · have h := it_f c1 h
    refine lv_aload_n hx hb dX0_first_16 rfl (lv_at hl 0 rfl) ?_
    obtain ⟨z2, e3, h⟩ := bn1_e h
    refine clX0_layNow hf hK hO hA hZ hS (metX0_layNow l D aC A o la z z2 e3) q802 hl.1 (Nat.le_of_ble_eq_true rfl) ⟨Nat.le_of_ble_eq_true rfl, Nat.le_of_ble_eq_true rfl⟩ ⟨Nat.le_of_ble_eq_true rfl, Nat.le_of_ble_eq_true rfl⟩ dX0_first_17 (fun H locs hO hS => ?_)
    refine lv_iconst (v := 0) hx hb dX0_first_20 (by decide) ?_
    refine lv_istore_n (lv' := [(2, .int 0), (0, .ref o), (1, .int x1)]) hx hb dX0_first_21 rfl hl (by decide) rfl (fun ls hl => ?_)
    obtain ⟨k4, e22, h⟩ := pin_nm h
    have hk4 : ∀ (v5 : Int32) (z6 : GS) (H : Heap) (locs : List Loc) (ls : Array Slot), k4 v5 z6 = some (r, zq) → OC D aC A o la z6 H → va_S A s.heap H locs → lv_has ls 4 [(0, .ref o), (3, .int v5)] → W p l e ({ frames := 203, cells := 0, slots := 0, locals := 20067 }) s m ([.ref o, .int x1] : List Value).toArray below meth c H locs 0 0 (MQ below (QG (some (.int r)) (OC D aC A o la zq) A) ([.ref o, .int x1] : List Value).toArray s 0 0 A) (F0 m 41 ls []) := by
      intro v5 z6 H locs ls h hO hS hl
      rw [e22] at h
      refine lv_iload_n hx hb dX0_first_41 rfl (lv_at hl 1 rfl) ?_
      refine clJ13_numberOfTrailingZeros hf (metJ13_numberOfTrailingZeros l v5 _ rfl) q891 hl.1 (Nat.le_of_ble_eq_true rfl) ⟨Nat.le_of_ble_eq_true rfl, Nat.le_of_ble_eq_true rfl⟩ ⟨Nat.le_of_ble_eq_true rfl, Nat.le_of_ble_eq_true rfl⟩ dX0_first_42 ?_
      obtain ⟨e8, rfl⟩ := Prod.mk.inj (Option.some.inj h)
      exact g_retG hx hb hr hlocks e8 hO hS dX0_first_45
    have key21 : ∀ (f : Nat) (v2 : Int32) (z : GS) (H : Heap) (locs : List Loc) (ls : Array Slot), FX0_first_L22 k4 x1 f v2 z = some (r, zq) → OC D aC A o la z H → va_S A s.heap H locs → lv_has ls 4 [(0, .ref o), (1, .int x1), (2, .int v2)] → W p l e ({ frames := 203, cells := 0, slots := 0, locals := 20067 }) s m ([.ref o, .int x1] : List Value).toArray below meth c H locs 0 0 (MQ below (QG (some (.int r)) (OC D aC A o la zq) A) ([.ref o, .int x1] : List Value).toArray s 0 0 A) (F0 m 22 ls []) := by
      intro f
      induction f with
      | zero =>
        intro v2 z H locs ls h
        rw [FX0_first_L22] at h
        cases h
      | succ f ih7 =>
        intro v2 z H locs ls h hO hS hl
        rw [FX0_first_L22] at h
        refine lv_iload_n hx hb dX0_first_22 rfl (lv_at hl 2 rfl) ?_
        refine lv_bipush (v := 40) hx hb dX0_first_23 (by decide) ?_
        refine lv_icmp_gt (tgt := 70) hx hb dX0_first_25 (by decide) (fun c8 => ?_) (fun c8 => ?_)
        · have h := it_t c8 h
          refine lv_bipush (v := (-2)) hx hb dX0_first_70 (by decide) ?_
          obtain ⟨e8, rfl⟩ := Prod.mk.inj (Option.some.inj h)
          exact g_retG hx hb hr hlocks e8 hO hS dX0_first_72
        · have h := it_f c8 h
          refine lv_aload_n hx hb dX0_first_28 rfl (lv_at hl 0 rfl) ?_
          obtain ⟨r9, e10, h⟩ := bn1_e h
          refine clX0_lackBits hf hK hO hA hZ hS (metX0_lackBits l D aC A o la z r9 e10) q883 hl.1 (Nat.le_of_ble_eq_true rfl) ⟨Nat.le_of_ble_eq_true rfl, Nat.le_of_ble_eq_true rfl⟩ ⟨Nat.le_of_ble_eq_true rfl, Nat.le_of_ble_eq_true rfl⟩ dX0_first_29 ?_
          refine lv_istore_n (lv' := [(3, .int r9), (0, .ref o), (1, .int x1), (2, .int v2)]) hx hb dX0_first_32 rfl hl (by decide) rfl (fun ls hl => ?_)
          refine lv_iload_n hx hb dX0_first_33 rfl (lv_at hl 2 rfl) ?_
          obtain ⟨k11, e20, h⟩ := pin_nm h
          have hk11 : ∀  (ls : Array Slot), k11  = some (r, zq) → lv_has ls 4 [(0, .ref o), (1, .int x1), (2, .int v2), (3, .int r9)] → W p l e ({ frames := 203, cells := 0, slots := 0, locals := 20067 }) s m ([.ref o, .int x1] : List Value).toArray below meth c H locs 0 0 (MQ below (QG (some (.int r)) (OC D aC A o la zq) A) ([.ref o, .int x1] : List Value).toArray s 0 0 A) (F0 m 46 ls []) := by
            intro  ls h hl
            rw [e20] at h
            refine lv_iload_n hx hb dX0_first_46 rfl (lv_at hl 1 rfl) ?_
            obtain ⟨k12, e17, h⟩ := pin_nm h
            have hk12 : ∀  (ls : Array Slot), k12  = some (r, zq) → lv_has ls 4 [(0, .ref o), (1, .int x1), (2, .int v2)] → W p l e ({ frames := 203, cells := 0, slots := 0, locals := 20067 }) s m ([.ref o, .int x1] : List Value).toArray below meth c H locs 0 0 (MQ below (QG (some (.int r)) (OC D aC A o la zq) A) ([.ref o, .int x1] : List Value).toArray s 0 0 A) (F0 m 60 ls []) := by
              intro  ls h hl
              rw [e17] at h
              refine lv_aload_n hx hb dX0_first_60 rfl (lv_at hl 0 rfl) ?_
              obtain ⟨z13, e14, h⟩ := bn1_e h
              refine clX0_goDay hf hK hO hA hZ hS (metX0_goDay l D aC A o la z z13 e14) q868 hl.1 (Nat.le_of_ble_eq_true rfl) ⟨Nat.le_of_ble_eq_true rfl, Nat.le_of_ble_eq_true rfl⟩ ⟨Nat.le_of_ble_eq_true rfl, Nat.le_of_ble_eq_true rfl⟩ dX0_first_61 (fun H locs hO hS => ?_)
              refine lv_iinc (v := (v2 + 1)) (lv' := [(2, .int (v2 + 1)), (0, .ref o), (1, .int x1)]) hx hb dX0_first_64 hl (k := 2) rfl rfl (by decide) rfl (fun ls hl => ?_)
              refine lv_goto (tgt := 22) hx hb dX0_first_67 (by decide) ?_
              exact ih7 _ _ _ _ _ h hO hS (lv_sub hl [1, 2, 0] rfl)
            refine lv_if_lt (tgt := 60) hx hb dX0_first_47 (by decide) (fun c15 => ?_) (fun c15 => ?_)
            · have h := it_t c15 h
              exact hk12 _ h (lv_sub hl [0, 1, 2] rfl)
            · have h := it_f c15 h
              refine lv_iload_n hx hb dX0_first_50 rfl (lv_at hl 3 rfl) ?_
              refine lv_iload_n hx hb dX0_first_51 rfl (lv_at hl 1 rfl) ?_
              refine clX0_has hf (metX0_has l r9 x1 _ rfl) q810 hl.1 (Nat.le_of_ble_eq_true rfl) ⟨Nat.le_of_ble_eq_true rfl, Nat.le_of_ble_eq_true rfl⟩ ⟨Nat.le_of_ble_eq_true rfl, Nat.le_of_ble_eq_true rfl⟩ dX0_first_52 ?_
              refine lv_if_eq (tgt := 60) hx hb dX0_first_55 (by decide) (fun c16 => ?_) (fun c16 => ?_)
              · have h := it_t c16 h
                exact hk12 _ h (lv_sub hl [0, 1, 2] rfl)
              · have h := it_f c16 h
                refine lv_iload_n hx hb dX0_first_58 rfl (lv_at hl 2 rfl) ?_
                obtain ⟨e8, rfl⟩ := Prod.mk.inj (Option.some.inj h)
                exact g_retG hx hb hr hlocks e8 hO hS dX0_first_59
          refine lv_if_ge (tgt := 46) hx hb dX0_first_34 (by decide) (fun c18 => ?_) (fun c18 => ?_)
          · have h := it_t c18 h
            exact hk11 _ h (lv_sub hl [1, 2, 3, 0] rfl)
          · have h := it_f c18 h
            refine lv_iload_n hx hb dX0_first_37 rfl (lv_at hl 0 rfl) ?_
            refine lv_if_eq (tgt := 46) hx hb dX0_first_38 (by decide) (fun c19 => ?_) (fun c19 => ?_)
            · have h := it_t c19 h
              exact hk11 _ h (lv_sub hl [1, 2, 3, 0] rfl)
            · have h := it_f c19 h
              exact hk4 _ _ _ _ _ h hO hS (lv_sub hl [1, 0] rfl)
    exact key21 FU _ _ _ _ _ h hO hS (lv_sub hl [1, 2, 0] rfl)
  · have h := it_t c1 h
    refine lv_iconst (v := (-1)) hx hb dX0_first_14 (by decide) ?_
    obtain ⟨e8, rfl⟩ := Prod.mk.inj (Option.some.inj h)
    exact g_retG hx hb hr hlocks e8 hO hS dX0_first_15
theorem clX0_first {p : Program} {l : Launch} {e : Env} {R : Room} {s : State} {m : MethodId} {args : Array Value} {below : List Frame} {meth : Method} {c : Code} {H : Heap} {locs : List Loc} {cells slots : Nat} {Q : State → Prop} {cc : ByteArray} {pc nL idx fr lo : Nat} {ls : Array Slot} {rest : List Value} {own : String} {D : va_G} {aC : Nat → ClassId} {A : Nat → Prop} {o : Nat} {la : LC} {z : GS} {zq : GS} {x1 : Int32} {r : Int32} (hf : CallFix p m c cc nL s args lw_all own) (hK : KC D aC s) (hO : OC D aC A o la z H) (hA : ∀ q : Nat, s.heap.size ≤ q → A q) (hZ : ZX A s s.heap) (hS : va_S A s.heap H locs) (hM : Met l yX0_first (ws_ yX0_first cX0_first 4 (some .int)) ({ frames := fr, cells := 0, slots := 0, locals := lo }) (va_Pc [.ref o, .int x1] (PC D aC A o la z)) (QG (some (.int r)) (OC D aC A o la zq) A) 0 0 A) (hq : Cond.methodLink own idx yX0_first ∈ lw_all) (hs : ls.size = nL) (hr : (rest.map fun v => v.category).sum ≤ 8) (hR : fr + 1 ≤ R.frames ∧ 8 + (4 + 11) + lo ≤ R.locals) (hcs : cells + 0 ≤ R.cells ∧ slots + 0 ≤ R.slots) (hd : decode cc pc = .ok (.invokevirtual idx, 3)) (kk : ∀ (H1 : Heap) (locs1 : List Loc), OC D aC A o la zq H1 → va_S A s.heap H1 locs1 → W p l e R s m args below meth c H1 locs1 cells slots Q (F0 m (pc + 3) ls (.int r :: rest))) : W p l e R s m args below meth c H locs cells slots Q (F0 m pc ls (.int x1 :: .ref o :: rest)) :=
  g_callG (W.runV (As := [.int x1]) (rest := rest) hf hM (cwV 1 hf.2.2.2.2 (lw_V hq q888 q889 q90 q890) rfl rfl rfl (by decide +kernel) hR) ⟨PC.blind, OC.recv hK hO, fun U hU hW => ⟨rfl, PC.at hO hK hA hZ hS hU hW⟩⟩ rfl rfl hs rfl (lv_room hr) hd hcs) hS (fun H1 locs1 hP hS _ _ => kk H1 locs1 hP hS)
theorem metX0_endOf (l : Launch) (D : va_G) (aC : Nat → ClassId) (A : Nat → Prop) (o : Nat) (la : LC) (x1 : Int32) (z : GS) (r : Int32) (h : FX0_endOf x1 z = some r) : Met l yX0_endOf (ws_ yX0_endOf cX0_endOf 4 (some .int)) ({ frames := 0, cells := 0, slots := 0, locals := 0 }) (va_Pc [.ref o, .int x1] (PC D aC A o la z)) (QR (some (.int r))) 0 0 (fun _ => False) := by
  refine g_ofW (cc := cX0_endOf) (maxL := 4) (ret := (some .int)) (own := RX0) (by decide) rfl rfl [.ref o, .int x1] (PC D aC A o la z) (Nat.le_of_ble_eq_true rfl) ?_
  intro p e s m below meth c ls hx hb hr hml hts hown hlocks hnm hPre hl
  obtain ⟨hO, hK, hA, hZ⟩ := hPre
  have hf : CallFix p m c cX0_endOf 4 s _ lw_all RX0 := ⟨hx, hb, hml, hown, hts⟩
  have hl : lv_has ls 4 [(0, .ref o), (1, .int x1)] := hl
  have hS : va_S A s.heap s.heap [] := va_S.rf
  unfold FX0_endOf at h
  refine lv_iload_n hx hb dX0_endOf_0 rfl (lv_at hl 1 rfl) ?_
  refine lv_istore_n (lv' := [(2, .int x1), (0, .ref o), (1, .int x1)]) hx hb dX0_endOf_1 rfl hl (by decide) rfl (fun ls hl => ?_)
  refine lv_iconst (v := 0) hx hb dX0_endOf_2 (by decide) ?_
  refine lv_istore_n (lv' := [(3, .int 0), (2, .int x1), (0, .ref o), (1, .int x1)]) hx hb dX0_endOf_3 rfl hl (by decide) rfl (fun ls hl => ?_)
  have key6 : ∀ (f : Nat) (v2 : Int32) (v3 : Int32) (ls : Array Slot), FX0_endOf_L4 z f v2 v3 = some r → lv_has ls 4 [(0, .ref o), (2, .int v2), (3, .int v3)] → W p l e ({ frames := 0, cells := 0, slots := 0, locals := 0 }) s m ([.ref o, .int x1] : List Value).toArray below meth c s.heap [] 0 0 (MQ below (QR (some (.int r))) ([.ref o, .int x1] : List Value).toArray s 0 0 (fun _ => False)) (F0 m 4 ls []) := by
    intro f
    induction f with
    | zero =>
      intro v2 v3 ls h
      rw [FX0_endOf_L4] at h
      cases h
    | succ f ih1 =>
      intro v2 v3 ls h hl
      rw [FX0_endOf_L4] at h
      refine lv_iload_n hx hb dX0_endOf_4 rfl (lv_at hl 2 rfl) ?_
      refine lv_aload_n hx hb dX0_endOf_5 rfl (lv_at hl 0 rfl) ?_
      refine X0_getF hx hb hts hown hK hO 1 (by decide) rfl (hts _ q165) dX0_endOf_6 ?_
      refine lv_icmp_ge (tgt := 42) hx hb dX0_endOf_9 (by decide) (fun c2 => ?_) (fun c2 => ?_)
      · have h := it_t c2 h
        refine lv_bipush (v := (-2)) hx hb dX0_endOf_42 (by decide) ?_
        exact g_retR hx hb hr hlocks (Option.some.inj h) dX0_endOf_44
      · have h := it_f c2 h
        refine lv_aload_n hx hb dX0_endOf_12 rfl (lv_at hl 0 rfl) ?_
        refine X0_getA hx hb hts hown hK hO 0 (by decide) (Or.inl rfl) (hts _ q164) dX0_endOf_13 ?_
        refine lv_iload_n hx hb dX0_endOf_16 rfl (lv_at hl 1 rfl) ?_
        obtain ⟨g3, h⟩ := grd h
        refine X0_paald hx hb hK hO g3 dX0_endOf_17 ?_
        refine X0_getP hx hb hts hown hK hO g3 4 (by decide) (hK.nw q330 rfl) dX0_endOf_18 ?_
        refine lv_if_ge (tgt := 26) hx hb dX0_endOf_21 (by decide) (fun c4 => ?_) (fun c4 => ?_)
        · have h := it_t c4 h
          refine lv_aload_n hx hb dX0_endOf_26 rfl (lv_at hl 0 rfl) ?_
          refine X0_getA hx hb hts hown hK hO 0 (by decide) (Or.inl rfl) (hts _ q164) dX0_endOf_27 ?_
          refine lv_iload_n hx hb dX0_endOf_30 rfl (lv_at hl 1 rfl) ?_
          refine X0_paald hx hb hK hO g3 dX0_endOf_31 ?_
          refine X0_getP hx hb hts hown hK hO g3 4 (by decide) (hK.nw q330 rfl) dX0_endOf_32 ?_
          refine lv_topi (fun y5 ey5 => ?_)
          have h := pin_to ey5 h
          refine lv_istore_n (lv' := [(2, .int y5), (0, .ref o), (3, .int v3)]) hx hb dX0_endOf_35 rfl hl (by decide) rfl (fun ls hl => ?_)
          refine lv_iinc (v := (v3 + 1)) (lv' := [(3, .int (v3 + 1)), (2, .int y5), (0, .ref o)]) hx hb dX0_endOf_36 hl (k := 2) rfl rfl (by decide) rfl (fun ls hl => ?_)
          refine lv_goto (tgt := 4) hx hb dX0_endOf_39 (by decide) ?_
          exact ih1 _ _ _ h (lv_sub hl [2, 1, 0] rfl)
        · have h := it_f c4 h
          refine lv_iload_n hx hb dX0_endOf_24 rfl (lv_at hl 1 rfl) ?_
          exact g_retR hx hb hr hlocks (Option.some.inj h) dX0_endOf_25
  exact key6 FU _ _ _ h (lv_sub hl [2, 1, 0] rfl)
theorem clX0_endOf {p : Program} {l : Launch} {e : Env} {R : Room} {s : State} {m : MethodId} {args : Array Value} {below : List Frame} {meth : Method} {c : Code} {H : Heap} {locs : List Loc} {cells slots : Nat} {Q : State → Prop} {cc : ByteArray} {pc nL idx fr lo : Nat} {ls : Array Slot} {rest : List Value} {own : String} {D : va_G} {aC : Nat → ClassId} {A : Nat → Prop} {o : Nat} {la : LC} {z : GS} {x1 : Int32} {r : Int32} (hf : CallFix p m c cc nL s args lw_all own) (hK : KC D aC s) (hO : OC D aC A o la z H) (hA : ∀ q : Nat, s.heap.size ≤ q → A q) (hZ : ZX A s s.heap) (hS : va_S A s.heap H locs) (hM : Met l yX0_endOf (ws_ yX0_endOf cX0_endOf 4 (some .int)) ({ frames := fr, cells := 0, slots := 0, locals := lo }) (va_Pc [.ref o, .int x1] (PC D aC A o la z)) (QR (some (.int r))) 0 0 (fun _ => False)) (hq : Cond.methodLink own idx yX0_endOf ∈ lw_all) (hs : ls.size = nL) (hr : (rest.map fun v => v.category).sum ≤ 8) (hR : fr + 1 ≤ R.frames ∧ 8 + (4 + 11) + lo ≤ R.locals) (hcs : cells + 0 ≤ R.cells ∧ slots + 0 ≤ R.slots) (hd : decode cc pc = .ok (.invokevirtual idx, 3)) (kk : W p l e R s m args below meth c H locs cells slots Q (F0 m (pc + 3) ls (.int r :: rest))) : W p l e R s m args below meth c H locs cells slots Q (F0 m pc ls (.int x1 :: .ref o :: rest)) :=
  g_callR (W.runV (As := [.int x1]) (rest := rest) hf hM (cwV 1 hf.2.2.2.2 (lw_V hq q901 qs30 q90 q902) rfl rfl rfl (by decide +kernel) hR) ⟨PC.blind, OC.recv hK hO, fun U hU hW => ⟨rfl, PC.at hO hK hA hZ hS hU hW⟩⟩ rfl rfl hs rfl (lv_room hr) hd hcs) kk
theorem metX0_ringOf (l : Launch) (D : va_G) (aC : Nat → ClassId) (A : Nat → Prop) (o : Nat) (la : LC) (x1 : Int32) (z : GS) (r : Int32) (h : FX0_ringOf x1 z = some r) : Met l yX0_ringOf (ws_ yX0_ringOf cX0_ringOf 4 (some .int)) ({ frames := 0, cells := 0, slots := 0, locals := 0 }) (va_Pc [.ref o, .int x1] (PC D aC A o la z)) (QR (some (.int r))) 0 0 (fun _ => False) := by
  refine g_ofW (cc := cX0_ringOf) (maxL := 4) (ret := (some .int)) (own := RX0) (by decide) rfl rfl [.ref o, .int x1] (PC D aC A o la z) (Nat.le_of_ble_eq_true rfl) ?_
  intro p e s m below meth c ls hx hb hr hml hts hown hlocks hnm hPre hl
  obtain ⟨hO, hK, hA, hZ⟩ := hPre
  have hf : CallFix p m c cX0_ringOf 4 s _ lw_all RX0 := ⟨hx, hb, hml, hown, hts⟩
  have hl : lv_has ls 4 [(0, .ref o), (1, .int x1)] := hl
  have hS : va_S A s.heap s.heap [] := va_S.rf
  unfold FX0_ringOf at h
  refine lv_iload_n hx hb dX0_ringOf_0 rfl (lv_at hl 1 rfl) ?_
  refine lv_istore_n (lv' := [(2, .int x1), (0, .ref o), (1, .int x1)]) hx hb dX0_ringOf_1 rfl hl (by decide) rfl (fun ls hl => ?_)
  refine lv_iconst (v := 1) hx hb dX0_ringOf_2 (by decide) ?_
  refine lv_istore_n (lv' := [(3, .int 1), (2, .int x1), (0, .ref o), (1, .int x1)]) hx hb dX0_ringOf_3 rfl hl (by decide) rfl (fun ls hl => ?_)
  have key7 : ∀ (f : Nat) (v2 : Int32) (v3 : Int32) (ls : Array Slot), FX0_ringOf_L4 x1 z f v2 v3 = some r → lv_has ls 4 [(0, .ref o), (1, .int x1), (2, .int v2), (3, .int v3)] → W p l e ({ frames := 0, cells := 0, slots := 0, locals := 0 }) s m ([.ref o, .int x1] : List Value).toArray below meth c s.heap [] 0 0 (MQ below (QR (some (.int r))) ([.ref o, .int x1] : List Value).toArray s 0 0 (fun _ => False)) (F0 m 4 ls []) := by
    intro f
    induction f with
    | zero =>
      intro v2 v3 ls h
      rw [FX0_ringOf_L4] at h
      cases h
    | succ f ih1 =>
      intro v2 v3 ls h hl
      rw [FX0_ringOf_L4] at h
      refine lv_iload_n hx hb dX0_ringOf_4 rfl (lv_at hl 3 rfl) ?_
      refine lv_aload_n hx hb dX0_ringOf_5 rfl (lv_at hl 0 rfl) ?_
      refine X0_getF hx hb hts hown hK hO 1 (by decide) rfl (hts _ q165) dX0_ringOf_6 ?_
      refine lv_icmp_gt (tgt := 42) hx hb dX0_ringOf_9 (by decide) (fun c2 => ?_) (fun c2 => ?_)
      · have h := it_t c2 h
        refine lv_bipush (v := (-2)) hx hb dX0_ringOf_42 (by decide) ?_
        exact g_retR hx hb hr hlocks (Option.some.inj h) dX0_ringOf_44
      · have h := it_f c2 h
        refine lv_aload_n hx hb dX0_ringOf_12 rfl (lv_at hl 0 rfl) ?_
        refine X0_getA hx hb hts hown hK hO 0 (by decide) (Or.inl rfl) (hts _ q164) dX0_ringOf_13 ?_
        refine lv_iload_n hx hb dX0_ringOf_16 rfl (lv_at hl 2 rfl) ?_
        obtain ⟨g3, h⟩ := grd h
        refine X0_paald hx hb hK hO g3 dX0_ringOf_17 ?_
        refine X0_getP hx hb hts hown hK hO g3 4 (by decide) (hK.nw q330 rfl) dX0_ringOf_18 ?_
        refine lv_topi (fun y4 ey4 => ?_)
        have h := pin_to ey4 h
        refine lv_istore_n (lv' := [(2, .int y4), (0, .ref o), (1, .int x1), (3, .int v3)]) hx hb dX0_ringOf_21 rfl hl (by decide) rfl (fun ls hl => ?_)
        refine lv_iload_n hx hb dX0_ringOf_22 rfl (lv_at hl 0 rfl) ?_
        refine lv_iload_n hx hb dX0_ringOf_23 rfl (lv_at hl 2 rfl) ?_
        refine lv_icmp_ne (tgt := 29) hx hb dX0_ringOf_24 (by decide) (fun c5 => ?_) (fun c5 => ?_)
        · have h := it_f c5 h
          refine lv_iload_n hx hb dX0_ringOf_29 rfl (lv_at hl 0 rfl) ?_
          refine lv_if_ge (tgt := 36) hx hb dX0_ringOf_30 (by decide) (fun c6 => ?_) (fun c6 => ?_)
          · have h := it_t c6 h
            refine lv_iinc (v := (v3 + 1)) (lv' := [(3, .int (v3 + 1)), (2, .int y4), (0, .ref o), (1, .int x1)]) hx hb dX0_ringOf_36 hl (k := 3) rfl rfl (by decide) rfl (fun ls hl => ?_)
            refine lv_goto (tgt := 4) hx hb dX0_ringOf_39 (by decide) ?_
            exact ih1 _ _ _ h (lv_sub hl [2, 3, 1, 0] rfl)
          · have h := it_f c6 h
            refine lv_bipush (v := (-2)) hx hb dX0_ringOf_33 (by decide) ?_
            exact g_retR hx hb hr hlocks (Option.some.inj h) dX0_ringOf_35
        · have h := it_t c5 h
          refine lv_iload_n hx hb dX0_ringOf_27 rfl (lv_at hl 3 rfl) ?_
          exact g_retR hx hb hr hlocks (Option.some.inj h) dX0_ringOf_28
  exact key7 FU _ _ _ h (lv_sub hl [2, 3, 1, 0] rfl)
theorem clX0_ringOf {p : Program} {l : Launch} {e : Env} {R : Room} {s : State} {m : MethodId} {args : Array Value} {below : List Frame} {meth : Method} {c : Code} {H : Heap} {locs : List Loc} {cells slots : Nat} {Q : State → Prop} {cc : ByteArray} {pc nL idx fr lo : Nat} {ls : Array Slot} {rest : List Value} {own : String} {D : va_G} {aC : Nat → ClassId} {A : Nat → Prop} {o : Nat} {la : LC} {z : GS} {x1 : Int32} {r : Int32} (hf : CallFix p m c cc nL s args lw_all own) (hK : KC D aC s) (hO : OC D aC A o la z H) (hA : ∀ q : Nat, s.heap.size ≤ q → A q) (hZ : ZX A s s.heap) (hS : va_S A s.heap H locs) (hM : Met l yX0_ringOf (ws_ yX0_ringOf cX0_ringOf 4 (some .int)) ({ frames := fr, cells := 0, slots := 0, locals := lo }) (va_Pc [.ref o, .int x1] (PC D aC A o la z)) (QR (some (.int r))) 0 0 (fun _ => False)) (hq : Cond.methodLink own idx yX0_ringOf ∈ lw_all) (hs : ls.size = nL) (hr : (rest.map fun v => v.category).sum ≤ 8) (hR : fr + 1 ≤ R.frames ∧ 8 + (4 + 11) + lo ≤ R.locals) (hcs : cells + 0 ≤ R.cells ∧ slots + 0 ≤ R.slots) (hd : decode cc pc = .ok (.invokevirtual idx, 3)) (kk : W p l e R s m args below meth c H locs cells slots Q (F0 m (pc + 3) ls (.int r :: rest))) : W p l e R s m args below meth c H locs cells slots Q (F0 m pc ls (.int x1 :: .ref o :: rest)) :=
  g_callR (W.runV (As := [.int x1]) (rest := rest) hf hM (cwV 1 hf.2.2.2.2 (lw_V hq q905 qs31 q90 q906) rfl rfl rfl (by decide +kernel) hR) ⟨PC.blind, OC.recv hK hO, fun U hU hW => ⟨rfl, PC.at hO hK hA hZ hS hU hW⟩⟩ rfl rfl hs rfl (lv_room hr) hd hcs) kk
theorem metX0_care (l : Launch) (D : va_G) (aC : Nat → ClassId) (A : Nat → Prop) (o : Nat) (la : LC) (x1 : Int32) (x2 : Int32) (z : GS) (r : Int32) (h : FX0_care x1 x2 z = some r) : Met l yX0_care (ws_ yX0_care cX0_care 3 (some .int)) ({ frames := 2, cells := 0, slots := 0, locals := 43 }) (va_Pc [.ref o, .int x1, .int x2] (PC D aC A o la z)) (QR (some (.int r))) 0 0 (fun _ => False) := by
  refine g_ofW (cc := cX0_care) (maxL := 3) (ret := (some .int)) (own := RX0) (by decide) rfl rfl [.ref o, .int x1, .int x2] (PC D aC A o la z) (Nat.le_of_ble_eq_true rfl) ?_
  intro p e s m below meth c ls hx hb hr hml hts hown hlocks hnm hPre hl
  obtain ⟨hO, hK, hA, hZ⟩ := hPre
  have hf : CallFix p m c cX0_care 3 s _ lw_all RX0 := ⟨hx, hb, hml, hown, hts⟩
  have hl : lv_has ls 3 [(0, .ref o), (1, .int x1), (2, .int x2)] := hl
  have hS : va_S A s.heap s.heap [] := va_S.rf
  unfold FX0_care at h
  refine lv_aload_n hx hb dX0_care_0 rfl (lv_at hl 0 rfl) ?_
  refine lv_iload_n hx hb dX0_care_1 rfl (lv_at hl 1 rfl) ?_
  refine clX0_isPerson hf hK hO hA hZ hS (metX0_isPerson l D aC A o la x1 z _ rfl) q502 hl.1 (Nat.le_of_ble_eq_true rfl) ⟨Nat.le_of_ble_eq_true rfl, Nat.le_of_ble_eq_true rfl⟩ ⟨Nat.le_of_ble_eq_true rfl, Nat.le_of_ble_eq_true rfl⟩ dX0_care_2 ?_
  obtain ⟨k1, e9, h⟩ := pin_nm h
  have hk1 : ∀  (ls : Array Slot), k1  = some r → lv_has ls 3 [(0, .ref o)] → W p l e ({ frames := 2, cells := 0, slots := 0, locals := 43 }) s m ([.ref o, .int x1, .int x2] : List Value).toArray below meth c s.heap [] 0 0 (MQ below (QR (some (.int r))) ([.ref o, .int x1, .int x2] : List Value).toArray s 0 0 (fun _ => False)) (F0 m 17 ls []) := by
    intro  ls h hl
    rw [e9] at h
    refine lv_iconst (v := (-1)) hx hb dX0_care_17 (by decide) ?_
    refine lv_goto (tgt := 38) hx hb dX0_care_18 (by decide) ?_
    exact g_retR hx hb hr hlocks (Option.some.inj h) dX0_care_38
  refine lv_if_eq (tgt := 17) hx hb dX0_care_5 (by decide) (fun c2 => ?_) (fun c2 => ?_)
  · have h := it_t c2 h
    exact hk1 _ h (lv_sub hl [0] rfl)
  · have h := it_f c2 h
    refine lv_iload_n hx hb dX0_care_8 rfl (lv_at hl 2 rfl) ?_
    refine lv_iconst (v := 0) hx hb dX0_care_9 (by decide) ?_
    refine lv_iconst (v := 1) hx hb dX0_care_10 (by decide) ?_
    refine clX0_in hf (metX0_in l x2 0 1 _ rfl) q309 hl.1 (Nat.le_of_ble_eq_true rfl) ⟨Nat.le_of_ble_eq_true rfl, Nat.le_of_ble_eq_true rfl⟩ ⟨Nat.le_of_ble_eq_true rfl, Nat.le_of_ble_eq_true rfl⟩ dX0_care_11 ?_
    refine lv_if_ne (tgt := 21) hx hb dX0_care_14 (by decide) (fun c3 => ?_) (fun c3 => ?_)
    · have h := it_f c3 h
      refine lv_iload_n hx hb dX0_care_21 rfl (lv_at hl 2 rfl) ?_
      refine lv_if_ne (tgt := 33) hx hb dX0_care_22 (by decide) (fun c4 => ?_) (fun c4 => ?_)
      · have h := it_f c4 h
        refine lv_aload_n hx hb dX0_care_33 rfl (lv_at hl 0 rfl) ?_
        refine lv_iload_n hx hb dX0_care_34 rfl (lv_at hl 1 rfl) ?_
        obtain ⟨r5, e6, h⟩ := bn1_e h
        refine clX0_ringOf hf hK hO hA hZ hS (metX0_ringOf l D aC A o la x1 z r5 e6) q903 hl.1 (Nat.le_of_ble_eq_true rfl) ⟨Nat.le_of_ble_eq_true rfl, Nat.le_of_ble_eq_true rfl⟩ ⟨Nat.le_of_ble_eq_true rfl, Nat.le_of_ble_eq_true rfl⟩ dX0_care_35 ?_
        exact g_retR hx hb hr hlocks (Option.some.inj h) dX0_care_38
      · have h := it_t c4 h
        refine lv_aload_n hx hb dX0_care_25 rfl (lv_at hl 0 rfl) ?_
        refine lv_iload_n hx hb dX0_care_26 rfl (lv_at hl 1 rfl) ?_
        obtain ⟨r7, e8, h⟩ := bn1_e h
        refine clX0_endOf hf hK hO hA hZ hS (metX0_endOf l D aC A o la x1 z r7 e8) q899 hl.1 (Nat.le_of_ble_eq_true rfl) ⟨Nat.le_of_ble_eq_true rfl, Nat.le_of_ble_eq_true rfl⟩ ⟨Nat.le_of_ble_eq_true rfl, Nat.le_of_ble_eq_true rfl⟩ dX0_care_27 ?_
        refine lv_goto (tgt := 38) hx hb dX0_care_30 (by decide) ?_
        exact g_retR hx hb hr hlocks (Option.some.inj h) dX0_care_38
    · have h := it_t c3 h
      exact hk1 _ h (lv_sub hl [0] rfl)
theorem clX0_care {p : Program} {l : Launch} {e : Env} {R : Room} {s : State} {m : MethodId} {args : Array Value} {below : List Frame} {meth : Method} {c : Code} {H : Heap} {locs : List Loc} {cells slots : Nat} {Q : State → Prop} {cc : ByteArray} {pc nL idx fr lo : Nat} {ls : Array Slot} {rest : List Value} {own : String} {D : va_G} {aC : Nat → ClassId} {A : Nat → Prop} {o : Nat} {la : LC} {z : GS} {x1 : Int32} {x2 : Int32} {r : Int32} (hf : CallFix p m c cc nL s args lw_all own) (hK : KC D aC s) (hO : OC D aC A o la z H) (hA : ∀ q : Nat, s.heap.size ≤ q → A q) (hZ : ZX A s s.heap) (hS : va_S A s.heap H locs) (hM : Met l yX0_care (ws_ yX0_care cX0_care 3 (some .int)) ({ frames := fr, cells := 0, slots := 0, locals := lo }) (va_Pc [.ref o, .int x1, .int x2] (PC D aC A o la z)) (QR (some (.int r))) 0 0 (fun _ => False)) (hq : Cond.methodLink own idx yX0_care ∈ lw_all) (hs : ls.size = nL) (hr : (rest.map fun v => v.category).sum ≤ 8) (hR : fr + 1 ≤ R.frames ∧ 8 + (3 + 11) + lo ≤ R.locals) (hcs : cells + 0 ≤ R.cells ∧ slots + 0 ≤ R.slots) (hd : decode cc pc = .ok (.invokevirtual idx, 3)) (kk : W p l e R s m args below meth c H locs cells slots Q (F0 m (pc + 3) ls (.int r :: rest))) : W p l e R s m args below meth c H locs cells slots Q (F0 m pc ls (.int x2 :: .int x1 :: .ref o :: rest)) :=
  g_callR (W.runV (As := [.int x1, .int x2]) (rest := rest) hf hM (cwV 2 hf.2.2.2.2 (lw_V hq q896 q897 q90 q898) rfl rfl rfl (by decide +kernel) hR) ⟨PC.blind, OC.recv hK hO, fun U hU hW => ⟨rfl, PC.at hO hK hA hZ hS hU hW⟩⟩ rfl rfl hs rfl (lv_room hr) hd hcs) kk
theorem metX0_cared (l : Launch) (D : va_G) (aC : Nat → ClassId) (A : Nat → Prop) (o : Nat) (la : LC) (x1 : Int32) (z : GS) (r : Int32) (zq : GS) (h : FX0_cared x1 z = some (r, zq)) : Met l yX0_cared (ws_ yX0_cared cX0_cared 4 (some .int)) ({ frames := 2, cells := 0, slots := 0, locals := 42 }) (va_Pc [.ref o, .int x1] (PC D aC A o la z)) (QG (some (.int r)) (OC D aC A o la zq) A) 0 0 A := by
  refine g_ofW (cc := cX0_cared) (maxL := 4) (ret := (some .int)) (own := RX0) (by decide) rfl rfl [.ref o, .int x1] (PC D aC A o la z) (Nat.le_of_ble_eq_true rfl) ?_
  intro p e s m below meth c ls hx hb hr hml hts hown hlocks hnm hPre hl
  obtain ⟨hO, hK, hA, hZ⟩ := hPre
  have hf : CallFix p m c cX0_cared 4 s _ lw_all RX0 := ⟨hx, hb, hml, hown, hts⟩
  have hl : lv_has ls 4 [(0, .ref o), (1, .int x1)] := hl
  refine g_open (A := A) (OC D aC A o la z) hO (fun H locs hO hS => ?_)
  unfold FX0_cared at h
  refine lv_iload_n hx hb dX0_cared_0 rfl (lv_at hl 1 rfl) ?_
  refine lv_iconst (v := 0) hx hb dX0_cared_1 (by decide) ?_
  refine lv_iconst (v := 1) hx hb dX0_cared_2 (by decide) ?_
  refine clX0_in hf (metX0_in l x1 0 1 _ rfl) q309 hl.1 (Nat.le_of_ble_eq_true rfl) ⟨Nat.le_of_ble_eq_true rfl, Nat.le_of_ble_eq_true rfl⟩ ⟨Nat.le_of_ble_eq_true rfl, Nat.le_of_ble_eq_true rfl⟩ dX0_cared_3 ?_
  refine lv_if_ne (tgt := 11) hx hb dX0_cared_6 (by decide) (fun c1 => ?_) (fun c1 => ?_)
  · have h := it_f c1 h
    refine lv_aload_n hx hb dX0_cared_11 rfl (lv_at hl 0 rfl) ?_
    obtain ⟨z2, e3, h⟩ := bn1_e h
    refine clX0_layNow hf hK hO hA hZ hS (metX0_layNow l D aC A o la z z2 e3) q802 hl.1 (Nat.le_of_ble_eq_true rfl) ⟨Nat.le_of_ble_eq_true rfl, Nat.le_of_ble_eq_true rfl⟩ ⟨Nat.le_of_ble_eq_true rfl, Nat.le_of_ble_eq_true rfl⟩ dX0_cared_12 (fun H locs hO hS => ?_)
    refine lv_aload_n hx hb dX0_cared_15 rfl (lv_at hl 0 rfl) ?_
    obtain ⟨z4, e5, h⟩ := bn1_e h
    refine clX0_countCarers hf hK hO hA hZ hS (metX0_countCarers l D aC A o la z2 z4 e5) q806 hl.1 (Nat.le_of_ble_eq_true rfl) ⟨Nat.le_of_ble_eq_true rfl, Nat.le_of_ble_eq_true rfl⟩ ⟨Nat.le_of_ble_eq_true rfl, Nat.le_of_ble_eq_true rfl⟩ dX0_cared_16 (fun H locs hO hS => ?_)
    refine lv_iconst (v := 0) hx hb dX0_cared_19 (by decide) ?_
    refine lv_istore_n (lv' := [(2, .int 0), (0, .ref o), (1, .int x1)]) hx hb dX0_cared_20 rfl hl (by decide) rfl (fun ls hl => ?_)
    refine lv_iconst (v := 0) hx hb dX0_cared_21 (by decide) ?_
    refine lv_istore_n (lv' := [(3, .int 0), (2, .int 0), (0, .ref o), (1, .int x1)]) hx hb dX0_cared_22 rfl hl (by decide) rfl (fun ls hl => ?_)
    have key19 : ∀ (f : Nat) (v2 : Int32) (v3 : Int32) (ls : Array Slot), FX0_cared_L23 x1 z4 f v2 v3 = some (r, zq) → lv_has ls 4 [(0, .ref o), (1, .int x1), (2, .int v2), (3, .int v3)] → W p l e ({ frames := 2, cells := 0, slots := 0, locals := 42 }) s m ([.ref o, .int x1] : List Value).toArray below meth c H locs 0 0 (MQ below (QG (some (.int r)) (OC D aC A o la zq) A) ([.ref o, .int x1] : List Value).toArray s 0 0 A) (F0 m 23 ls []) := by
      intro f
      induction f with
      | zero =>
        intro v2 v3 ls h
        rw [FX0_cared_L23] at h
        cases h
      | succ f ih6 =>
        intro v2 v3 ls h hl
        rw [FX0_cared_L23] at h
        refine lv_iload_n hx hb dX0_cared_23 rfl (lv_at hl 3 rfl) ?_
        refine lv_aload_n hx hb dX0_cared_24 rfl (lv_at hl 0 rfl) ?_
        refine X0_getF hx hb hts hown hK hO 1 (by decide) rfl (hts _ q165) dX0_cared_25 ?_
        refine lv_icmp_ge (tgt := 69) hx hb dX0_cared_28 (by decide) (fun c7 => ?_) (fun c7 => ?_)
        · have h := it_t c7 h
          refine lv_iload_n hx hb dX0_cared_69 rfl (lv_at hl 2 rfl) ?_
          obtain ⟨e8, rfl⟩ := Prod.mk.inj (Option.some.inj h)
          exact g_retG hx hb hr hlocks e8 hO hS dX0_cared_70
        · have h := it_f c7 h
          refine lv_iload_n hx hb dX0_cared_31 rfl (lv_at hl 1 rfl) ?_
          obtain ⟨k8, e18, h⟩ := pin_nm h
          have hk8 : ∀ (v9 : Int32) (ls : Array Slot), k8 v9 = some (r, zq) → lv_has ls 4 [(0, .ref o), (1, .int x1), (2, .int v9), (3, .int v3)] → W p l e ({ frames := 2, cells := 0, slots := 0, locals := 42 }) s m ([.ref o, .int x1] : List Value).toArray below meth c H locs 0 0 (MQ below (QG (some (.int r)) (OC D aC A o la zq) A) ([.ref o, .int x1] : List Value).toArray s 0 0 A) (F0 m 63 ls []) := by
            intro v9 ls h hl
            rw [e18] at h
            refine lv_iinc (v := (v3 + 1)) (lv' := [(3, .int (v3 + 1)), (0, .ref o), (1, .int x1), (2, .int v9)]) hx hb dX0_cared_63 hl (k := 3) rfl rfl (by decide) rfl (fun ls hl => ?_)
            refine lv_goto (tgt := 23) hx hb dX0_cared_66 (by decide) ?_
            exact ih6 _ _ _ h (lv_sub hl [1, 2, 3, 0] rfl)
          obtain ⟨k10, e17, h⟩ := pin_nm h
          have hk10 : ∀  (ls : Array Slot), k10  = some (r, zq) → lv_has ls 4 [(0, .ref o), (1, .int x1), (2, .int v2), (3, .int v3)] → W p l e ({ frames := 2, cells := 0, slots := 0, locals := 42 }) s m ([.ref o, .int x1] : List Value).toArray below meth c H locs 0 0 (MQ below (QG (some (.int r)) (OC D aC A o la zq) A) ([.ref o, .int x1] : List Value).toArray s 0 0 A) (F0 m 57 ls []) := by
            intro  ls h hl
            rw [e17] at h
            refine lv_iload_n hx hb dX0_cared_57 rfl (lv_at hl 2 rfl) ?_
            refine lv_iconst (v := 1) hx hb dX0_cared_58 (by decide) ?_
            refine lv_iload_n hx hb dX0_cared_59 rfl (lv_at hl 3 rfl) ?_
            refine g_ishl hx hb dX0_cared_60 ?_
            refine lv_ior hx hb dX0_cared_61 ?_
            refine lv_topi (fun y11 ey11 => ?_)
            have h := pin_to ey11 h
            refine lv_istore_n (lv' := [(2, .int y11), (0, .ref o), (1, .int x1), (3, .int v3)]) hx hb dX0_cared_62 rfl hl (by decide) rfl (fun ls hl => ?_)
            exact hk8 _ _ h (lv_sub hl [1, 2, 0, 3] rfl)
          refine lv_if_ne (tgt := 47) hx hb dX0_cared_32 (by decide) (fun c12 => ?_) (fun c12 => ?_)
          · have h := it_f c12 h
            refine lv_aload_n hx hb dX0_cared_47 rfl (lv_at hl 0 rfl) ?_
            refine X0_getA hx hb hts hown hK hO 14 (by decide) (Or.inl rfl) (hts _ q180) dX0_cared_48 ?_
            refine lv_iload_n hx hb dX0_cared_51 rfl (lv_at hl 3 rfl) ?_
            obtain ⟨g13, h⟩ := grd h
            refine X0_iaload hx hb hK hO 14 (by decide) rfl rfl g13 dX0_cared_52 ?_
            refine lv_iconst (v := 1) hx hb dX0_cared_53 (by decide) ?_
            refine lv_icmp_le (tgt := 63) hx hb dX0_cared_54 (by decide) (fun c14 => ?_) (fun c14 => ?_)
            · have h := it_t c14 h
              exact hk8 _ _ h (lv_sub hl [0, 1, 2, 3] rfl)
            · have h := it_f c14 h
              exact hk10 _ h (lv_sub hl [0, 1, 2, 3] rfl)
          · have h := it_t c12 h
            refine lv_aload_n hx hb dX0_cared_35 rfl (lv_at hl 0 rfl) ?_
            refine X0_getA hx hb hts hown hK hO 14 (by decide) (Or.inl rfl) (hts _ q180) dX0_cared_36 ?_
            refine lv_iload_n hx hb dX0_cared_39 rfl (lv_at hl 3 rfl) ?_
            obtain ⟨g15, h⟩ := grd h
            refine X0_iaload hx hb hK hO 14 (by decide) rfl rfl g15 dX0_cared_40 ?_
            refine lv_if_ne (tgt := 63) hx hb dX0_cared_41 (by decide) (fun c16 => ?_) (fun c16 => ?_)
            · have h := it_f c16 h
              exact hk8 _ _ h (lv_sub hl [0, 1, 2, 3] rfl)
            · have h := it_t c16 h
              refine lv_goto (tgt := 57) hx hb dX0_cared_44 (by decide) ?_
              exact hk10 _ h (lv_sub hl [0, 1, 2, 3] rfl)
    exact key19 FU _ _ _ h (lv_sub hl [2, 3, 1, 0] rfl)
  · have h := it_t c1 h
    refine lv_iconst (v := (-1)) hx hb dX0_cared_9 (by decide) ?_
    obtain ⟨e8, rfl⟩ := Prod.mk.inj (Option.some.inj h)
    exact g_retG hx hb hr hlocks e8 hO hS dX0_cared_10
theorem clX0_cared {p : Program} {l : Launch} {e : Env} {R : Room} {s : State} {m : MethodId} {args : Array Value} {below : List Frame} {meth : Method} {c : Code} {H : Heap} {locs : List Loc} {cells slots : Nat} {Q : State → Prop} {cc : ByteArray} {pc nL idx fr lo : Nat} {ls : Array Slot} {rest : List Value} {own : String} {D : va_G} {aC : Nat → ClassId} {A : Nat → Prop} {o : Nat} {la : LC} {z : GS} {zq : GS} {x1 : Int32} {r : Int32} (hf : CallFix p m c cc nL s args lw_all own) (hK : KC D aC s) (hO : OC D aC A o la z H) (hA : ∀ q : Nat, s.heap.size ≤ q → A q) (hZ : ZX A s s.heap) (hS : va_S A s.heap H locs) (hM : Met l yX0_cared (ws_ yX0_cared cX0_cared 4 (some .int)) ({ frames := fr, cells := 0, slots := 0, locals := lo }) (va_Pc [.ref o, .int x1] (PC D aC A o la z)) (QG (some (.int r)) (OC D aC A o la zq) A) 0 0 A) (hq : Cond.methodLink own idx yX0_cared ∈ lw_all) (hs : ls.size = nL) (hr : (rest.map fun v => v.category).sum ≤ 8) (hR : fr + 1 ≤ R.frames ∧ 8 + (4 + 11) + lo ≤ R.locals) (hcs : cells + 0 ≤ R.cells ∧ slots + 0 ≤ R.slots) (hd : decode cc pc = .ok (.invokevirtual idx, 3)) (kk : ∀ (H1 : Heap) (locs1 : List Loc), OC D aC A o la zq H1 → va_S A s.heap H1 locs1 → W p l e R s m args below meth c H1 locs1 cells slots Q (F0 m (pc + 3) ls (.int r :: rest))) : W p l e R s m args below meth c H locs cells slots Q (F0 m pc ls (.int x1 :: .ref o :: rest)) :=
  g_callG (W.runV (As := [.int x1]) (rest := rest) hf hM (cwV 1 hf.2.2.2.2 (lw_V hq q908 q909 q90 q910) rfl rfl rfl (by decide +kernel) hR) ⟨PC.blind, OC.recv hK hO, fun U hU hW => ⟨rfl, PC.at hO hK hA hZ hS hU hW⟩⟩ rfl rfl hs rfl (lv_room hr) hd hcs) hS (fun H1 locs1 hP hS _ _ => kk H1 locs1 hP hS)
theorem metX0_isOneRing (l : Launch) (D : va_G) (aC : Nat → ClassId) (A : Nat → Prop) (o : Nat) (la : LC)  (z : GS) (r : Int32) (h : FX0_isOneRing z = some r) : Met l yX0_isOneRing (ws_ yX0_isOneRing cX0_isOneRing 3 (some .boolean)) ({ frames := 0, cells := 0, slots := 0, locals := 0 }) (va_Pc [.ref o] (PC D aC A o la z)) (QR (some (.int r))) 0 0 (fun _ => False) := by
  refine g_ofW (cc := cX0_isOneRing) (maxL := 3) (ret := (some .boolean)) (own := RX0) (by decide) rfl rfl [.ref o] (PC D aC A o la z) (Nat.le_of_ble_eq_true rfl) ?_
  intro p e s m below meth c ls hx hb hr hml hts hown hlocks hnm hPre hl
  obtain ⟨hO, hK, hA, hZ⟩ := hPre
  have hf : CallFix p m c cX0_isOneRing 3 s _ lw_all RX0 := ⟨hx, hb, hml, hown, hts⟩
  have hl : lv_has ls 3 [(0, .ref o)] := hl
  have hS : va_S A s.heap s.heap [] := va_S.rf
  unfold FX0_isOneRing at h
  refine lv_iconst (v := 0) hx hb dX0_isOneRing_0 (by decide) ?_
  refine lv_istore_n (lv' := [(1, .int 0), (0, .ref o)]) hx hb dX0_isOneRing_1 rfl hl (by decide) rfl (fun ls hl => ?_)
  refine lv_iconst (v := 1) hx hb dX0_isOneRing_2 (by decide) ?_
  refine lv_istore_n (lv' := [(2, .int 1), (1, .int 0), (0, .ref o)]) hx hb dX0_isOneRing_3 rfl hl (by decide) rfl (fun ls hl => ?_)
  obtain ⟨k1, e10, h⟩ := pin_nm h
  have hk1 : ∀ (v2 : Int32) (ls : Array Slot), k1 v2 = some r → lv_has ls 3 [(0, .ref o), (2, .int v2)] → W p l e ({ frames := 0, cells := 0, slots := 0, locals := 0 }) s m ([.ref o] : List Value).toArray below meth c s.heap [] 0 0 (MQ below (QR (some (.int r))) ([.ref o] : List Value).toArray s 0 0 (fun _ => False)) (F0 m 23 ls []) := by
    intro v2 ls h hl
    rw [e10] at h
    refine lv_iload_n hx hb dX0_isOneRing_23 rfl (lv_at hl 1 rfl) ?_
    refine lv_aload_n hx hb dX0_isOneRing_24 rfl (lv_at hl 0 rfl) ?_
    refine X0_getF hx hb hts hown hK hO 1 (by decide) rfl (hts _ q165) dX0_isOneRing_25 ?_
    refine lv_icmp_ne (tgt := 35) hx hb dX0_isOneRing_28 (by decide) (fun c3 => ?_) (fun c3 => ?_)
    · have h := it_f c3 h
      refine lv_iconst (v := 0) hx hb dX0_isOneRing_35 (by decide) ?_
      exact g_retRz hx hb hr hlocks (Or.inl rfl) (Option.some.inj h) dX0_isOneRing_36
    · have h := it_t c3 h
      refine lv_iconst (v := 1) hx hb dX0_isOneRing_31 (by decide) ?_
      refine lv_goto (tgt := 36) hx hb dX0_isOneRing_32 (by decide) ?_
      exact g_retRz hx hb hr hlocks (Or.inr rfl) (Option.some.inj h) dX0_isOneRing_36
  have key9 : ∀ (f : Nat) (v1 : Int32) (v2 : Int32) (ls : Array Slot), FX0_isOneRing_L4 k1 z f v1 v2 = some r → lv_has ls 3 [(0, .ref o), (1, .int v1), (2, .int v2)] → W p l e ({ frames := 0, cells := 0, slots := 0, locals := 0 }) s m ([.ref o] : List Value).toArray below meth c s.heap [] 0 0 (MQ below (QR (some (.int r))) ([.ref o] : List Value).toArray s 0 0 (fun _ => False)) (F0 m 4 ls []) := by
    intro f
    induction f with
    | zero =>
      intro v1 v2 ls h
      rw [FX0_isOneRing_L4] at h
      cases h
    | succ f ih4 =>
      intro v1 v2 ls h hl
      rw [FX0_isOneRing_L4] at h
      refine lv_iload_n hx hb dX0_isOneRing_4 rfl (lv_at hl 2 rfl) ?_
      refine lv_aload_n hx hb dX0_isOneRing_5 rfl (lv_at hl 0 rfl) ?_
      refine X0_getF hx hb hts hown hK hO 1 (by decide) rfl (hts _ q165) dX0_isOneRing_6 ?_
      refine lv_icmp_gt (tgt := 43) hx hb dX0_isOneRing_9 (by decide) (fun c5 => ?_) (fun c5 => ?_)
      · have h := it_t c5 h
        refine lv_iconst (v := 0) hx hb dX0_isOneRing_43 (by decide) ?_
        exact g_retRz hx hb hr hlocks (Or.inl rfl) (Option.some.inj h) dX0_isOneRing_44
      · have h := it_f c5 h
        refine lv_aload_n hx hb dX0_isOneRing_12 rfl (lv_at hl 0 rfl) ?_
        refine X0_getA hx hb hts hown hK hO 18 (by decide) (Or.inl rfl) (hts _ q184) dX0_isOneRing_13 ?_
        refine lv_iload_n hx hb dX0_isOneRing_16 rfl (lv_at hl 1 rfl) ?_
        obtain ⟨g6, h⟩ := grd h
        refine X0_iaload hx hb hK hO 18 (by decide) rfl rfl g6 dX0_isOneRing_17 ?_
        refine lv_topi (fun y7 ey7 => ?_)
        have h := pin_to ey7 h
        refine lv_istore_n (lv' := [(1, .int y7), (0, .ref o), (2, .int v2)]) hx hb dX0_isOneRing_18 rfl hl (by decide) rfl (fun ls hl => ?_)
        refine lv_iload_n hx hb dX0_isOneRing_19 rfl (lv_at hl 0 rfl) ?_
        refine lv_if_ne (tgt := 37) hx hb dX0_isOneRing_20 (by decide) (fun c8 => ?_) (fun c8 => ?_)
        · have h := it_f c8 h
          refine lv_iinc (v := (v2 + 1)) (lv' := [(2, .int (v2 + 1)), (1, .int y7), (0, .ref o)]) hx hb dX0_isOneRing_37 hl (k := 2) rfl rfl (by decide) rfl (fun ls hl => ?_)
          refine lv_goto (tgt := 4) hx hb dX0_isOneRing_40 (by decide) ?_
          exact ih4 _ _ _ h (lv_sub hl [2, 1, 0] rfl)
        · have h := it_t c8 h
          exact hk1 _ _ h (lv_sub hl [1, 2] rfl)
  exact key9 FU _ _ _ h (lv_sub hl [2, 1, 0] rfl)
theorem clX0_isOneRing {p : Program} {l : Launch} {e : Env} {R : Room} {s : State} {m : MethodId} {args : Array Value} {below : List Frame} {meth : Method} {c : Code} {H : Heap} {locs : List Loc} {cells slots : Nat} {Q : State → Prop} {cc : ByteArray} {pc nL idx fr lo : Nat} {ls : Array Slot} {rest : List Value} {own : String} {D : va_G} {aC : Nat → ClassId} {A : Nat → Prop} {o : Nat} {la : LC} {z : GS}  {r : Int32} (hf : CallFix p m c cc nL s args lw_all own) (hK : KC D aC s) (hO : OC D aC A o la z H) (hA : ∀ q : Nat, s.heap.size ≤ q → A q) (hZ : ZX A s s.heap) (hS : va_S A s.heap H locs) (hM : Met l yX0_isOneRing (ws_ yX0_isOneRing cX0_isOneRing 3 (some .boolean)) ({ frames := fr, cells := 0, slots := 0, locals := lo }) (va_Pc [.ref o] (PC D aC A o la z)) (QR (some (.int r))) 0 0 (fun _ => False)) (hq : Cond.methodLink own idx yX0_isOneRing ∈ lw_all) (hs : ls.size = nL) (hr : (rest.map fun v => v.category).sum ≤ 8) (hR : fr + 1 ≤ R.frames ∧ 8 + (3 + 11) + lo ≤ R.locals) (hcs : cells + 0 ≤ R.cells ∧ slots + 0 ≤ R.slots) (hd : decode cc pc = .ok (.invokevirtual idx, 3)) (kk : W p l e R s m args below meth c H locs cells slots Q (F0 m (pc + 3) ls (.int r :: rest))) : W p l e R s m args below meth c H locs cells slots Q (F0 m pc ls (.ref o :: rest)) :=
  g_callR (W.runV (As := []) (rest := rest) hf hM (cwV 0 hf.2.2.2.2 (lw_V hq q921 qs33 q90 q922) rfl rfl rfl (by decide +kernel) hR) ⟨PC.blind, OC.recv hK hO, fun U hU hW => ⟨rfl, PC.at hO hK hA hZ hS hU hW⟩⟩ rfl rfl hs rfl (lv_room hr) hd hcs) kk
theorem metX0_lackMany (l : Launch) (D : va_G) (aC : Nat → ClassId) (A : Nat → Prop) (o : Nat) (la : LC)  (z : GS) (r : Int32) (h : FX0_lackMany z = some r) : Met l yX0_lackMany (ws_ yX0_lackMany cX0_lackMany 1 (some .int)) ({ frames := 2, cells := 0, slots := 0, locals := 43 }) (va_Pc [.ref o] (PC D aC A o la z)) (QR (some (.int r))) 0 0 (fun _ => False) := by
  refine g_ofW (cc := cX0_lackMany) (maxL := 1) (ret := (some .int)) (own := RX0) (by decide) rfl rfl [.ref o] (PC D aC A o la z) (Nat.le_of_ble_eq_true rfl) ?_
  intro p e s m below meth c ls hx hb hr hml hts hown hlocks hnm hPre hl
  obtain ⟨hO, hK, hA, hZ⟩ := hPre
  have hf : CallFix p m c cX0_lackMany 1 s _ lw_all RX0 := ⟨hx, hb, hml, hown, hts⟩
  have hl : lv_has ls 1 [(0, .ref o)] := hl
  have hS : va_S A s.heap s.heap [] := va_S.rf
  unfold FX0_lackMany at h
  refine lv_aload_n hx hb dX0_lackMany_0 rfl (lv_at hl 0 rfl) ?_
  obtain ⟨r1, e2, h⟩ := bn1_e h
  refine clX0_lackBits hf hK hO hA hZ hS (metX0_lackBits l D aC A o la z r1 e2) q883 hl.1 (Nat.le_of_ble_eq_true rfl) ⟨Nat.le_of_ble_eq_true rfl, Nat.le_of_ble_eq_true rfl⟩ ⟨Nat.le_of_ble_eq_true rfl, Nat.le_of_ble_eq_true rfl⟩ dX0_lackMany_1 ?_
  refine clJ13_bitCount hf (metJ13_bitCount l r1 _ rfl) q930 hl.1 (Nat.le_of_ble_eq_true rfl) ⟨Nat.le_of_ble_eq_true rfl, Nat.le_of_ble_eq_true rfl⟩ ⟨Nat.le_of_ble_eq_true rfl, Nat.le_of_ble_eq_true rfl⟩ dX0_lackMany_4 ?_
  exact g_retR hx hb hr hlocks (Option.some.inj h) dX0_lackMany_7
theorem clX0_lackMany {p : Program} {l : Launch} {e : Env} {R : Room} {s : State} {m : MethodId} {args : Array Value} {below : List Frame} {meth : Method} {c : Code} {H : Heap} {locs : List Loc} {cells slots : Nat} {Q : State → Prop} {cc : ByteArray} {pc nL idx fr lo : Nat} {ls : Array Slot} {rest : List Value} {own : String} {D : va_G} {aC : Nat → ClassId} {A : Nat → Prop} {o : Nat} {la : LC} {z : GS}  {r : Int32} (hf : CallFix p m c cc nL s args lw_all own) (hK : KC D aC s) (hO : OC D aC A o la z H) (hA : ∀ q : Nat, s.heap.size ≤ q → A q) (hZ : ZX A s s.heap) (hS : va_S A s.heap H locs) (hM : Met l yX0_lackMany (ws_ yX0_lackMany cX0_lackMany 1 (some .int)) ({ frames := fr, cells := 0, slots := 0, locals := lo }) (va_Pc [.ref o] (PC D aC A o la z)) (QR (some (.int r))) 0 0 (fun _ => False)) (hq : Cond.methodLink own idx yX0_lackMany ∈ lw_all) (hs : ls.size = nL) (hr : (rest.map fun v => v.category).sum ≤ 8) (hR : fr + 1 ≤ R.frames ∧ 8 + (1 + 11) + lo ≤ R.locals) (hcs : cells + 0 ≤ R.cells ∧ slots + 0 ≤ R.slots) (hd : decode cc pc = .ok (.invokevirtual idx, 3)) (kk : W p l e R s m args below meth c H locs cells slots Q (F0 m (pc + 3) ls (.int r :: rest))) : W p l e R s m args below meth c H locs cells slots Q (F0 m pc ls (.ref o :: rest)) :=
  g_callR (W.runV (As := []) (rest := rest) hf hM (cwV 0 hf.2.2.2.2 (lw_V hq q928 qs34 q90 q929) rfl rfl rfl (by decide +kernel) hR) ⟨PC.blind, OC.recv hK hO, fun U hU hW => ⟨rfl, PC.at hO hK hA hZ hS hU hW⟩⟩ rfl rfl hs rfl (lv_room hr) hd hcs) kk
theorem clX0_goRound {p : Program} {l : Launch} {e : Env} {R : Room} {s : State} {m : MethodId} {args : Array Value} {below : List Frame} {meth : Method} {c : Code} {H : Heap} {locs : List Loc} {cells slots : Nat} {Q : State → Prop} {cc : ByteArray} {pc nL idx fr lo : Nat} {ls : Array Slot} {rest : List Value} {own : String} {D : va_G} {aC : Nat → ClassId} {A : Nat → Prop} {o : Nat} {la : LC} {z : GS} {zq : GS} {x1 : Int32} {x2 : Int32} {x3 : Int32}  (hf : CallFix p m c cc nL s args lw_all own) (hK : KC D aC s) (hO : OC D aC A o la z H) (hA : ∀ q : Nat, s.heap.size ≤ q → A q) (hZ : ZX A s s.heap) (hS : va_S A s.heap H locs) (hM : Met l yX0_goRound (ws_ yX0_goRound cX0_goRound 5 none) ({ frames := fr, cells := 0, slots := 0, locals := lo }) (va_Pc [.ref o, .int x1, .int x2, .int x3] (PC D aC A o la z)) (QG none (OC D aC A o la zq) A) 0 0 A) (hq : Cond.methodLink own idx yX0_goRound ∈ lw_all) (hs : ls.size = nL) (hr : (rest.map fun v => v.category).sum ≤ 8) (hR : fr + 1 ≤ R.frames ∧ 8 + (5 + 11) + lo ≤ R.locals) (hcs : cells + 0 ≤ R.cells ∧ slots + 0 ≤ R.slots) (hd : decode cc pc = .ok (.invokevirtual idx, 3)) (kk : ∀ (H1 : Heap) (locs1 : List Loc), OC D aC A o la zq H1 → va_S A s.heap H1 locs1 → W p l e R s m args below meth c H1 locs1 cells slots Q (F0 m (pc + 3) ls (rest))) : W p l e R s m args below meth c H locs cells slots Q (F0 m pc ls (.int x3 :: .int x2 :: .int x1 :: .ref o :: rest)) :=
  g_callG (W.runV (As := [.int x1, .int x2, .int x3]) (rest := rest) hf hM (cwV 3 hf.2.2.2.2 (lw_V hq q917 qs32 q90 q918) rfl rfl rfl (by decide +kernel) hR) ⟨PC.blind, OC.recv hK hO, fun U hU hW => ⟨rfl, PC.at hO hK hA hZ hS hU hW⟩⟩ rfl rfl hs rfl (lv_room hr) hd hcs) hS (fun H1 locs1 hP hS _ _ => kk H1 locs1 hP hS)
theorem metX0_goRoundb (l : Launch) (D : va_G) (aC : Nat → ClassId) (A : Nat → Prop) (o : Nat) (la : LC) (n : Nat) (rec : Int32 → Int32 → Int32 → GS → Option GS) (hrec : ∀ (x1 : Int32) (x2 : Int32) (x3 : Int32) (z : GS) (zq : GS), rec x1 x2 x3 z = some zq → Met l yX0_goRound (ws_ yX0_goRound cX0_goRound 5 none) ({ frames := 204 * n, cells := 0, slots := 0, locals := 20089 * n }) (va_Pc [.ref o, .int x1, .int x2, .int x3] (PC D aC A o la z)) (QG none (OC D aC A o la zq) A) 0 0 A) (x1 : Int32) (x2 : Int32) (x3 : Int32) (z : GS)  (zq : GS) (h : FX0_goRoundb rec x1 x2 x3 z = some zq) : Met l yX0_goRound (ws_ yX0_goRound cX0_goRound 5 none) ({ frames := 204 * (n + 1), cells := 0, slots := 0, locals := 20089 * (n + 1) }) (va_Pc [.ref o, .int x1, .int x2, .int x3] (PC D aC A o la z)) (QG none (OC D aC A o la zq) A) 0 0 A := by
  refine g_ofW (cc := cX0_goRound) (maxL := 5) (ret := none) (own := RX0) (by decide) rfl rfl [.ref o, .int x1, .int x2, .int x3] (PC D aC A o la z) (Nat.le_of_ble_eq_true rfl) ?_
  intro p e s m below meth c ls hx hb hr hml hts hown hlocks hnm hPre hl
  obtain ⟨hO, hK, hA, hZ⟩ := hPre
  have hf : CallFix p m c cX0_goRound 5 s _ lw_all RX0 := ⟨hx, hb, hml, hown, hts⟩
  have hl : lv_has ls 5 [(0, .ref o), (1, .int x1), (2, .int x2), (3, .int x3)] := hl
  refine g_open (A := A) (OC D aC A o la z) hO (fun H locs hO hS => ?_)
  unfold FX0_goRoundb at h
  refine lv_iload_n hx hb dX0_goRound_0 rfl (lv_at hl 1 rfl) ?_
  refine lv_aload_n hx hb dX0_goRound_1 rfl (lv_at hl 0 rfl) ?_
  refine X0_getF hx hb hts hown hK hO 1 (by decide) rfl (hts _ q165) dX0_goRound_2 ?_
  refine lv_icmp_ge (tgt := 67) hx hb dX0_goRound_5 (by decide) (fun c1 => ?_) (fun c1 => ?_)
  · have h := it_t c1 h
    refine lv_aload_n hx hb dX0_goRound_67 rfl (lv_at hl 0 rfl) ?_
    obtain ⟨r2, e3, h⟩ := bn1_e h
    refine clX0_isOneRing hf hK hO hA hZ hS (metX0_isOneRing l D aC A o la z r2 e3) q919 hl.1 (Nat.le_of_ble_eq_true rfl) ⟨by dsimp only; omega, by dsimp only; omega⟩ ⟨Nat.le_of_ble_eq_true rfl, Nat.le_of_ble_eq_true rfl⟩ dX0_goRound_68 ?_
    refine lv_if_ne (tgt := 75) hx hb dX0_goRound_71 (by decide) (fun c4 => ?_) (fun c4 => ?_)
    · have h := it_f c4 h
      refine lv_aload_n hx hb dX0_goRound_75 rfl (lv_at hl 0 rfl) ?_
      obtain ⟨z5, e6, h⟩ := bn1_e h
      refine clX0_layNow hf hK hO hA hZ hS (metX0_layNow l D aC A o la z z5 e6) q802 hl.1 (Nat.le_of_ble_eq_true rfl) ⟨by dsimp only; omega, by dsimp only; omega⟩ ⟨Nat.le_of_ble_eq_true rfl, Nat.le_of_ble_eq_true rfl⟩ dX0_goRound_76 (fun H locs hO hS => ?_)
      refine lv_aload_n hx hb dX0_goRound_79 rfl (lv_at hl 0 rfl) ?_
      refine X0_getA hx hb hts hown hK hO 18 (by decide) (Or.inl rfl) (hts _ q184) dX0_goRound_80 ?_
      refine lv_iconst (v := 0) hx hb dX0_goRound_83 (by decide) ?_
      refine lv_aload_n hx hb dX0_goRound_84 rfl (lv_at hl 0 rfl) ?_
      refine X0_getA hx hb hts hown hK hO 12 (by decide) (Or.inl rfl) (hts _ q178) dX0_goRound_85 ?_
      refine lv_iconst (v := 0) hx hb dX0_goRound_88 (by decide) ?_
      refine lv_aload_n hx hb dX0_goRound_89 rfl (lv_at hl 0 rfl) ?_
      refine X0_getF hx hb hts hown hK hO 1 (by decide) rfl (hts _ q165) dX0_goRound_90 ?_
      obtain ⟨g7, h⟩ := grd h
      refine X0_copy hx hb (hml.trans hl.1.symm) hts hown hK hO hS 18 12 (by decide) (by decide) rfl rfl rfl rfl g7 (hts _ q923) (by show _ ≤ _; dsimp only; omega) (Nat.le_trans nfw_le (by dsimp only; omega)) dX0_goRound_93 (fun H locs z8 ez8 hO hS => ?_)
      have h := pin_to ez8 h
      refine lv_aload_n hx hb dX0_goRound_96 rfl (lv_at hl 0 rfl) ?_
      refine lv_iload_n hx hb dX0_goRound_97 rfl (lv_at hl 3 rfl) ?_
      obtain ⟨z9, e10, h⟩ := bn1_e h
      refine clX0_goDays hf hK hO hA hZ hS (metX0_goDays l D aC A o la x3 z8 z9 e10) q864 hl.1 (Nat.le_of_ble_eq_true rfl) ⟨by dsimp only; omega, by dsimp only; omega⟩ ⟨Nat.le_of_ble_eq_true rfl, Nat.le_of_ble_eq_true rfl⟩ dX0_goRound_98 (fun H locs hO hS => ?_)
      refine lv_aload_n hx hb dX0_goRound_101 rfl (lv_at hl 0 rfl) ?_
      obtain ⟨r11, e12, h⟩ := bn1_e h
      refine clX0_lackMany hf hK hO hA hZ hS (metX0_lackMany l D aC A o la z9 r11 e12) q926 hl.1 (Nat.le_of_ble_eq_true rfl) ⟨by dsimp only; omega, by dsimp only; omega⟩ ⟨Nat.le_of_ble_eq_true rfl, Nat.le_of_ble_eq_true rfl⟩ dX0_goRound_102 ?_
      refine lv_istore (lv' := [(4, .int r11), (0, .ref o), (1, .int x1), (2, .int x2), (3, .int x3)]) hx hb dX0_goRound_105 hl (by decide) rfl (fun ls hl => ?_)
      refine lv_aload_n hx hb dX0_goRound_107 rfl (lv_at hl 1 rfl) ?_
      refine X0_getF hx hb hts hown hK hO 20 (by decide) rfl (hts _ q186) dX0_goRound_108 ?_
      obtain ⟨k13, e26, h⟩ := pin_nm h
      have hk13 : ∀  (ls : Array Slot), k13  = some zq → lv_has ls 5 [(0, .ref o), (4, .int r11)] → W p l e ({ frames := 204 * (n + 1), cells := 0, slots := 0, locals := 20089 * (n + 1) }) s m ([.ref o, .int x1, .int x2, .int x3] : List Value).toArray below meth c H locs 0 0 (MQ below (QG none (OC D aC A o la zq) A) ([.ref o, .int x1, .int x2, .int x3] : List Value).toArray s 0 0 A) (F0 m 144 ls []) := by
        intro  ls h hl
        rw [e26] at h
        refine lv_aload_n hx hb dX0_goRound_144 rfl (lv_at hl 0 rfl) ?_
        refine lv_iload hx hb dX0_goRound_145 (lv_at hl 1 rfl) ?_
        refine X0_putF hx hb hts hown hK hO hS 20 (by decide) rfl (by decide) (by decide) (hts _ q186) rfl (ty := .int) rfl rfl rfl dX0_goRound_147 (fun H locs z14 ez14 hO hS => ?_)
        have h := pin_to ez14 h
        refine lv_aload_n hx hb dX0_goRound_150 rfl (lv_at hl 0 rfl) ?_
        refine lv_aload_n hx hb dX0_goRound_151 rfl (lv_at hl 0 rfl) ?_
        obtain ⟨r15, e16, h⟩ := bn1_e h
        refine clX0_allStore hf hK hO hA hZ hS (metX0_allStore l D aC A o la z14 r15 e16) q875 hl.1 (Nat.le_of_ble_eq_true rfl) ⟨by dsimp only; omega, by dsimp only; omega⟩ ⟨Nat.le_of_ble_eq_true rfl, Nat.le_of_ble_eq_true rfl⟩ dX0_goRound_152 ?_
        refine X0_putF hx hb hts hown hK hO hS 21 (by decide) rfl (by decide) (by decide) (hts _ q187) rfl (ty := .int) rfl rfl rfl dX0_goRound_155 (fun H locs z17 ez17 hO hS => ?_)
        have h := pin_to ez17 h
        refine lv_aload_n hx hb dX0_goRound_158 rfl (lv_at hl 0 rfl) ?_
        refine X0_getA hx hb hts hown hK hO 18 (by decide) (Or.inl rfl) (hts _ q184) dX0_goRound_159 ?_
        refine lv_iconst (v := 0) hx hb dX0_goRound_162 (by decide) ?_
        refine lv_aload_n hx hb dX0_goRound_163 rfl (lv_at hl 0 rfl) ?_
        refine X0_getA hx hb hts hown hK hO 19 (by decide) (Or.inl rfl) (hts _ q185) dX0_goRound_164 ?_
        refine lv_iconst (v := 0) hx hb dX0_goRound_167 (by decide) ?_
        refine lv_aload_n hx hb dX0_goRound_168 rfl (lv_at hl 0 rfl) ?_
        refine X0_getF hx hb hts hown hK hO 1 (by decide) rfl (hts _ q165) dX0_goRound_169 ?_
        obtain ⟨g18, h⟩ := grd h
        refine X0_copy hx hb (hml.trans hl.1.symm) hts hown hK hO hS 18 19 (by decide) (by decide) rfl rfl rfl rfl g18 (hts _ q923) (by show _ ≤ _; dsimp only; omega) (Nat.le_trans nfw_le (by dsimp only; omega)) dX0_goRound_172 (fun H locs z19 ez19 hO hS => ?_)
        have h := pin_to ez19 h
        cases Option.some.inj h
        exact g_retGv hx hb hr hlocks hO hS dX0_goRound_175
      refine lv_if_lt (tgt := 144) hx hb dX0_goRound_111 (by decide) (fun c20 => ?_) (fun c20 => ?_)
      · have h := it_t c20 h
        exact hk13 _ h (lv_sub hl [1, 0] rfl)
      · have h := it_f c20 h
        refine lv_iload hx hb dX0_goRound_114 (lv_at hl 0 rfl) ?_
        refine lv_aload_n hx hb dX0_goRound_116 rfl (lv_at hl 1 rfl) ?_
        refine X0_getF hx hb hts hown hK hO 20 (by decide) rfl (hts _ q186) dX0_goRound_117 ?_
        refine lv_icmp_gt (tgt := 143) hx hb dX0_goRound_120 (by decide) (fun c21 => ?_) (fun c21 => ?_)
        · have h := it_t c21 h
          cases Option.some.inj h
          exact g_retGv hx hb hr hlocks hO hS dX0_goRound_143
        · have h := it_f c21 h
          refine lv_iload hx hb dX0_goRound_123 (lv_at hl 0 rfl) ?_
          refine lv_aload_n hx hb dX0_goRound_125 rfl (lv_at hl 1 rfl) ?_
          refine X0_getF hx hb hts hown hK hO 20 (by decide) rfl (hts _ q186) dX0_goRound_126 ?_
          refine lv_icmp_ne (tgt := 144) hx hb dX0_goRound_129 (by decide) (fun c22 => ?_) (fun c22 => ?_)
          · have h := it_f c22 h
            exact hk13 _ h (lv_sub hl [1, 0] rfl)
          · have h := it_t c22 h
            refine lv_aload_n hx hb dX0_goRound_132 rfl (lv_at hl 1 rfl) ?_
            obtain ⟨r23, e24, h⟩ := bn1_e h
            refine clX0_allStore hf hK hO hA hZ hS (metX0_allStore l D aC A o la z9 r23 e24) q875 hl.1 (Nat.le_of_ble_eq_true rfl) ⟨by dsimp only; omega, by dsimp only; omega⟩ ⟨Nat.le_of_ble_eq_true rfl, Nat.le_of_ble_eq_true rfl⟩ dX0_goRound_133 ?_
            refine lv_aload_n hx hb dX0_goRound_136 rfl (lv_at hl 1 rfl) ?_
            refine X0_getF hx hb hts hown hK hO 21 (by decide) rfl (hts _ q187) dX0_goRound_137 ?_
            refine lv_icmp_gt (tgt := 144) hx hb dX0_goRound_140 (by decide) (fun c25 => ?_) (fun c25 => ?_)
            · have h := it_t c25 h
              exact hk13 _ h (lv_sub hl [1, 0] rfl)
            · have h := it_f c25 h
              cases Option.some.inj h
              exact g_retGv hx hb hr hlocks hO hS dX0_goRound_143
    · have h := it_t c4 h
      cases Option.some.inj h
      exact g_retGv hx hb hr hlocks hO hS dX0_goRound_74
  · have h := it_f c1 h
    refine lv_iconst (v := 0) hx hb dX0_goRound_8 (by decide) ?_
    refine lv_istore (lv' := [(4, .int 0), (0, .ref o), (1, .int x1), (2, .int x2), (3, .int x3)]) hx hb dX0_goRound_9 hl (by decide) rfl (fun ls hl => ?_)
    have key38 : ∀ (f : Nat) (v4 : Int32) (z : GS) (H : Heap) (locs : List Loc) (ls : Array Slot), FX0_goRound_L11 rec x1 x2 x3 f v4 z = some zq → OC D aC A o la z H → va_S A s.heap H locs → lv_has ls 5 [(0, .ref o), (1, .int x1), (2, .int x2), (3, .int x3), (4, .int v4)] → W p l e ({ frames := 204 * (n + 1), cells := 0, slots := 0, locals := 20089 * (n + 1) }) s m ([.ref o, .int x1, .int x2, .int x3] : List Value).toArray below meth c H locs 0 0 (MQ below (QG none (OC D aC A o la zq) A) ([.ref o, .int x1, .int x2, .int x3] : List Value).toArray s 0 0 A) (F0 m 11 ls []) := by
      intro f
      induction f with
      | zero =>
        intro v4 z H locs ls h
        rw [FX0_goRound_L11] at h
        cases h
      | succ f ih27 =>
        intro v4 z H locs ls h hO hS hl
        rw [FX0_goRound_L11] at h
        refine lv_iload hx hb dX0_goRound_11 (lv_at hl 4 rfl) ?_
        refine lv_aload_n hx hb dX0_goRound_13 rfl (lv_at hl 0 rfl) ?_
        refine X0_getF hx hb hts hown hK hO 1 (by decide) rfl (hts _ q165) dX0_goRound_14 ?_
        refine lv_icmp_ge (tgt := 66) hx hb dX0_goRound_17 (by decide) (fun c28 => ?_) (fun c28 => ?_)
        · have h := it_t c28 h
          cases Option.some.inj h
          exact g_retGv hx hb hr hlocks hO hS dX0_goRound_66
        · have h := it_f c28 h
          refine lv_iload hx hb dX0_goRound_20 (lv_at hl 4 rfl) ?_
          refine lv_iload_n hx hb dX0_goRound_22 rfl (lv_at hl 1 rfl) ?_
          obtain ⟨k29, e37, h⟩ := pin_nm h
          have hk29 : ∀  (z30 : GS) (H : Heap) (locs : List Loc) (ls : Array Slot), k29  z30 = some zq → OC D aC A o la z30 H → va_S A s.heap H locs → lv_has ls 5 [(0, .ref o), (1, .int x1), (2, .int x2), (3, .int x3), (4, .int v4)] → W p l e ({ frames := 204 * (n + 1), cells := 0, slots := 0, locals := 20089 * (n + 1) }) s m ([.ref o, .int x1, .int x2, .int x3] : List Value).toArray below meth c H locs 0 0 (MQ below (QG none (OC D aC A o la zq) A) ([.ref o, .int x1, .int x2, .int x3] : List Value).toArray s 0 0 A) (F0 m 60 ls []) := by
            intro  z30 H locs ls h hO hS hl
            rw [e37] at h
            refine lv_iinc (v := (v4 + 1)) (lv' := [(4, .int (v4 + 1)), (0, .ref o), (1, .int x1), (2, .int x2), (3, .int x3)]) hx hb dX0_goRound_60 hl (k := 4) rfl rfl (by decide) rfl (fun ls hl => ?_)
            refine lv_goto (tgt := 11) hx hb dX0_goRound_63 (by decide) ?_
            exact ih27 _ _ _ _ _ h hO hS (lv_sub hl [1, 2, 3, 4, 0] rfl)
          refine lv_icmp_eq (tgt := 60) hx hb dX0_goRound_23 (by decide) (fun c31 => ?_) (fun c31 => ?_)
          · have h := it_t c31 h
            exact hk29 _ _ _ _ h hO hS (lv_sub hl [0, 1, 2, 3, 4] rfl)
          · have h := it_f c31 h
            refine lv_iload_n hx hb dX0_goRound_26 rfl (lv_at hl 2 rfl) ?_
            refine lv_iload hx hb dX0_goRound_27 (lv_at hl 4 rfl) ?_
            refine clX0_has hf (metX0_has l x2 v4 _ rfl) q810 hl.1 (Nat.le_of_ble_eq_true rfl) ⟨by dsimp only; omega, by dsimp only; omega⟩ ⟨Nat.le_of_ble_eq_true rfl, Nat.le_of_ble_eq_true rfl⟩ dX0_goRound_29 ?_
            refine lv_if_eq (tgt := 38) hx hb dX0_goRound_32 (by decide) (fun c32 => ?_) (fun c32 => ?_)
            · have h := it_t c32 h
              refine lv_aload_n hx hb dX0_goRound_38 rfl (lv_at hl 0 rfl) ?_
              refine X0_getA hx hb hts hown hK hO 18 (by decide) (Or.inl rfl) (hts _ q184) dX0_goRound_39 ?_
              refine lv_iload_n hx hb dX0_goRound_42 rfl (lv_at hl 1 rfl) ?_
              refine lv_iload hx hb dX0_goRound_43 (lv_at hl 4 rfl) ?_
              obtain ⟨g33, h⟩ := grd h
              refine X0_iastore hx hb hK hO hS 18 (by decide) rfl rfl g33 dX0_goRound_45 (fun H locs z34 ez34 hO hS => ?_)
              have h := pin_to ez34 h
              refine lv_aload_n hx hb dX0_goRound_46 rfl (lv_at hl 0 rfl) ?_
              refine lv_iload_n hx hb dX0_goRound_47 rfl (lv_at hl 1 rfl) ?_
              refine lv_iconst (v := 1) hx hb dX0_goRound_48 (by decide) ?_
              refine lv_iadd hx hb dX0_goRound_49 ?_
              refine lv_iload_n hx hb dX0_goRound_50 rfl (lv_at hl 2 rfl) ?_
              refine lv_iconst (v := 1) hx hb dX0_goRound_51 (by decide) ?_
              refine lv_iload hx hb dX0_goRound_52 (lv_at hl 4 rfl) ?_
              refine g_ishl hx hb dX0_goRound_54 ?_
              refine lv_ior hx hb dX0_goRound_55 ?_
              refine lv_iload_n hx hb dX0_goRound_56 rfl (lv_at hl 3 rfl) ?_
              obtain ⟨z35, e36, h⟩ := bn1_e h
              refine clX0_goRound hf hK hO hA hZ hS (hrec (x1 + 1) (x2 ||| (jshl 1 v4)) x3 z34 z35 e36) q915 hl.1 (Nat.le_of_ble_eq_true rfl) ⟨by dsimp only; omega, by dsimp only; omega⟩ ⟨Nat.le_of_ble_eq_true rfl, Nat.le_of_ble_eq_true rfl⟩ dX0_goRound_57 (fun H locs hO hS => ?_)
              exact hk29 _ _ _ _ h hO hS (lv_sub hl [0, 1, 2, 3, 4] rfl)
            · have h := it_f c32 h
              refine lv_goto (tgt := 60) hx hb dX0_goRound_35 (by decide) ?_
              exact hk29 _ _ _ _ h hO hS (lv_sub hl [0, 1, 2, 3, 4] rfl)
    exact key38 FU _ _ _ _ _ h hO hS (lv_sub hl [1, 2, 3, 4, 0] rfl)
theorem metX0_goRound (l : Launch) (D : va_G) (aC : Nat → ClassId) (A : Nat → Prop) (o : Nat) (la : LC) (n : Nat) : ∀ (x1 : Int32) (x2 : Int32) (x3 : Int32) (z : GS)  (zq : GS), FX0_goRound n x1 x2 x3 z = some zq → Met l yX0_goRound (ws_ yX0_goRound cX0_goRound 5 none) ({ frames := 204 * n, cells := 0, slots := 0, locals := 20089 * n }) (va_Pc [.ref o, .int x1, .int x2, .int x3] (PC D aC A o la z)) (QG none (OC D aC A o la zq) A) 0 0 A := by
  induction n with
  | zero =>
    intro x1 x2 x3 z zq h
    rw [FX0_goRound] at h
    cases h
  | succ n ih =>
    intro x1 x2 x3 z zq h
    rw [FX0_goRound] at h
    exact metX0_goRoundb l D aC A o la n _ ih x1 x2 x3 z zq h
theorem metX0_round (l : Launch) (D : va_G) (aC : Nat → ClassId) (A : Nat → Prop) (o : Nat) (la : LC) (x1 : Int32) (x2 : Int32) (z : GS) (r : Int32) (zq : GS) (h : FX0_round x1 x2 z = some (r, zq)) : Met l yX0_round (ws_ yX0_round cX0_round 3 (some .int)) ({ frames := 2041, cells := 0, slots := 0, locals := 200914 }) (va_Pc [.ref o, .int x1, .int x2] (PC D aC A o la z)) (QG (some (.int r)) (OC D aC A o la zq) A) 0 0 A := by
  refine g_ofW (cc := cX0_round) (maxL := 3) (ret := (some .int)) (own := RX0) (by decide) rfl rfl [.ref o, .int x1, .int x2] (PC D aC A o la z) (Nat.le_of_ble_eq_true rfl) ?_
  intro p e s m below meth c ls hx hb hr hml hts hown hlocks hnm hPre hl
  obtain ⟨hO, hK, hA, hZ⟩ := hPre
  have hf : CallFix p m c cX0_round 3 s _ lw_all RX0 := ⟨hx, hb, hml, hown, hts⟩
  have hl : lv_has ls 3 [(0, .ref o), (1, .int x1), (2, .int x2)] := hl
  refine g_open (A := A) (OC D aC A o la z) hO (fun H locs hO hS => ?_)
  unfold FX0_round at h
  refine lv_iload_n hx hb dX0_round_0 rfl (lv_at hl 1 rfl) ?_
  refine lv_iconst (v := 0) hx hb dX0_round_1 (by decide) ?_
  refine lv_bipush (v := 6) hx hb dX0_round_2 (by decide) ?_
  refine clX0_in hf (metX0_in l x1 0 6 _ rfl) q309 hl.1 (Nat.le_of_ble_eq_true rfl) ⟨Nat.le_of_ble_eq_true rfl, Nat.le_of_ble_eq_true rfl⟩ ⟨Nat.le_of_ble_eq_true rfl, Nat.le_of_ble_eq_true rfl⟩ dX0_round_4 ?_
  refine lv_if_eq (tgt := 25) hx hb dX0_round_7 (by decide) (fun c1 => ?_) (fun c1 => ?_)
  · have h := it_t c1 h
    refine lv_iconst (v := (-1)) hx hb dX0_round_25 (by decide) ?_
    obtain ⟨e8, rfl⟩ := Prod.mk.inj (Option.some.inj h)
    exact g_retG hx hb hr hlocks e8 hO hS dX0_round_26
  · have h := it_f c1 h
    refine lv_iload_n hx hb dX0_round_10 rfl (lv_at hl 2 rfl) ?_
    refine lv_bipush (v := (-2)) hx hb dX0_round_11 (by decide) ?_
    refine lv_aload_n hx hb dX0_round_13 rfl (lv_at hl 0 rfl) ?_
    refine X0_getF hx hb hts hown hK hO 1 (by decide) rfl (hts _ q165) dX0_round_14 ?_
    refine lv_iconst (v := 1) hx hb dX0_round_17 (by decide) ?_
    refine lv_isub hx hb dX0_round_18 ?_
    refine clX0_in hf (metX0_in l x2 (-2) ((gF z 1) - 1) _ rfl) q309 hl.1 (Nat.le_of_ble_eq_true rfl) ⟨Nat.le_of_ble_eq_true rfl, Nat.le_of_ble_eq_true rfl⟩ ⟨Nat.le_of_ble_eq_true rfl, Nat.le_of_ble_eq_true rfl⟩ dX0_round_19 ?_
    refine lv_if_ne (tgt := 27) hx hb dX0_round_22 (by decide) (fun c2 => ?_) (fun c2 => ?_)
    · have h := it_f c2 h
      refine lv_aload_n hx hb dX0_round_27 rfl (lv_at hl 0 rfl) ?_
      refine lv_iconst (v := (-1)) hx hb dX0_round_28 (by decide) ?_
      refine X0_putF hx hb hts hown hK hO hS 20 (by decide) rfl (by decide) (by decide) (hts _ q186) rfl (ty := .int) rfl rfl rfl dX0_round_29 (fun H locs z3 ez3 hO hS => ?_)
      have h := pin_to ez3 h
      refine lv_aload_n hx hb dX0_round_32 rfl (lv_at hl 0 rfl) ?_
      refine X0_getF hx hb hts hown hK hO 1 (by decide) rfl (hts _ q165) dX0_round_33 ?_
      refine lv_iconst (v := 1) hx hb dX0_round_36 (by decide) ?_
      obtain ⟨k4, e13, h⟩ := pin_nm h
      have hk4 : ∀  (z5 : GS) (H : Heap) (locs : List Loc) (ls : Array Slot), k4  z5 = some (r, zq) → OC D aC A o la z5 H → va_S A s.heap H locs → lv_has ls 3 [(0, .ref o), (2, .int x2)] → W p l e ({ frames := 2041, cells := 0, slots := 0, locals := 200914 }) s m ([.ref o, .int x1, .int x2] : List Value).toArray below meth c H locs 0 0 (MQ below (QG (some (.int r)) (OC D aC A o la zq) A) ([.ref o, .int x1, .int x2] : List Value).toArray s 0 0 A) (F0 m 47 ls []) := by
        intro  z5 H locs ls h hO hS hl
        rw [e13] at h
        refine lv_aload_n hx hb dX0_round_47 rfl (lv_at hl 0 rfl) ?_
        refine X0_getF hx hb hts hown hK hO 20 (by decide) rfl (hts _ q186) dX0_round_48 ?_
        refine lv_if_ge (tgt := 57) hx hb dX0_round_51 (by decide) (fun c6 => ?_) (fun c6 => ?_)
        · have h := it_t c6 h
          refine lv_iload_n hx hb dX0_round_57 rfl (lv_at hl 1 rfl) ?_
          refine lv_iconst (v := (-1)) hx hb dX0_round_58 (by decide) ?_
          refine lv_icmp_ne (tgt := 69) hx hb dX0_round_59 (by decide) (fun c7 => ?_) (fun c7 => ?_)
          · have h := it_f c7 h
            refine lv_iload_n hx hb dX0_round_69 rfl (lv_at hl 1 rfl) ?_
            refine lv_if_ge (tgt := 80) hx hb dX0_round_70 (by decide) (fun c8 => ?_) (fun c8 => ?_)
            · have h := it_t c8 h
              refine lv_aload_n hx hb dX0_round_80 rfl (lv_at hl 0 rfl) ?_
              refine X0_getA hx hb hts hown hK hO 19 (by decide) (Or.inl rfl) (hts _ q185) dX0_round_81 ?_
              refine lv_iload_n hx hb dX0_round_84 rfl (lv_at hl 1 rfl) ?_
              obtain ⟨g9, h⟩ := grd h
              refine X0_iaload hx hb hK hO 19 (by decide) rfl rfl g9 dX0_round_85 ?_
              obtain ⟨e8, rfl⟩ := Prod.mk.inj (Option.some.inj h)
              exact g_retG hx hb hr hlocks e8 hO hS dX0_round_86
            · have h := it_f c8 h
              refine lv_aload_n hx hb dX0_round_73 rfl (lv_at hl 0 rfl) ?_
              refine X0_getF hx hb hts hown hK hO 21 (by decide) rfl (hts _ q187) dX0_round_74 ?_
              refine lv_goto (tgt := 86) hx hb dX0_round_77 (by decide) ?_
              obtain ⟨e8, rfl⟩ := Prod.mk.inj (Option.some.inj h)
              exact g_retG hx hb hr hlocks e8 hO hS dX0_round_86
          · have h := it_t c7 h
            refine lv_aload_n hx hb dX0_round_62 rfl (lv_at hl 0 rfl) ?_
            refine X0_getF hx hb hts hown hK hO 20 (by decide) rfl (hts _ q186) dX0_round_63 ?_
            refine lv_goto (tgt := 86) hx hb dX0_round_66 (by decide) ?_
            obtain ⟨e8, rfl⟩ := Prod.mk.inj (Option.some.inj h)
            exact g_retG hx hb hr hlocks e8 hO hS dX0_round_86
        · have h := it_f c6 h
          refine lv_bipush (v := (-2)) hx hb dX0_round_54 (by decide) ?_
          obtain ⟨e8, rfl⟩ := Prod.mk.inj (Option.some.inj h)
          exact g_retG hx hb hr hlocks e8 hO hS dX0_round_56
      refine lv_icmp_le (tgt := 47) hx hb dX0_round_37 (by decide) (fun c10 => ?_) (fun c10 => ?_)
      · have h := it_t c10 h
        exact hk4 _ _ _ _ h hO hS (lv_sub hl [0, 2] rfl)
      · have h := it_f c10 h
        refine lv_aload_n hx hb dX0_round_40 rfl (lv_at hl 0 rfl) ?_
        refine lv_iconst (v := 0) hx hb dX0_round_41 (by decide) ?_
        refine lv_iconst (v := 0) hx hb dX0_round_42 (by decide) ?_
        refine lv_iload_n hx hb dX0_round_43 rfl (lv_at hl 1 rfl) ?_
        obtain ⟨z11, e12, h⟩ := bn1_e h
        refine clX0_goRound hf hK hO hA hZ hS (metX0_goRound l D aC A o la 10 0 0 x1 z3 z11 e12) q915 hl.1 (Nat.le_of_ble_eq_true rfl) ⟨Nat.le_of_ble_eq_true rfl, Nat.le_of_ble_eq_true rfl⟩ ⟨Nat.le_of_ble_eq_true rfl, Nat.le_of_ble_eq_true rfl⟩ dX0_round_44 (fun H locs hO hS => ?_)
        exact hk4 _ _ _ _ h hO hS (lv_sub hl [0, 2] rfl)
    · have h := it_t c2 h
      refine lv_iconst (v := (-1)) hx hb dX0_round_25 (by decide) ?_
      obtain ⟨e8, rfl⟩ := Prod.mk.inj (Option.some.inj h)
      exact g_retG hx hb hr hlocks e8 hO hS dX0_round_26
theorem clX0_round {p : Program} {l : Launch} {e : Env} {R : Room} {s : State} {m : MethodId} {args : Array Value} {below : List Frame} {meth : Method} {c : Code} {H : Heap} {locs : List Loc} {cells slots : Nat} {Q : State → Prop} {cc : ByteArray} {pc nL idx fr lo : Nat} {ls : Array Slot} {rest : List Value} {own : String} {D : va_G} {aC : Nat → ClassId} {A : Nat → Prop} {o : Nat} {la : LC} {z : GS} {zq : GS} {x1 : Int32} {x2 : Int32} {r : Int32} (hf : CallFix p m c cc nL s args lw_all own) (hK : KC D aC s) (hO : OC D aC A o la z H) (hA : ∀ q : Nat, s.heap.size ≤ q → A q) (hZ : ZX A s s.heap) (hS : va_S A s.heap H locs) (hM : Met l yX0_round (ws_ yX0_round cX0_round 3 (some .int)) ({ frames := fr, cells := 0, slots := 0, locals := lo }) (va_Pc [.ref o, .int x1, .int x2] (PC D aC A o la z)) (QG (some (.int r)) (OC D aC A o la zq) A) 0 0 A) (hq : Cond.methodLink own idx yX0_round ∈ lw_all) (hs : ls.size = nL) (hr : (rest.map fun v => v.category).sum ≤ 8) (hR : fr + 1 ≤ R.frames ∧ 8 + (3 + 11) + lo ≤ R.locals) (hcs : cells + 0 ≤ R.cells ∧ slots + 0 ≤ R.slots) (hd : decode cc pc = .ok (.invokevirtual idx, 3)) (kk : ∀ (H1 : Heap) (locs1 : List Loc), OC D aC A o la zq H1 → va_S A s.heap H1 locs1 → W p l e R s m args below meth c H1 locs1 cells slots Q (F0 m (pc + 3) ls (.int r :: rest))) : W p l e R s m args below meth c H locs cells slots Q (F0 m pc ls (.int x2 :: .int x1 :: .ref o :: rest)) :=
  g_callG (W.runV (As := [.int x1, .int x2]) (rest := rest) hf hM (cwV 2 hf.2.2.2.2 (lw_V hq q912 q913 q90 q914) rfl rfl rfl (by decide +kernel) hR) ⟨PC.blind, OC.recv hK hO, fun U hU hW => ⟨rfl, PC.at hO hK hA hZ hS hU hW⟩⟩ rfl rfl hs rfl (lv_room hr) hd hcs) hS (fun H1 locs1 hP hS _ _ => kk H1 locs1 hP hS)
theorem clX0_goMended {p : Program} {l : Launch} {e : Env} {R : Room} {s : State} {m : MethodId} {args : Array Value} {below : List Frame} {meth : Method} {c : Code} {H : Heap} {locs : List Loc} {cells slots : Nat} {Q : State → Prop} {cc : ByteArray} {pc nL idx fr lo : Nat} {ls : Array Slot} {rest : List Value} {own : String} {D : va_G} {aC : Nat → ClassId} {A : Nat → Prop} {o : Nat} {la : LC} {z : GS} {zq : GS} {x1 : Int32} {x2 : Int32} {x3 : Int32}  (hf : CallFix p m c cc nL s args lw_all own) (hK : KC D aC s) (hO : OC D aC A o la z H) (hA : ∀ q : Nat, s.heap.size ≤ q → A q) (hZ : ZX A s s.heap) (hS : va_S A s.heap H locs) (hM : Met l yX0_goMended (ws_ yX0_goMended cX0_goMended 5 none) ({ frames := fr, cells := 0, slots := 0, locals := lo }) (va_Pc [.ref o, .int x1, .int x2, .int x3] (PC D aC A o la z)) (QG none (OC D aC A o la zq) A) 0 0 A) (hq : Cond.methodLink own idx yX0_goMended ∈ lw_all) (hs : ls.size = nL) (hr : (rest.map fun v => v.category).sum ≤ 8) (hR : fr + 1 ≤ R.frames ∧ 8 + (5 + 11) + lo ≤ R.locals) (hcs : cells + 0 ≤ R.cells ∧ slots + 0 ≤ R.slots) (hd : decode cc pc = .ok (.invokevirtual idx, 3)) (kk : ∀ (H1 : Heap) (locs1 : List Loc), OC D aC A o la zq H1 → va_S A s.heap H1 locs1 → W p l e R s m args below meth c H1 locs1 cells slots Q (F0 m (pc + 3) ls (rest))) : W p l e R s m args below meth c H locs cells slots Q (F0 m pc ls (.int x3 :: .int x2 :: .int x1 :: .ref o :: rest)) :=
  g_callG (W.runV (As := [.int x1, .int x2, .int x3]) (rest := rest) hf hM (cwV 3 hf.2.2.2.2 (lw_V hq q942 qs35 q90 q943) rfl rfl rfl (by decide +kernel) hR) ⟨PC.blind, OC.recv hK hO, fun U hU hW => ⟨rfl, PC.at hO hK hA hZ hS hU hW⟩⟩ rfl rfl hs rfl (lv_room hr) hd hcs) hS (fun H1 locs1 hP hS _ _ => kk H1 locs1 hP hS)
theorem metX0_goMendedb (l : Launch) (D : va_G) (aC : Nat → ClassId) (A : Nat → Prop) (o : Nat) (la : LC) (n : Nat) (rec : Int32 → Int32 → Int32 → GS → Option GS) (hrec : ∀ (x1 : Int32) (x2 : Int32) (x3 : Int32) (z : GS) (zq : GS), rec x1 x2 x3 z = some zq → Met l yX0_goMended (ws_ yX0_goMended cX0_goMended 5 none) ({ frames := 1 * n, cells := 0, slots := 0, locals := 60 * n }) (va_Pc [.ref o, .int x1, .int x2, .int x3] (PC D aC A o la z)) (QG none (OC D aC A o la zq) A) 0 0 A) (x1 : Int32) (x2 : Int32) (x3 : Int32) (z : GS)  (zq : GS) (h : FX0_goMendedb rec x1 x2 x3 z = some zq) : Met l yX0_goMended (ws_ yX0_goMended cX0_goMended 5 none) ({ frames := 1 * (n + 1), cells := 0, slots := 0, locals := 60 * (n + 1) }) (va_Pc [.ref o, .int x1, .int x2, .int x3] (PC D aC A o la z)) (QG none (OC D aC A o la zq) A) 0 0 A := by
  refine g_ofW (cc := cX0_goMended) (maxL := 5) (ret := none) (own := RX0) (by decide) rfl rfl [.ref o, .int x1, .int x2, .int x3] (PC D aC A o la z) (Nat.le_of_ble_eq_true rfl) ?_
  intro p e s m below meth c ls hx hb hr hml hts hown hlocks hnm hPre hl
  obtain ⟨hO, hK, hA, hZ⟩ := hPre
  have hf : CallFix p m c cX0_goMended 5 s _ lw_all RX0 := ⟨hx, hb, hml, hown, hts⟩
  have hl : lv_has ls 5 [(0, .ref o), (1, .int x1), (2, .int x2), (3, .int x3)] := hl
  refine g_open (A := A) (OC D aC A o la z) hO (fun H locs hO hS => ?_)
  unfold FX0_goMendedb at h
  refine lv_aload_n hx hb dX0_goMended_0 rfl (lv_at hl 0 rfl) ?_
  refine X0_getF hx hb hts hown hK hO 20 (by decide) rfl (hts _ q186) dX0_goMended_1 ?_
  obtain ⟨k1, e25, h⟩ := pin_nm h
  have hk1 : ∀  (ls : Array Slot), k1  = some zq → lv_has ls 5 [(0, .ref o), (1, .int x1), (2, .int x2), (3, .int x3)] → W p l e ({ frames := 1 * (n + 1), cells := 0, slots := 0, locals := 60 * (n + 1) }) s m ([.ref o, .int x1, .int x2, .int x3] : List Value).toArray below meth c H locs 0 0 (MQ below (QG none (OC D aC A o la zq) A) ([.ref o, .int x1, .int x2, .int x3] : List Value).toArray s 0 0 A) (F0 m 16 ls []) := by
    intro  ls h hl
    rw [e25] at h
    refine lv_iload_n hx hb dX0_goMended_16 rfl (lv_at hl 1 rfl) ?_
    refine lv_aload_n hx hb dX0_goMended_17 rfl (lv_at hl 0 rfl) ?_
    refine X0_getF hx hb hts hown hK hO 1 (by decide) rfl (hts _ q165) dX0_goMended_18 ?_
    refine lv_icmp_ne (tgt := 47) hx hb dX0_goMended_21 (by decide) (fun c2 => ?_) (fun c2 => ?_)
    · have h := it_f c2 h
      refine lv_iconst (v := 0) hx hb dX0_goMended_47 (by decide) ?_
      refine lv_istore (lv' := [(4, .int 0), (0, .ref o), (1, .int x1), (2, .int x2), (3, .int x3)]) hx hb dX0_goMended_48 hl (by decide) rfl (fun ls hl => ?_)
      have key19 : ∀ (f : Nat) (v4 : Int32) (z : GS) (H : Heap) (locs : List Loc) (ls : Array Slot), FX0_goMended_L50 rec x1 x2 x3 f v4 z = some zq → OC D aC A o la z H → va_S A s.heap H locs → lv_has ls 5 [(0, .ref o), (1, .int x1), (2, .int x2), (3, .int x3), (4, .int v4)] → W p l e ({ frames := 1 * (n + 1), cells := 0, slots := 0, locals := 60 * (n + 1) }) s m ([.ref o, .int x1, .int x2, .int x3] : List Value).toArray below meth c H locs 0 0 (MQ below (QG none (OC D aC A o la zq) A) ([.ref o, .int x1, .int x2, .int x3] : List Value).toArray s 0 0 A) (F0 m 50 ls []) := by
        intro f
        induction f with
        | zero =>
          intro v4 z H locs ls h
          rw [FX0_goMended_L50] at h
          cases h
        | succ f ih3 =>
          intro v4 z H locs ls h hO hS hl
          rw [FX0_goMended_L50] at h
          refine lv_iload hx hb dX0_goMended_50 (lv_at hl 4 rfl) ?_
          refine lv_aload_n hx hb dX0_goMended_52 rfl (lv_at hl 0 rfl) ?_
          refine X0_getF hx hb hts hown hK hO 1 (by decide) rfl (hts _ q165) dX0_goMended_53 ?_
          refine lv_icmp_ge (tgt := 125) hx hb dX0_goMended_56 (by decide) (fun c4 => ?_) (fun c4 => ?_)
          · have h := it_t c4 h
            cases Option.some.inj h
            exact g_retGv hx hb hr hlocks hO hS dX0_goMended_125
          · have h := it_f c4 h
            refine lv_iload hx hb dX0_goMended_59 (lv_at hl 4 rfl) ?_
            refine lv_iload_n hx hb dX0_goMended_61 rfl (lv_at hl 1 rfl) ?_
            obtain ⟨k5, e18, h⟩ := pin_nm h
            have hk5 : ∀  (z6 : GS) (H : Heap) (locs : List Loc) (ls : Array Slot), k5  z6 = some zq → OC D aC A o la z6 H → va_S A s.heap H locs → lv_has ls 5 [(0, .ref o), (1, .int x1), (2, .int x2), (3, .int x3), (4, .int v4)] → W p l e ({ frames := 1 * (n + 1), cells := 0, slots := 0, locals := 60 * (n + 1) }) s m ([.ref o, .int x1, .int x2, .int x3] : List Value).toArray below meth c H locs 0 0 (MQ below (QG none (OC D aC A o la zq) A) ([.ref o, .int x1, .int x2, .int x3] : List Value).toArray s 0 0 A) (F0 m 119 ls []) := by
              intro  z6 H locs ls h hO hS hl
              rw [e18] at h
              refine lv_iinc (v := (v4 + 1)) (lv' := [(4, .int (v4 + 1)), (0, .ref o), (1, .int x1), (2, .int x2), (3, .int x3)]) hx hb dX0_goMended_119 hl (k := 4) rfl rfl (by decide) rfl (fun ls hl => ?_)
              refine lv_goto (tgt := 50) hx hb dX0_goMended_122 (by decide) ?_
              exact ih3 _ _ _ _ _ h hO hS (lv_sub hl [1, 2, 3, 4, 0] rfl)
            refine lv_icmp_eq (tgt := 119) hx hb dX0_goMended_62 (by decide) (fun c7 => ?_) (fun c7 => ?_)
            · have h := it_t c7 h
              exact hk5 _ _ _ _ h hO hS (lv_sub hl [0, 1, 2, 3, 4] rfl)
            · have h := it_f c7 h
              refine lv_iload_n hx hb dX0_goMended_65 rfl (lv_at hl 2 rfl) ?_
              refine lv_iload hx hb dX0_goMended_66 (lv_at hl 4 rfl) ?_
              refine clX0_has hf (metX0_has l x2 v4 _ rfl) q810 hl.1 (Nat.le_of_ble_eq_true rfl) ⟨by dsimp only; omega, by dsimp only; omega⟩ ⟨Nat.le_of_ble_eq_true rfl, Nat.le_of_ble_eq_true rfl⟩ dX0_goMended_68 ?_
              refine lv_if_eq (tgt := 77) hx hb dX0_goMended_71 (by decide) (fun c8 => ?_) (fun c8 => ?_)
              · have h := it_t c8 h
                refine lv_aload_n hx hb dX0_goMended_77 rfl (lv_at hl 0 rfl) ?_
                refine X0_getA hx hb hts hown hK hO 18 (by decide) (Or.inl rfl) (hts _ q184) dX0_goMended_78 ?_
                refine lv_iload_n hx hb dX0_goMended_81 rfl (lv_at hl 1 rfl) ?_
                refine lv_iload hx hb dX0_goMended_82 (lv_at hl 4 rfl) ?_
                obtain ⟨g9, h⟩ := grd h
                refine X0_iastore hx hb hK hO hS 18 (by decide) rfl rfl g9 dX0_goMended_84 (fun H locs z10 ez10 hO hS => ?_)
                have h := pin_to ez10 h
                refine lv_aload_n hx hb dX0_goMended_85 rfl (lv_at hl 0 rfl) ?_
                refine lv_iload_n hx hb dX0_goMended_86 rfl (lv_at hl 1 rfl) ?_
                refine lv_iconst (v := 1) hx hb dX0_goMended_87 (by decide) ?_
                refine lv_iadd hx hb dX0_goMended_88 ?_
                refine lv_iload_n hx hb dX0_goMended_89 rfl (lv_at hl 2 rfl) ?_
                refine lv_iconst (v := 1) hx hb dX0_goMended_90 (by decide) ?_
                refine lv_iload hx hb dX0_goMended_91 (lv_at hl 4 rfl) ?_
                refine g_ishl hx hb dX0_goMended_93 ?_
                refine lv_ior hx hb dX0_goMended_94 ?_
                refine lv_iload_n hx hb dX0_goMended_95 rfl (lv_at hl 3 rfl) ?_
                refine lv_aload_n hx hb dX0_goMended_96 rfl (lv_at hl 0 rfl) ?_
                refine X0_getA hx hb hts hown hK hO 0 (by decide) (Or.inl rfl) (hts _ q164) dX0_goMended_97 ?_
                refine lv_iload_n hx hb dX0_goMended_100 rfl (lv_at hl 1 rfl) ?_
                obtain ⟨g11, h⟩ := grd h
                refine X0_paald hx hb hK hO g11 dX0_goMended_101 ?_
                refine X0_getP hx hb hts hown hK hO g11 4 (by decide) (hK.nw q330 rfl) dX0_goMended_102 ?_
                refine lv_iload hx hb dX0_goMended_105 (lv_at hl 4 rfl) ?_
                obtain ⟨k13, e16, h⟩ := pin_nm2 h
                have hk13 : ∀ (u12 : Int32) (ls : Array Slot), k13 u12 = some zq → lv_has ls 5 [(0, .ref o), (1, .int x1), (2, .int x2), (3, .int x3), (4, .int v4)] → W p l e ({ frames := 1 * (n + 1), cells := 0, slots := 0, locals := 60 * (n + 1) }) s m ([.ref o, .int x1, .int x2, .int x3] : List Value).toArray below meth c H locs 0 0 (MQ below (QG none (OC D aC A o la zq) A) ([.ref o, .int x1, .int x2, .int x3] : List Value).toArray s 0 0 A) (F0 m 115 ls [.int u12, .int x3, .int (x2 ||| (jshl 1 v4)), .int (x1 + 1), .ref o]) := by
                  intro u12 ls h hl
                  rw [e16] at h
                  refine lv_iadd hx hb dX0_goMended_115 ?_
                  obtain ⟨z14, e15, h⟩ := bn1_e h
                  refine clX0_goMended hf hK hO hA hZ hS (hrec (x1 + 1) (x2 ||| (jshl 1 v4)) (x3 + u12) z10 z14 e15) q940 hl.1 (Nat.le_of_ble_eq_true rfl) ⟨by dsimp only; omega, by dsimp only; omega⟩ ⟨Nat.le_of_ble_eq_true rfl, Nat.le_of_ble_eq_true rfl⟩ dX0_goMended_116 (fun H locs hO hS => ?_)
                  exact hk5 _ _ _ _ h hO hS (lv_sub hl [0, 1, 2, 3, 4] rfl)
                refine lv_icmp_ne (tgt := 114) hx hb dX0_goMended_107 (by decide) (fun c17 => ?_) (fun c17 => ?_)
                · have h := pt_f (k := k13) c17 h
                  refine lv_iconst (v := 1) hx hb dX0_goMended_114 (by decide) ?_
                  exact hk13 _ _ h (lv_sub hl [0, 1, 2, 3, 4] rfl)
                · have h := pt_t (k := k13) c17 h
                  refine lv_iconst (v := 0) hx hb dX0_goMended_110 (by decide) ?_
                  refine lv_goto (tgt := 115) hx hb dX0_goMended_111 (by decide) ?_
                  exact hk13 _ _ h (lv_sub hl [0, 1, 2, 3, 4] rfl)
              · have h := it_f c8 h
                refine lv_goto (tgt := 119) hx hb dX0_goMended_74 (by decide) ?_
                exact hk5 _ _ _ _ h hO hS (lv_sub hl [0, 1, 2, 3, 4] rfl)
      exact key19 FU _ _ _ _ _ h hO hS (lv_sub hl [1, 2, 3, 4, 0] rfl)
    · have h := it_t c2 h
      refine lv_aload_n hx hb dX0_goMended_24 rfl (lv_at hl 0 rfl) ?_
      refine lv_iload_n hx hb dX0_goMended_25 rfl (lv_at hl 3 rfl) ?_
      refine X0_putF hx hb hts hown hK hO hS 20 (by decide) rfl (by decide) (by decide) (hts _ q186) rfl (ty := .int) rfl rfl rfl dX0_goMended_26 (fun H locs z20 ez20 hO hS => ?_)
      have h := pin_to ez20 h
      refine lv_aload_n hx hb dX0_goMended_29 rfl (lv_at hl 0 rfl) ?_
      refine X0_getA hx hb hts hown hK hO 18 (by decide) (Or.inl rfl) (hts _ q184) dX0_goMended_30 ?_
      refine lv_iconst (v := 0) hx hb dX0_goMended_33 (by decide) ?_
      refine lv_aload_n hx hb dX0_goMended_34 rfl (lv_at hl 0 rfl) ?_
      refine X0_getA hx hb hts hown hK hO 19 (by decide) (Or.inl rfl) (hts _ q185) dX0_goMended_35 ?_
      refine lv_iconst (v := 0) hx hb dX0_goMended_38 (by decide) ?_
      refine lv_aload_n hx hb dX0_goMended_39 rfl (lv_at hl 0 rfl) ?_
      refine X0_getF hx hb hts hown hK hO 1 (by decide) rfl (hts _ q165) dX0_goMended_40 ?_
      obtain ⟨g21, h⟩ := grd h
      refine X0_copy hx hb (hml.trans hl.1.symm) hts hown hK hO hS 18 19 (by decide) (by decide) rfl rfl rfl rfl g21 (hts _ q923) (by show _ ≤ _; dsimp only; omega) (Nat.le_trans nfw_le (by dsimp only; omega)) dX0_goMended_43 (fun H locs z22 ez22 hO hS => ?_)
      have h := pin_to ez22 h
      cases Option.some.inj h
      exact g_retGv hx hb hr hlocks hO hS dX0_goMended_46
  refine lv_if_lt (tgt := 16) hx hb dX0_goMended_4 (by decide) (fun c23 => ?_) (fun c23 => ?_)
  · have h := it_t c23 h
    exact hk1 _ h (lv_sub hl [0, 1, 2, 3] rfl)
  · have h := it_f c23 h
    refine lv_iload_n hx hb dX0_goMended_7 rfl (lv_at hl 3 rfl) ?_
    refine lv_aload_n hx hb dX0_goMended_8 rfl (lv_at hl 0 rfl) ?_
    refine X0_getF hx hb hts hown hK hO 20 (by decide) rfl (hts _ q186) dX0_goMended_9 ?_
    refine lv_icmp_lt (tgt := 16) hx hb dX0_goMended_12 (by decide) (fun c24 => ?_) (fun c24 => ?_)
    · have h := it_t c24 h
      exact hk1 _ h (lv_sub hl [0, 1, 2, 3] rfl)
    · have h := it_f c24 h
      cases Option.some.inj h
      exact g_retGv hx hb hr hlocks hO hS dX0_goMended_15
theorem metX0_goMended (l : Launch) (D : va_G) (aC : Nat → ClassId) (A : Nat → Prop) (o : Nat) (la : LC) (n : Nat) : ∀ (x1 : Int32) (x2 : Int32) (x3 : Int32) (z : GS)  (zq : GS), FX0_goMended n x1 x2 x3 z = some zq → Met l yX0_goMended (ws_ yX0_goMended cX0_goMended 5 none) ({ frames := 1 * n, cells := 0, slots := 0, locals := 60 * n }) (va_Pc [.ref o, .int x1, .int x2, .int x3] (PC D aC A o la z)) (QG none (OC D aC A o la zq) A) 0 0 A := by
  induction n with
  | zero =>
    intro x1 x2 x3 z zq h
    rw [FX0_goMended] at h
    cases h
  | succ n ih =>
    intro x1 x2 x3 z zq h
    rw [FX0_goMended] at h
    exact metX0_goMendedb l D aC A o la n _ ih x1 x2 x3 z zq h
theorem metX0_mended (l : Launch) (D : va_G) (aC : Nat → ClassId) (A : Nat → Prop) (o : Nat) (la : LC) (x1 : Int32) (z : GS) (r : Int32) (zq : GS) (h : FX0_mended x1 z = some (r, zq)) : Met l yX0_mended (ws_ yX0_mended cX0_mended 2 (some .int)) ({ frames := 11, cells := 0, slots := 0, locals := 624 }) (va_Pc [.ref o, .int x1] (PC D aC A o la z)) (QG (some (.int r)) (OC D aC A o la zq) A) 0 0 A := by
  refine g_ofW (cc := cX0_mended) (maxL := 2) (ret := (some .int)) (own := RX0) (by decide) rfl rfl [.ref o, .int x1] (PC D aC A o la z) (Nat.le_of_ble_eq_true rfl) ?_
  intro p e s m below meth c ls hx hb hr hml hts hown hlocks hnm hPre hl
  obtain ⟨hO, hK, hA, hZ⟩ := hPre
  have hf : CallFix p m c cX0_mended 2 s _ lw_all RX0 := ⟨hx, hb, hml, hown, hts⟩
  have hl : lv_has ls 2 [(0, .ref o), (1, .int x1)] := hl
  refine g_open (A := A) (OC D aC A o la z) hO (fun H locs hO hS => ?_)
  unfold FX0_mended at h
  refine lv_iload_n hx hb dX0_mended_0 rfl (lv_at hl 1 rfl) ?_
  refine lv_iconst (v := (-1)) hx hb dX0_mended_1 (by decide) ?_
  refine lv_aload_n hx hb dX0_mended_2 rfl (lv_at hl 0 rfl) ?_
  refine X0_getF hx hb hts hown hK hO 1 (by decide) rfl (hts _ q165) dX0_mended_3 ?_
  refine lv_iconst (v := 1) hx hb dX0_mended_6 (by decide) ?_
  refine lv_isub hx hb dX0_mended_7 ?_
  refine clX0_in hf (metX0_in l x1 (-1) ((gF z 1) - 1) _ rfl) q309 hl.1 (Nat.le_of_ble_eq_true rfl) ⟨Nat.le_of_ble_eq_true rfl, Nat.le_of_ble_eq_true rfl⟩ ⟨Nat.le_of_ble_eq_true rfl, Nat.le_of_ble_eq_true rfl⟩ dX0_mended_8 ?_
  refine lv_if_ne (tgt := 16) hx hb dX0_mended_11 (by decide) (fun c1 => ?_) (fun c1 => ?_)
  · have h := it_f c1 h
    refine lv_aload_n hx hb dX0_mended_16 rfl (lv_at hl 0 rfl) ?_
    refine lv_iconst (v := (-1)) hx hb dX0_mended_17 (by decide) ?_
    refine X0_putF hx hb hts hown hK hO hS 20 (by decide) rfl (by decide) (by decide) (hts _ q186) rfl (ty := .int) rfl rfl rfl dX0_mended_18 (fun H locs z2 ez2 hO hS => ?_)
    have h := pin_to ez2 h
    refine lv_aload_n hx hb dX0_mended_21 rfl (lv_at hl 0 rfl) ?_
    refine lv_iconst (v := 0) hx hb dX0_mended_22 (by decide) ?_
    refine lv_iconst (v := 0) hx hb dX0_mended_23 (by decide) ?_
    refine lv_iconst (v := 0) hx hb dX0_mended_24 (by decide) ?_
    obtain ⟨z3, e4, h⟩ := bn1_e h
    refine clX0_goMended hf hK hO hA hZ hS (metX0_goMended l D aC A o la 10 0 0 0 z2 z3 e4) q940 hl.1 (Nat.le_of_ble_eq_true rfl) ⟨Nat.le_of_ble_eq_true rfl, Nat.le_of_ble_eq_true rfl⟩ ⟨Nat.le_of_ble_eq_true rfl, Nat.le_of_ble_eq_true rfl⟩ dX0_mended_25 (fun H locs hO hS => ?_)
    refine lv_aload_n hx hb dX0_mended_28 rfl (lv_at hl 0 rfl) ?_
    refine X0_getF hx hb hts hown hK hO 20 (by decide) rfl (hts _ q186) dX0_mended_29 ?_
    refine lv_if_ge (tgt := 40) hx hb dX0_mended_32 (by decide) (fun c5 => ?_) (fun c5 => ?_)
    · have h := it_t c5 h
      refine lv_iload_n hx hb dX0_mended_40 rfl (lv_at hl 1 rfl) ?_
      refine lv_if_ge (tgt := 51) hx hb dX0_mended_41 (by decide) (fun c6 => ?_) (fun c6 => ?_)
      · have h := it_t c6 h
        refine lv_aload_n hx hb dX0_mended_51 rfl (lv_at hl 0 rfl) ?_
        refine X0_getA hx hb hts hown hK hO 19 (by decide) (Or.inl rfl) (hts _ q185) dX0_mended_52 ?_
        refine lv_iload_n hx hb dX0_mended_55 rfl (lv_at hl 1 rfl) ?_
        obtain ⟨g7, h⟩ := grd h
        refine X0_iaload hx hb hK hO 19 (by decide) rfl rfl g7 dX0_mended_56 ?_
        obtain ⟨e8, rfl⟩ := Prod.mk.inj (Option.some.inj h)
        exact g_retG hx hb hr hlocks e8 hO hS dX0_mended_57
      · have h := it_f c6 h
        refine lv_aload_n hx hb dX0_mended_44 rfl (lv_at hl 0 rfl) ?_
        refine X0_getF hx hb hts hown hK hO 20 (by decide) rfl (hts _ q186) dX0_mended_45 ?_
        refine lv_goto (tgt := 57) hx hb dX0_mended_48 (by decide) ?_
        obtain ⟨e8, rfl⟩ := Prod.mk.inj (Option.some.inj h)
        exact g_retG hx hb hr hlocks e8 hO hS dX0_mended_57
    · have h := it_f c5 h
      refine lv_bipush (v := (-2)) hx hb dX0_mended_35 (by decide) ?_
      refine lv_goto (tgt := 57) hx hb dX0_mended_37 (by decide) ?_
      obtain ⟨e8, rfl⟩ := Prod.mk.inj (Option.some.inj h)
      exact g_retG hx hb hr hlocks e8 hO hS dX0_mended_57
  · have h := it_t c1 h
    refine lv_iconst (v := (-1)) hx hb dX0_mended_14 (by decide) ?_
    obtain ⟨e8, rfl⟩ := Prod.mk.inj (Option.some.inj h)
    exact g_retG hx hb hr hlocks e8 hO hS dX0_mended_15
theorem clX0_mended {p : Program} {l : Launch} {e : Env} {R : Room} {s : State} {m : MethodId} {args : Array Value} {below : List Frame} {meth : Method} {c : Code} {H : Heap} {locs : List Loc} {cells slots : Nat} {Q : State → Prop} {cc : ByteArray} {pc nL idx fr lo : Nat} {ls : Array Slot} {rest : List Value} {own : String} {D : va_G} {aC : Nat → ClassId} {A : Nat → Prop} {o : Nat} {la : LC} {z : GS} {zq : GS} {x1 : Int32} {r : Int32} (hf : CallFix p m c cc nL s args lw_all own) (hK : KC D aC s) (hO : OC D aC A o la z H) (hA : ∀ q : Nat, s.heap.size ≤ q → A q) (hZ : ZX A s s.heap) (hS : va_S A s.heap H locs) (hM : Met l yX0_mended (ws_ yX0_mended cX0_mended 2 (some .int)) ({ frames := fr, cells := 0, slots := 0, locals := lo }) (va_Pc [.ref o, .int x1] (PC D aC A o la z)) (QG (some (.int r)) (OC D aC A o la zq) A) 0 0 A) (hq : Cond.methodLink own idx yX0_mended ∈ lw_all) (hs : ls.size = nL) (hr : (rest.map fun v => v.category).sum ≤ 8) (hR : fr + 1 ≤ R.frames ∧ 8 + (2 + 11) + lo ≤ R.locals) (hcs : cells + 0 ≤ R.cells ∧ slots + 0 ≤ R.slots) (hd : decode cc pc = .ok (.invokevirtual idx, 3)) (kk : ∀ (H1 : Heap) (locs1 : List Loc), OC D aC A o la zq H1 → va_S A s.heap H1 locs1 → W p l e R s m args below meth c H1 locs1 cells slots Q (F0 m (pc + 3) ls (.int r :: rest))) : W p l e R s m args below meth c H locs cells slots Q (F0 m pc ls (.int x1 :: .ref o :: rest)) :=
  g_callG (W.runV (As := [.int x1]) (rest := rest) hf hM (cwV 1 hf.2.2.2.2 (lw_V hq q937 q938 q90 q939) rfl rfl rfl (by decide +kernel) hR) ⟨PC.blind, OC.recv hK hO, fun U hU hW => ⟨rfl, PC.at hO hK hA hZ hS hU hW⟩⟩ rfl rfl hs rfl (lv_room hr) hd hcs) hS (fun H1 locs1 hP hS _ _ => kk H1 locs1 hP hS)
theorem metX0_lackingWithout (l : Launch) (D : va_G) (aC : Nat → ClassId) (A : Nat → Prop) (o : Nat) (la : LC) (x1 : Int32) (x2 : Int32) (z : GS) (r : Int32) (zq : GS) (h : FX0_lackingWithout x1 x2 z = some (r, zq)) : Met l yX0_lackingWithout (ws_ yX0_lackingWithout cX0_lackingWithout 4 (some .int)) ({ frames := 204, cells := 0, slots := 0, locals := 20089 }) (va_Pc [.ref o, .int x1, .int x2] (PC D aC A o la z)) (QG (some (.int r)) (OC D aC A o la zq) A) 0 0 A := by
  refine g_ofW (cc := cX0_lackingWithout) (maxL := 4) (ret := (some .int)) (own := RX0) (by decide) rfl rfl [.ref o, .int x1, .int x2] (PC D aC A o la z) (Nat.le_of_ble_eq_true rfl) ?_
  intro p e s m below meth c ls hx hb hr hml hts hown hlocks hnm hPre hl
  obtain ⟨hO, hK, hA, hZ⟩ := hPre
  have hf : CallFix p m c cX0_lackingWithout 4 s _ lw_all RX0 := ⟨hx, hb, hml, hown, hts⟩
  have hl : lv_has ls 4 [(0, .ref o), (1, .int x1), (2, .int x2)] := hl
  refine g_open (A := A) (OC D aC A o la z) hO (fun H locs hO hS => ?_)
  unfold FX0_lackingWithout at h
  refine lv_aload_n hx hb dX0_lackingWithout_0 rfl (lv_at hl 0 rfl) ?_
  obtain ⟨z1, e2, h⟩ := bn1_e h
  refine clX0_layNow hf hK hO hA hZ hS (metX0_layNow l D aC A o la z z1 e2) q802 hl.1 (Nat.le_of_ble_eq_true rfl) ⟨Nat.le_of_ble_eq_true rfl, Nat.le_of_ble_eq_true rfl⟩ ⟨Nat.le_of_ble_eq_true rfl, Nat.le_of_ble_eq_true rfl⟩ dX0_lackingWithout_1 (fun H locs hO hS => ?_)
  refine lv_aload_n hx hb dX0_lackingWithout_4 rfl (lv_at hl 0 rfl) ?_
  refine lv_dup hx hb dX0_lackingWithout_5 rfl ?_
  refine X0_getF hx hb hts hown hK hO 16 (by decide) rfl (hts _ q182) dX0_lackingWithout_6 ?_
  refine lv_iconst (v := 1) hx hb dX0_lackingWithout_9 (by decide) ?_
  refine lv_iload_n hx hb dX0_lackingWithout_10 rfl (lv_at hl 1 rfl) ?_
  refine g_ishl hx hb dX0_lackingWithout_11 ?_
  refine lv_iconst (v := (-1)) hx hb dX0_lackingWithout_12 (by decide) ?_
  refine lv_ixor hx hb dX0_lackingWithout_13 ?_
  refine lv_iand hx hb dX0_lackingWithout_14 ?_
  refine X0_putF hx hb hts hown hK hO hS 16 (by decide) rfl (by decide) (by decide) (hts _ q182) rfl (ty := .int) rfl rfl rfl dX0_lackingWithout_15 (fun H locs z3 ez3 hO hS => ?_)
  have h := pin_to ez3 h
  refine lv_iconst (v := 0) hx hb dX0_lackingWithout_18 (by decide) ?_
  refine lv_istore_n (lv' := [(3, .int 0), (0, .ref o), (1, .int x1), (2, .int x2)]) hx hb dX0_lackingWithout_19 rfl hl (by decide) rfl (fun ls hl => ?_)
  obtain ⟨k4, e20, h⟩ := pin_nm h
  have hk4 : ∀  (z5 : GS) (H : Heap) (locs : List Loc) (ls : Array Slot), k4  z5 = some (r, zq) → OC D aC A o la z5 H → va_S A s.heap H locs → lv_has ls 4 [(0, .ref o), (2, .int x2)] → W p l e ({ frames := 204, cells := 0, slots := 0, locals := 20089 }) s m ([.ref o, .int x1, .int x2] : List Value).toArray below meth c H locs 0 0 (MQ below (QG (some (.int r)) (OC D aC A o la zq) A) ([.ref o, .int x1, .int x2] : List Value).toArray s 0 0 A) (F0 m 51 ls []) := by
    intro  z5 H locs ls h hO hS hl
    rw [e20] at h
    refine lv_aload_n hx hb dX0_lackingWithout_51 rfl (lv_at hl 0 rfl) ?_
    refine lv_iload_n hx hb dX0_lackingWithout_52 rfl (lv_at hl 1 rfl) ?_
    obtain ⟨z6, e7, h⟩ := bn1_e h
    refine clX0_goDays hf hK hO hA hZ hS (metX0_goDays l D aC A o la x2 z5 z6 e7) q864 hl.1 (Nat.le_of_ble_eq_true rfl) ⟨Nat.le_of_ble_eq_true rfl, Nat.le_of_ble_eq_true rfl⟩ ⟨Nat.le_of_ble_eq_true rfl, Nat.le_of_ble_eq_true rfl⟩ dX0_lackingWithout_53 (fun H locs hO hS => ?_)
    refine lv_aload_n hx hb dX0_lackingWithout_56 rfl (lv_at hl 0 rfl) ?_
    obtain ⟨r8, e9, h⟩ := bn1_e h
    refine clX0_lackMany hf hK hO hA hZ hS (metX0_lackMany l D aC A o la z6 r8 e9) q926 hl.1 (Nat.le_of_ble_eq_true rfl) ⟨Nat.le_of_ble_eq_true rfl, Nat.le_of_ble_eq_true rfl⟩ ⟨Nat.le_of_ble_eq_true rfl, Nat.le_of_ble_eq_true rfl⟩ dX0_lackingWithout_57 ?_
    obtain ⟨e8, rfl⟩ := Prod.mk.inj (Option.some.inj h)
    exact g_retG hx hb hr hlocks e8 hO hS dX0_lackingWithout_60
  have key19 : ∀ (f : Nat) (v3 : Int32) (z : GS) (H : Heap) (locs : List Loc) (ls : Array Slot), FX0_lackingWithout_L20 k4 x1 x2 f v3 z = some (r, zq) → OC D aC A o la z H → va_S A s.heap H locs → lv_has ls 4 [(0, .ref o), (1, .int x1), (2, .int x2), (3, .int v3)] → W p l e ({ frames := 204, cells := 0, slots := 0, locals := 20089 }) s m ([.ref o, .int x1, .int x2] : List Value).toArray below meth c H locs 0 0 (MQ below (QG (some (.int r)) (OC D aC A o la zq) A) ([.ref o, .int x1, .int x2] : List Value).toArray s 0 0 A) (F0 m 20 ls []) := by
    intro f
    induction f with
    | zero =>
      intro v3 z H locs ls h
      rw [FX0_lackingWithout_L20] at h
      cases h
    | succ f ih10 =>
      intro v3 z H locs ls h hO hS hl
      rw [FX0_lackingWithout_L20] at h
      refine lv_iload_n hx hb dX0_lackingWithout_20 rfl (lv_at hl 3 rfl) ?_
      refine lv_aload_n hx hb dX0_lackingWithout_21 rfl (lv_at hl 0 rfl) ?_
      refine X0_getF hx hb hts hown hK hO 1 (by decide) rfl (hts _ q165) dX0_lackingWithout_22 ?_
      refine lv_icmp_ge (tgt := 51) hx hb dX0_lackingWithout_25 (by decide) (fun c11 => ?_) (fun c11 => ?_)
      · have h := it_t c11 h
        exact hk4 _ _ _ _ h hO hS (lv_sub hl [0, 2] rfl)
      · have h := it_f c11 h
        refine lv_aload_n hx hb dX0_lackingWithout_28 rfl (lv_at hl 0 rfl) ?_
        refine X0_getA hx hb hts hown hK hO 12 (by decide) (Or.inl rfl) (hts _ q178) dX0_lackingWithout_29 ?_
        refine lv_iload_n hx hb dX0_lackingWithout_32 rfl (lv_at hl 3 rfl) ?_
        obtain ⟨g12, h⟩ := grd h
        refine X0_iaload hx hb hK hO 12 (by decide) rfl rfl g12 dX0_lackingWithout_33 ?_
        refine lv_iload_n hx hb dX0_lackingWithout_34 rfl (lv_at hl 1 rfl) ?_
        obtain ⟨k13, e18, h⟩ := pin_nm h
        have hk13 : ∀  (z14 : GS) (H : Heap) (locs : List Loc) (ls : Array Slot), k13  z14 = some (r, zq) → OC D aC A o la z14 H → va_S A s.heap H locs → lv_has ls 4 [(0, .ref o), (1, .int x1), (2, .int x2), (3, .int v3)] → W p l e ({ frames := 204, cells := 0, slots := 0, locals := 20089 }) s m ([.ref o, .int x1, .int x2] : List Value).toArray below meth c H locs 0 0 (MQ below (QG (some (.int r)) (OC D aC A o la zq) A) ([.ref o, .int x1, .int x2] : List Value).toArray s 0 0 A) (F0 m 45 ls []) := by
          intro  z14 H locs ls h hO hS hl
          rw [e18] at h
          refine lv_iinc (v := (v3 + 1)) (lv' := [(3, .int (v3 + 1)), (0, .ref o), (1, .int x1), (2, .int x2)]) hx hb dX0_lackingWithout_45 hl (k := 3) rfl rfl (by decide) rfl (fun ls hl => ?_)
          refine lv_goto (tgt := 20) hx hb dX0_lackingWithout_48 (by decide) ?_
          exact ih10 _ _ _ _ _ h hO hS (lv_sub hl [1, 2, 3, 0] rfl)
        refine lv_icmp_ne (tgt := 45) hx hb dX0_lackingWithout_35 (by decide) (fun c15 => ?_) (fun c15 => ?_)
        · have h := it_f c15 h
          exact hk13 _ _ _ _ h hO hS (lv_sub hl [0, 1, 2, 3] rfl)
        · have h := it_t c15 h
          refine lv_aload_n hx hb dX0_lackingWithout_38 rfl (lv_at hl 0 rfl) ?_
          refine X0_getA hx hb hts hown hK hO 12 (by decide) (Or.inl rfl) (hts _ q178) dX0_lackingWithout_39 ?_
          refine lv_iload_n hx hb dX0_lackingWithout_42 rfl (lv_at hl 3 rfl) ?_
          refine lv_iconst (v := (-1)) hx hb dX0_lackingWithout_43 (by decide) ?_
          obtain ⟨g16, h⟩ := grd h
          refine X0_iastore hx hb hK hO hS 12 (by decide) rfl rfl g16 dX0_lackingWithout_44 (fun H locs z17 ez17 hO hS => ?_)
          have h := pin_to ez17 h
          exact hk13 _ _ _ _ h hO hS (lv_sub hl [0, 1, 2, 3] rfl)
  exact key19 FU _ _ _ _ _ h hO hS (lv_sub hl [1, 2, 3, 0] rfl)
theorem clX0_lackingWithout {p : Program} {l : Launch} {e : Env} {R : Room} {s : State} {m : MethodId} {args : Array Value} {below : List Frame} {meth : Method} {c : Code} {H : Heap} {locs : List Loc} {cells slots : Nat} {Q : State → Prop} {cc : ByteArray} {pc nL idx fr lo : Nat} {ls : Array Slot} {rest : List Value} {own : String} {D : va_G} {aC : Nat → ClassId} {A : Nat → Prop} {o : Nat} {la : LC} {z : GS} {zq : GS} {x1 : Int32} {x2 : Int32} {r : Int32} (hf : CallFix p m c cc nL s args lw_all own) (hK : KC D aC s) (hO : OC D aC A o la z H) (hA : ∀ q : Nat, s.heap.size ≤ q → A q) (hZ : ZX A s s.heap) (hS : va_S A s.heap H locs) (hM : Met l yX0_lackingWithout (ws_ yX0_lackingWithout cX0_lackingWithout 4 (some .int)) ({ frames := fr, cells := 0, slots := 0, locals := lo }) (va_Pc [.ref o, .int x1, .int x2] (PC D aC A o la z)) (QG (some (.int r)) (OC D aC A o la zq) A) 0 0 A) (hq : Cond.methodLink own idx yX0_lackingWithout ∈ lw_all) (hs : ls.size = nL) (hr : (rest.map fun v => v.category).sum ≤ 8) (hR : fr + 1 ≤ R.frames ∧ 8 + (4 + 11) + lo ≤ R.locals) (hcs : cells + 0 ≤ R.cells ∧ slots + 0 ≤ R.slots) (hd : decode cc pc = .ok (.invokevirtual idx, 3)) (kk : ∀ (H1 : Heap) (locs1 : List Loc), OC D aC A o la zq H1 → va_S A s.heap H1 locs1 → W p l e R s m args below meth c H1 locs1 cells slots Q (F0 m (pc + 3) ls (.int r :: rest))) : W p l e R s m args below meth c H locs cells slots Q (F0 m pc ls (.int x2 :: .int x1 :: .ref o :: rest)) :=
  g_callG (W.runV (As := [.int x1, .int x2]) (rest := rest) hf hM (cwV 2 hf.2.2.2.2 (lw_V hq q950 qs36 q90 q951) rfl rfl rfl (by decide +kernel) hR) ⟨PC.blind, OC.recv hK hO, fun U hU hW => ⟨rfl, PC.at hO hK hA hZ hS hU hW⟩⟩ rfl rfl hs rfl (lv_room hr) hd hcs) hS (fun H1 locs1 hP hS _ _ => kk H1 locs1 hP hS)
theorem metX0_gone (l : Launch) (D : va_G) (aC : Nat → ClassId) (A : Nat → Prop) (o : Nat) (la : LC) (x1 : Int32) (x2 : Int32) (z : GS) (r : Int32) (zq : GS) (h : FX0_gone x1 x2 z = some (r, zq)) : Met l yX0_gone (ws_ yX0_gone cX0_gone 7 (some .int)) ({ frames := 205, cells := 0, slots := 0, locals := 20112 }) (va_Pc [.ref o, .int x1, .int x2] (PC D aC A o la z)) (QG (some (.int r)) (OC D aC A o la zq) A) 0 0 A := by
  refine g_ofW (cc := cX0_gone) (maxL := 7) (ret := (some .int)) (own := RX0) (by decide) rfl rfl [.ref o, .int x1, .int x2] (PC D aC A o la z) (Nat.le_of_ble_eq_true rfl) ?_
  intro p e s m below meth c ls hx hb hr hml hts hown hlocks hnm hPre hl
  obtain ⟨hO, hK, hA, hZ⟩ := hPre
  have hf : CallFix p m c cX0_gone 7 s _ lw_all RX0 := ⟨hx, hb, hml, hown, hts⟩
  have hl : lv_has ls 7 [(0, .ref o), (1, .int x1), (2, .int x2)] := hl
  refine g_open (A := A) (OC D aC A o la z) hO (fun H locs hO hS => ?_)
  unfold FX0_gone at h
  refine lv_iload_n hx hb dX0_gone_0 rfl (lv_at hl 1 rfl) ?_
  refine lv_iconst (v := 0) hx hb dX0_gone_1 (by decide) ?_
  refine lv_bipush (v := 12) hx hb dX0_gone_2 (by decide) ?_
  refine clX0_in hf (metX0_in l x1 0 12 _ rfl) q309 hl.1 (Nat.le_of_ble_eq_true rfl) ⟨Nat.le_of_ble_eq_true rfl, Nat.le_of_ble_eq_true rfl⟩ ⟨Nat.le_of_ble_eq_true rfl, Nat.le_of_ble_eq_true rfl⟩ dX0_gone_4 ?_
  refine lv_if_eq (tgt := 24) hx hb dX0_gone_7 (by decide) (fun c1 => ?_) (fun c1 => ?_)
  · have h := it_t c1 h
    refine lv_iconst (v := (-1)) hx hb dX0_gone_24 (by decide) ?_
    obtain ⟨e8, rfl⟩ := Prod.mk.inj (Option.some.inj h)
    exact g_retG hx hb hr hlocks e8 hO hS dX0_gone_25
  · have h := it_f c1 h
    refine lv_iload_n hx hb dX0_gone_10 rfl (lv_at hl 2 rfl) ?_
    refine lv_iconst (v := (-1)) hx hb dX0_gone_11 (by decide) ?_
    refine lv_aload_n hx hb dX0_gone_12 rfl (lv_at hl 0 rfl) ?_
    refine X0_getF hx hb hts hown hK hO 1 (by decide) rfl (hts _ q165) dX0_gone_13 ?_
    refine lv_iconst (v := 1) hx hb dX0_gone_16 (by decide) ?_
    refine lv_isub hx hb dX0_gone_17 ?_
    refine clX0_in hf (metX0_in l x2 (-1) ((gF z 1) - 1) _ rfl) q309 hl.1 (Nat.le_of_ble_eq_true rfl) ⟨Nat.le_of_ble_eq_true rfl, Nat.le_of_ble_eq_true rfl⟩ ⟨Nat.le_of_ble_eq_true rfl, Nat.le_of_ble_eq_true rfl⟩ dX0_gone_18 ?_
    refine lv_if_ne (tgt := 26) hx hb dX0_gone_21 (by decide) (fun c2 => ?_) (fun c2 => ?_)
    · have h := it_f c2 h
      refine lv_iload_n hx hb dX0_gone_26 rfl (lv_at hl 2 rfl) ?_
      refine lv_if_lt (tgt := 37) hx hb dX0_gone_27 (by decide) (fun c3 => ?_) (fun c3 => ?_)
      · have h := it_t c3 h
        refine lv_bipush (v := (-2)) hx hb dX0_gone_37 (by decide) ?_
        refine lv_istore_n (lv' := [(3, .int (-2)), (0, .ref o), (1, .int x1), (2, .int x2)]) hx hb dX0_gone_39 rfl hl (by decide) rfl (fun ls hl => ?_)
        refine lv_iconst (v := 0) hx hb dX0_gone_40 (by decide) ?_
        refine lv_istore (lv' := [(4, .int 0), (3, .int (-2)), (0, .ref o), (1, .int x1), (2, .int x2)]) hx hb dX0_gone_41 hl (by decide) rfl (fun ls hl => ?_)
        refine lv_iconst (v := 0) hx hb dX0_gone_43 (by decide) ?_
        refine lv_istore (lv' := [(5, .int 0), (4, .int 0), (3, .int (-2)), (0, .ref o), (1, .int x1), (2, .int x2)]) hx hb dX0_gone_44 hl (by decide) rfl (fun ls hl => ?_)
        have key17 : ∀ (f : Nat) (v3 : Int32) (v4 : Int32) (v5 : Int32) (z : GS) (H : Heap) (locs : List Loc) (ls : Array Slot), FX0_gone_L46 x1 f v3 v4 v5 z = some (r, zq) → OC D aC A o la z H → va_S A s.heap H locs → lv_has ls 7 [(0, .ref o), (1, .int x1), (3, .int v3), (4, .int v4), (5, .int v5)] → W p l e ({ frames := 205, cells := 0, slots := 0, locals := 20112 }) s m ([.ref o, .int x1, .int x2] : List Value).toArray below meth c H locs 0 0 (MQ below (QG (some (.int r)) (OC D aC A o la zq) A) ([.ref o, .int x1, .int x2] : List Value).toArray s 0 0 A) (F0 m 46 ls []) := by
          intro f
          induction f with
          | zero =>
            intro v3 v4 v5 z H locs ls h
            rw [FX0_gone_L46] at h
            cases h
          | succ f ih4 =>
            intro v3 v4 v5 z H locs ls h hO hS hl
            rw [FX0_gone_L46] at h
            refine lv_iload hx hb dX0_gone_46 (lv_at hl 4 rfl) ?_
            refine lv_aload_n hx hb dX0_gone_48 rfl (lv_at hl 0 rfl) ?_
            refine X0_getF hx hb hts hown hK hO 1 (by decide) rfl (hts _ q165) dX0_gone_49 ?_
            refine lv_icmp_ge (tgt := 91) hx hb dX0_gone_52 (by decide) (fun c5 => ?_) (fun c5 => ?_)
            · have h := it_t c5 h
              refine lv_iload_n hx hb dX0_gone_91 rfl (lv_at hl 2 rfl) ?_
              obtain ⟨e8, rfl⟩ := Prod.mk.inj (Option.some.inj h)
              exact g_retG hx hb hr hlocks e8 hO hS dX0_gone_92
            · have h := it_f c5 h
              refine lv_aload_n hx hb dX0_gone_55 rfl (lv_at hl 0 rfl) ?_
              refine lv_iload hx hb dX0_gone_56 (lv_at hl 4 rfl) ?_
              refine lv_iload_n hx hb dX0_gone_58 rfl (lv_at hl 1 rfl) ?_
              obtain ⟨r6, z7, e8, h⟩ := bnd_e h
              refine clX0_lackingWithout hf hK hO hA hZ hS (metX0_lackingWithout l D aC A o la v5 x1 z r6 z7 e8) q948 hl.1 (Nat.le_of_ble_eq_true rfl) ⟨Nat.le_of_ble_eq_true rfl, Nat.le_of_ble_eq_true rfl⟩ ⟨Nat.le_of_ble_eq_true rfl, Nat.le_of_ble_eq_true rfl⟩ dX0_gone_59 (fun H locs hO hS => ?_)
              refine lv_istore (lv' := [(6, .int r6), (0, .ref o), (1, .int x1), (3, .int v3), (4, .int v4), (5, .int v5)]) hx hb dX0_gone_62 hl (by decide) rfl (fun ls hl => ?_)
              refine lv_iload_n hx hb dX0_gone_64 rfl (lv_at hl 3 rfl) ?_
              obtain ⟨k9, e16, h⟩ := pin_nm h
              have hk9 : ∀ (v10 : Int32) (v11 : Int32) (ls : Array Slot), k9 v10 v11 = some (r, zq) → lv_has ls 7 [(0, .ref o), (1, .int x1), (3, .int v10), (4, .int v11), (5, .int v5)] → W p l e ({ frames := 205, cells := 0, slots := 0, locals := 20112 }) s m ([.ref o, .int x1, .int x2] : List Value).toArray below meth c H locs 0 0 (MQ below (QG (some (.int r)) (OC D aC A o la zq) A) ([.ref o, .int x1, .int x2] : List Value).toArray s 0 0 A) (F0 m 85 ls []) := by
                intro v10 v11 ls h hl
                rw [e16] at h
                refine lv_iinc (v := (v5 + 1)) (lv' := [(5, .int (v5 + 1)), (0, .ref o), (1, .int x1), (3, .int v10), (4, .int v11)]) hx hb dX0_gone_85 hl (k := 4) rfl rfl (by decide) rfl (fun ls hl => ?_)
                refine lv_goto (tgt := 46) hx hb dX0_gone_88 (by decide) ?_
                exact ih4 _ _ _ _ _ _ _ h hO hS (lv_sub hl [1, 2, 3, 4, 0] rfl)
              obtain ⟨k12, e15, h⟩ := pin_nm h
              have hk12 : ∀  (ls : Array Slot), k12  = some (r, zq) → lv_has ls 7 [(0, .ref o), (1, .int x1), (5, .int v5), (6, .int r6)] → W p l e ({ frames := 205, cells := 0, slots := 0, locals := 20112 }) s m ([.ref o, .int x1, .int x2] : List Value).toArray below meth c H locs 0 0 (MQ below (QG (some (.int r)) (OC D aC A o la zq) A) ([.ref o, .int x1, .int x2] : List Value).toArray s 0 0 A) (F0 m 78 ls []) := by
                intro  ls h hl
                rw [e15] at h
                refine lv_iload hx hb dX0_gone_78 (lv_at hl 2 rfl) ?_
                refine lv_istore_n (lv' := [(3, .int v5), (0, .ref o), (1, .int x1), (5, .int v5), (6, .int r6)]) hx hb dX0_gone_80 rfl hl (by decide) rfl (fun ls hl => ?_)
                refine lv_iload hx hb dX0_gone_81 (lv_at hl 4 rfl) ?_
                refine lv_istore (lv' := [(4, .int r6), (3, .int v5), (0, .ref o), (1, .int x1), (5, .int v5), (6, .int r6)]) hx hb dX0_gone_83 hl (by decide) rfl (fun ls hl => ?_)
                exact hk9 _ _ _ h (lv_sub hl [2, 3, 1, 0, 4] rfl)
              refine lv_if_lt (tgt := 78) hx hb dX0_gone_65 (by decide) (fun c13 => ?_) (fun c13 => ?_)
              · have h := it_t c13 h
                exact hk12 _ h (lv_sub hl [1, 2, 5, 0] rfl)
              · have h := it_f c13 h
                refine lv_iload hx hb dX0_gone_68 (lv_at hl 0 rfl) ?_
                refine lv_iload hx hb dX0_gone_70 (lv_at hl 4 rfl) ?_
                refine lv_icmp_gt (tgt := 78) hx hb dX0_gone_72 (by decide) (fun c14 => ?_) (fun c14 => ?_)
                · have h := it_t c14 h
                  exact hk12 _ h (lv_sub hl [1, 2, 5, 0] rfl)
                · have h := it_f c14 h
                  refine lv_goto (tgt := 85) hx hb dX0_gone_75 (by decide) ?_
                  exact hk9 _ _ _ h (lv_sub hl [1, 2, 3, 4, 5] rfl)
        exact key17 FU _ _ _ _ _ _ _ h hO hS (lv_sub hl [3, 4, 2, 1, 0] rfl)
      · have h := it_f c3 h
        refine lv_aload_n hx hb dX0_gone_30 rfl (lv_at hl 0 rfl) ?_
        refine lv_iload_n hx hb dX0_gone_31 rfl (lv_at hl 2 rfl) ?_
        refine lv_iload_n hx hb dX0_gone_32 rfl (lv_at hl 1 rfl) ?_
        obtain ⟨r18, z19, e20, h⟩ := bnd_e h
        refine clX0_lackingWithout hf hK hO hA hZ hS (metX0_lackingWithout l D aC A o la x2 x1 z r18 z19 e20) q948 hl.1 (Nat.le_of_ble_eq_true rfl) ⟨Nat.le_of_ble_eq_true rfl, Nat.le_of_ble_eq_true rfl⟩ ⟨Nat.le_of_ble_eq_true rfl, Nat.le_of_ble_eq_true rfl⟩ dX0_gone_33 (fun H locs hO hS => ?_)
        obtain ⟨e8, rfl⟩ := Prod.mk.inj (Option.some.inj h)
        exact g_retG hx hb hr hlocks e8 hO hS dX0_gone_36
    · have h := it_t c2 h
      refine lv_iconst (v := (-1)) hx hb dX0_gone_24 (by decide) ?_
      obtain ⟨e8, rfl⟩ := Prod.mk.inj (Option.some.inj h)
      exact g_retG hx hb hr hlocks e8 hO hS dX0_gone_25
theorem clX0_gone {p : Program} {l : Launch} {e : Env} {R : Room} {s : State} {m : MethodId} {args : Array Value} {below : List Frame} {meth : Method} {c : Code} {H : Heap} {locs : List Loc} {cells slots : Nat} {Q : State → Prop} {cc : ByteArray} {pc nL idx fr lo : Nat} {ls : Array Slot} {rest : List Value} {own : String} {D : va_G} {aC : Nat → ClassId} {A : Nat → Prop} {o : Nat} {la : LC} {z : GS} {zq : GS} {x1 : Int32} {x2 : Int32} {r : Int32} (hf : CallFix p m c cc nL s args lw_all own) (hK : KC D aC s) (hO : OC D aC A o la z H) (hA : ∀ q : Nat, s.heap.size ≤ q → A q) (hZ : ZX A s s.heap) (hS : va_S A s.heap H locs) (hM : Met l yX0_gone (ws_ yX0_gone cX0_gone 7 (some .int)) ({ frames := fr, cells := 0, slots := 0, locals := lo }) (va_Pc [.ref o, .int x1, .int x2] (PC D aC A o la z)) (QG (some (.int r)) (OC D aC A o la zq) A) 0 0 A) (hq : Cond.methodLink own idx yX0_gone ∈ lw_all) (hs : ls.size = nL) (hr : (rest.map fun v => v.category).sum ≤ 8) (hR : fr + 1 ≤ R.frames ∧ 8 + (7 + 11) + lo ≤ R.locals) (hcs : cells + 0 ≤ R.cells ∧ slots + 0 ≤ R.slots) (hd : decode cc pc = .ok (.invokevirtual idx, 3)) (kk : ∀ (H1 : Heap) (locs1 : List Loc), OC D aC A o la zq H1 → va_S A s.heap H1 locs1 → W p l e R s m args below meth c H1 locs1 cells slots Q (F0 m (pc + 3) ls (.int r :: rest))) : W p l e R s m args below meth c H locs cells slots Q (F0 m pc ls (.int x2 :: .int x1 :: .ref o :: rest)) :=
  g_callG (W.runV (As := [.int x1, .int x2]) (rest := rest) hf hM (cwV 2 hf.2.2.2.2 (lw_V hq q945 q946 q90 q947) rfl rfl rfl (by decide +kernel) hR) ⟨PC.blind, OC.recv hK hO, fun U hU hW => ⟨rfl, PC.at hO hK hA hZ hS hU hW⟩⟩ rfl rfl hs rfl (lv_room hr) hd hcs) hS (fun H1 locs1 hP hS _ _ => kk H1 locs1 hP hS)
theorem metX0_wrongDay (l : Launch) (D : va_G) (aC : Nat → ClassId) (A : Nat → Prop) (o : Nat) (la : LC) (x1 : Int32) (z : GS) (r : Int32) (zq : GS) (h : FX0_wrongDay x1 z = some (r, zq)) : Met l yX0_wrongDay (ws_ yX0_wrongDay cX0_wrongDay 3 (some .int)) ({ frames := 203, cells := 0, slots := 0, locals := 20067 }) (va_Pc [.ref o, .int x1] (PC D aC A o la z)) (QG (some (.int r)) (OC D aC A o la zq) A) 0 0 A := by
  refine g_ofW (cc := cX0_wrongDay) (maxL := 3) (ret := (some .int)) (own := RX0) (by decide) rfl rfl [.ref o, .int x1] (PC D aC A o la z) (Nat.le_of_ble_eq_true rfl) ?_
  intro p e s m below meth c ls hx hb hr hml hts hown hlocks hnm hPre hl
  obtain ⟨hO, hK, hA, hZ⟩ := hPre
  have hf : CallFix p m c cX0_wrongDay 3 s _ lw_all RX0 := ⟨hx, hb, hml, hown, hts⟩
  have hl : lv_has ls 3 [(0, .ref o), (1, .int x1)] := hl
  refine g_open (A := A) (OC D aC A o la z) hO (fun H locs hO hS => ?_)
  unfold FX0_wrongDay at h
  refine lv_aload_n hx hb dX0_wrongDay_0 rfl (lv_at hl 0 rfl) ?_
  obtain ⟨z1, e2, h⟩ := bn1_e h
  refine clX0_layNow hf hK hO hA hZ hS (metX0_layNow l D aC A o la z z1 e2) q802 hl.1 (Nat.le_of_ble_eq_true rfl) ⟨Nat.le_of_ble_eq_true rfl, Nat.le_of_ble_eq_true rfl⟩ ⟨Nat.le_of_ble_eq_true rfl, Nat.le_of_ble_eq_true rfl⟩ dX0_wrongDay_1 (fun H locs hO hS => ?_)
  refine lv_iconst (v := 0) hx hb dX0_wrongDay_4 (by decide) ?_
  refine lv_istore_n (lv' := [(2, .int 0), (0, .ref o), (1, .int x1)]) hx hb dX0_wrongDay_5 rfl hl (by decide) rfl (fun ls hl => ?_)
  have key11 : ∀ (f : Nat) (v2 : Int32) (z : GS) (H : Heap) (locs : List Loc) (ls : Array Slot), FX0_wrongDay_L6 x1 f v2 z = some (r, zq) → OC D aC A o la z H → va_S A s.heap H locs → lv_has ls 3 [(0, .ref o), (1, .int x1), (2, .int v2)] → W p l e ({ frames := 203, cells := 0, slots := 0, locals := 20067 }) s m ([.ref o, .int x1] : List Value).toArray below meth c H locs 0 0 (MQ below (QG (some (.int r)) (OC D aC A o la zq) A) ([.ref o, .int x1] : List Value).toArray s 0 0 A) (F0 m 6 ls []) := by
    intro f
    induction f with
    | zero =>
      intro v2 z H locs ls h
      rw [FX0_wrongDay_L6] at h
      cases h
    | succ f ih3 =>
      intro v2 z H locs ls h hO hS hl
      rw [FX0_wrongDay_L6] at h
      refine lv_iload_n hx hb dX0_wrongDay_6 rfl (lv_at hl 2 rfl) ?_
      refine lv_bipush (v := 40) hx hb dX0_wrongDay_7 (by decide) ?_
      refine lv_icmp_gt (tgt := 47) hx hb dX0_wrongDay_9 (by decide) (fun c4 => ?_) (fun c4 => ?_)
      · have h := it_t c4 h
        refine lv_bipush (v := (-2)) hx hb dX0_wrongDay_47 (by decide) ?_
        obtain ⟨e8, rfl⟩ := Prod.mk.inj (Option.some.inj h)
        exact g_retG hx hb hr hlocks e8 hO hS dX0_wrongDay_49
      · have h := it_f c4 h
        refine lv_iload_n hx hb dX0_wrongDay_12 rfl (lv_at hl 2 rfl) ?_
        refine lv_aload_n hx hb dX0_wrongDay_13 rfl (lv_at hl 0 rfl) ?_
        refine X0_getF hx hb hts hown hK hO 23 (by decide) rfl (hts _ q189) dX0_wrongDay_14 ?_
        refine lv_icmp_ge (tgt := 47) hx hb dX0_wrongDay_17 (by decide) (fun c5 => ?_) (fun c5 => ?_)
        · have h := it_t c5 h
          refine lv_bipush (v := (-2)) hx hb dX0_wrongDay_47 (by decide) ?_
          obtain ⟨e8, rfl⟩ := Prod.mk.inj (Option.some.inj h)
          exact g_retG hx hb hr hlocks e8 hO hS dX0_wrongDay_49
        · have h := it_f c5 h
          refine lv_aload_n hx hb dX0_wrongDay_20 rfl (lv_at hl 0 rfl) ?_
          refine X0_getA hx hb hts hown hK hO 11 (by decide) (Or.inl rfl) (hts _ q177) dX0_wrongDay_21 ?_
          refine lv_iload_n hx hb dX0_wrongDay_24 rfl (lv_at hl 1 rfl) ?_
          obtain ⟨g6, h⟩ := grd h
          refine X0_iaload hx hb hK hO 11 (by decide) rfl rfl g6 dX0_wrongDay_25 ?_
          refine lv_aload_n hx hb dX0_wrongDay_26 rfl (lv_at hl 0 rfl) ?_
          refine X0_getA hx hb hts hown hK hO 22 (by decide) (Or.inl rfl) (hts _ q188) dX0_wrongDay_27 ?_
          refine lv_iload_n hx hb dX0_wrongDay_30 rfl (lv_at hl 2 rfl) ?_
          obtain ⟨g7, h⟩ := grd h
          refine X0_iaload hx hb hK hO 22 (by decide) rfl rfl g7 dX0_wrongDay_31 ?_
          refine lv_icmp_eq (tgt := 37) hx hb dX0_wrongDay_32 (by decide) (fun c8 => ?_) (fun c8 => ?_)
          · have h := it_t c8 h
            refine lv_aload_n hx hb dX0_wrongDay_37 rfl (lv_at hl 0 rfl) ?_
            obtain ⟨z9, e10, h⟩ := bn1_e h
            refine clX0_goDay hf hK hO hA hZ hS (metX0_goDay l D aC A o la z z9 e10) q868 hl.1 (Nat.le_of_ble_eq_true rfl) ⟨Nat.le_of_ble_eq_true rfl, Nat.le_of_ble_eq_true rfl⟩ ⟨Nat.le_of_ble_eq_true rfl, Nat.le_of_ble_eq_true rfl⟩ dX0_wrongDay_38 (fun H locs hO hS => ?_)
            refine lv_iinc (v := (v2 + 1)) (lv' := [(2, .int (v2 + 1)), (0, .ref o), (1, .int x1)]) hx hb dX0_wrongDay_41 hl (k := 2) rfl rfl (by decide) rfl (fun ls hl => ?_)
            refine lv_goto (tgt := 6) hx hb dX0_wrongDay_44 (by decide) ?_
            exact ih3 _ _ _ _ _ h hO hS (lv_sub hl [1, 2, 0] rfl)
          · have h := it_f c8 h
            refine lv_iload_n hx hb dX0_wrongDay_35 rfl (lv_at hl 2 rfl) ?_
            obtain ⟨e8, rfl⟩ := Prod.mk.inj (Option.some.inj h)
            exact g_retG hx hb hr hlocks e8 hO hS dX0_wrongDay_36
  exact key11 FU _ _ _ _ _ h hO hS (lv_sub hl [1, 2, 0] rfl)
theorem clX0_wrongDay {p : Program} {l : Launch} {e : Env} {R : Room} {s : State} {m : MethodId} {args : Array Value} {below : List Frame} {meth : Method} {c : Code} {H : Heap} {locs : List Loc} {cells slots : Nat} {Q : State → Prop} {cc : ByteArray} {pc nL idx fr lo : Nat} {ls : Array Slot} {rest : List Value} {own : String} {D : va_G} {aC : Nat → ClassId} {A : Nat → Prop} {o : Nat} {la : LC} {z : GS} {zq : GS} {x1 : Int32} {r : Int32} (hf : CallFix p m c cc nL s args lw_all own) (hK : KC D aC s) (hO : OC D aC A o la z H) (hA : ∀ q : Nat, s.heap.size ≤ q → A q) (hZ : ZX A s s.heap) (hS : va_S A s.heap H locs) (hM : Met l yX0_wrongDay (ws_ yX0_wrongDay cX0_wrongDay 3 (some .int)) ({ frames := fr, cells := 0, slots := 0, locals := lo }) (va_Pc [.ref o, .int x1] (PC D aC A o la z)) (QG (some (.int r)) (OC D aC A o la zq) A) 0 0 A) (hq : Cond.methodLink own idx yX0_wrongDay ∈ lw_all) (hs : ls.size = nL) (hr : (rest.map fun v => v.category).sum ≤ 8) (hR : fr + 1 ≤ R.frames ∧ 8 + (3 + 11) + lo ≤ R.locals) (hcs : cells + 0 ≤ R.cells ∧ slots + 0 ≤ R.slots) (hd : decode cc pc = .ok (.invokevirtual idx, 3)) (kk : ∀ (H1 : Heap) (locs1 : List Loc), OC D aC A o la zq H1 → va_S A s.heap H1 locs1 → W p l e R s m args below meth c H1 locs1 cells slots Q (F0 m (pc + 3) ls (.int r :: rest))) : W p l e R s m args below meth c H locs cells slots Q (F0 m pc ls (.int x1 :: .ref o :: rest)) :=
  g_callG (W.runV (As := [.int x1]) (rest := rest) hf hM (cwV 1 hf.2.2.2.2 (lw_V hq q966 qs38 q90 q967) rfl rfl rfl (by decide +kernel) hR) ⟨PC.blind, OC.recv hK hO, fun U hU hW => ⟨rfl, PC.at hO hK hA hZ hS hU hW⟩⟩ rfl rfl hs rfl (lv_room hr) hd hcs) hS (fun H1 locs1 hP hS _ _ => kk H1 locs1 hP hS)
theorem metX0_judge (l : Launch) (hst : l.stackTraces = false) (D : va_G) (aC : Nat → ClassId) (A : Nat → Prop) (o : Nat) (la : LC) (x1 : Int32) (x2 : Int32) (z : GS) (r : Int32) (zq : GS) (h : FX0_judge x1 x2 z = some (r, zq)) : Met l yX0_judge (ws_ yX0_judge cX0_judge 4 (some .int)) ({ frames := 204, cells := 3, slots := 1010, locals := 20089 }) (va_Pc [.ref o, .int x1, .int x2] (PC D aC A o la z)) (QG (some (.int r)) (OC D aC A o la zq) A) 3 1010 A := by
  refine g_ofW (cc := cX0_judge) (maxL := 4) (ret := (some .int)) (own := RX0) (by decide) rfl rfl [.ref o, .int x1, .int x2] (PC D aC A o la z) (Nat.le_of_ble_eq_true rfl) ?_
  intro p e s m below meth c ls hx hb hr hml hts hown hlocks hnm hPre hl
  obtain ⟨hO, hK, hA, hZ⟩ := hPre
  have hf : CallFix p m c cX0_judge 4 s _ lw_all RX0 := ⟨hx, hb, hml, hown, hts⟩
  have hl : lv_has ls 4 [(0, .ref o), (1, .int x1), (2, .int x2)] := hl
  refine g_open (A := A) (OC D aC A o la z) hO (fun H locs hO hS => ?_)
  unfold FX0_judge at h
  refine lv_iload_n hx hb dX0_judge_0 rfl (lv_at hl 1 rfl) ?_
  refine clX0_isShelf hf (metX0_isShelf l x1 _ rfl) q474 hl.1 (Nat.le_of_ble_eq_true rfl) ⟨Nat.le_of_ble_eq_true rfl, Nat.le_of_ble_eq_true rfl⟩ ⟨Nat.le_of_ble_eq_true rfl, Nat.le_of_ble_eq_true rfl⟩ dX0_judge_1 ?_
  refine lv_if_eq (tgt := 15) hx hb dX0_judge_4 (by decide) (fun c1 => ?_) (fun c1 => ?_)
  · have h := it_t c1 h
    refine lv_iconst (v := (-1)) hx hb dX0_judge_15 (by decide) ?_
    obtain ⟨e8, rfl⟩ := Prod.mk.inj (Option.some.inj h)
    refine W.widen (k := 3) (n := 1010) (Nat.le_of_ble_eq_true rfl) (Nat.le_of_ble_eq_true rfl) ?_
    exact g_retG hx hb hr hlocks e8 hO hS dX0_judge_16
  · have h := it_f c1 h
    refine lv_aload_n hx hb dX0_judge_7 rfl (lv_at hl 0 rfl) ?_
    refine lv_iload_n hx hb dX0_judge_8 rfl (lv_at hl 2 rfl) ?_
    refine clX0_isPerson hf hK hO hA hZ hS (metX0_isPerson l D aC A o la x2 z _ rfl) q502 hl.1 (Nat.le_of_ble_eq_true rfl) ⟨Nat.le_of_ble_eq_true rfl, Nat.le_of_ble_eq_true rfl⟩ ⟨Nat.le_of_ble_eq_true rfl, Nat.le_of_ble_eq_true rfl⟩ dX0_judge_9 ?_
    refine lv_if_ne (tgt := 17) hx hb dX0_judge_12 (by decide) (fun c2 => ?_) (fun c2 => ?_)
    · have h := it_f c2 h
      refine lv_aload_n hx hb dX0_judge_17 rfl (lv_at hl 0 rfl) ?_
      refine lv_iload_n hx hb dX0_judge_18 rfl (lv_at hl 1 rfl) ?_
      obtain ⟨r3, z4, e5, h⟩ := bnd_e h
      refine clX0_layRow hf hK hO hA hZ hS (metX0_layRow l hst D aC A o la x1 z r3 z4 e5) q956 hl.1 (Nat.le_of_ble_eq_true rfl) ⟨Nat.le_of_ble_eq_true rfl, Nat.le_of_ble_eq_true rfl⟩ ⟨Nat.le_of_ble_eq_true rfl, Nat.le_of_ble_eq_true rfl⟩ dX0_judge_19 (fun H locs hO hS => ?_)
      refine lv_istore_n (lv' := [(3, .int r3), (0, .ref o), (1, .int x1), (2, .int x2)]) hx hb dX0_judge_22 rfl hl (by decide) rfl (fun ls hl => ?_)
      refine lv_iload_n hx hb dX0_judge_23 rfl (lv_at hl 0 rfl) ?_
      refine lv_if_ge (tgt := 31) hx hb dX0_judge_24 (by decide) (fun c6 => ?_) (fun c6 => ?_)
      · have h := it_t c6 h
        refine lv_aload_n hx hb dX0_judge_31 rfl (lv_at hl 1 rfl) ?_
        refine lv_iload_n hx hb dX0_judge_32 rfl (lv_at hl 3 rfl) ?_
        obtain ⟨r7, z8, e9, h⟩ := bnd_e h
        refine clX0_wrongDay hf hK hO hA hZ hS (metX0_wrongDay l D aC A o la x2 z4 r7 z8 e9) q964 hl.1 (Nat.le_of_ble_eq_true rfl) ⟨Nat.le_of_ble_eq_true rfl, Nat.le_of_ble_eq_true rfl⟩ ⟨Nat.le_of_ble_eq_true rfl, Nat.le_of_ble_eq_true rfl⟩ dX0_judge_33 (fun H locs hO hS => ?_)
        obtain ⟨e8, rfl⟩ := Prod.mk.inj (Option.some.inj h)
        refine W.widen (k := 3) (n := 1010) (Nat.le_of_ble_eq_true rfl) (Nat.le_of_ble_eq_true rfl) ?_
        exact g_retG hx hb hr hlocks e8 hO hS dX0_judge_36
      · have h := it_f c6 h
        refine lv_iload_n hx hb dX0_judge_27 rfl (lv_at hl 0 rfl) ?_
        refine lv_goto (tgt := 36) hx hb dX0_judge_28 (by decide) ?_
        obtain ⟨e8, rfl⟩ := Prod.mk.inj (Option.some.inj h)
        refine W.widen (k := 3) (n := 1010) (Nat.le_of_ble_eq_true rfl) (Nat.le_of_ble_eq_true rfl) ?_
        exact g_retG hx hb hr hlocks e8 hO hS dX0_judge_36
    · have h := it_t c2 h
      refine lv_iconst (v := (-1)) hx hb dX0_judge_15 (by decide) ?_
      obtain ⟨e8, rfl⟩ := Prod.mk.inj (Option.some.inj h)
      refine W.widen (k := 3) (n := 1010) (Nat.le_of_ble_eq_true rfl) (Nat.le_of_ble_eq_true rfl) ?_
      exact g_retG hx hb hr hlocks e8 hO hS dX0_judge_16
theorem clX0_judge {p : Program} {l : Launch} {e : Env} {R : Room} {s : State} {m : MethodId} {args : Array Value} {below : List Frame} {meth : Method} {c : Code} {H : Heap} {locs : List Loc} {cells slots : Nat} {Q : State → Prop} {cc : ByteArray} {pc nL idx fr lo : Nat} {ls : Array Slot} {rest : List Value} {own : String} {D : va_G} {aC : Nat → ClassId} {A : Nat → Prop} {o : Nat} {la : LC} {z : GS} {zq : GS} {x1 : Int32} {x2 : Int32} {r : Int32} (hf : CallFix p m c cc nL s args lw_all own) (hK : KC D aC s) (hO : OC D aC A o la z H) (hA : ∀ q : Nat, s.heap.size ≤ q → A q) (hZ : ZX A s s.heap) (hS : va_S A s.heap H locs) (hM : Met l yX0_judge (ws_ yX0_judge cX0_judge 4 (some .int)) ({ frames := fr, cells := 3, slots := 1010, locals := lo }) (va_Pc [.ref o, .int x1, .int x2] (PC D aC A o la z)) (QG (some (.int r)) (OC D aC A o la zq) A) 3 1010 A) (hq : Cond.methodLink own idx yX0_judge ∈ lw_all) (hs : ls.size = nL) (hr : (rest.map fun v => v.category).sum ≤ 8) (hR : fr + 1 ≤ R.frames ∧ 8 + (4 + 11) + lo ≤ R.locals) (hcs : cells + 3 ≤ R.cells ∧ slots + 1010 ≤ R.slots) (hd : decode cc pc = .ok (.invokevirtual idx, 3)) (kk : ∀ (H1 : Heap) (locs1 : List Loc), OC D aC A o la zq H1 → va_S A s.heap H1 locs1 → W p l e R s m args below meth c H1 locs1 (cells + 3) (slots + 1010) Q (F0 m (pc + 3) ls (.int r :: rest))) : W p l e R s m args below meth c H locs cells slots Q (F0 m pc ls (.int x2 :: .int x1 :: .ref o :: rest)) :=
  g_callG (W.runV (As := [.int x1, .int x2]) (rest := rest) hf hM (cwV 2 hf.2.2.2.2 (lw_V hq q953 q954 q90 q955) rfl rfl rfl (by decide +kernel) hR) ⟨PC.blind, OC.recv hK hO, fun U hU hW => ⟨rfl, PC.at hO hK hA hZ hS hU hW⟩⟩ rfl rfl hs rfl (lv_room hr) hd hcs) hS (fun H1 locs1 hP hS _ _ => kk H1 locs1 hP hS)
theorem metX0_whomBits (l : Launch) (D : va_G) (aC : Nat → ClassId) (A : Nat → Prop) (o : Nat) (la : LC) (x1 : Int32) (x2 : Int32) (z : GS) (r : Int32) (zq : GS) (h : FX0_whomBits x1 x2 z = some (r, zq)) : Met l yX0_whomBits (ws_ yX0_whomBits cX0_whomBits 6 (some .int)) ({ frames := 204, cells := 0, slots := 0, locals := 20089 }) (va_Pc [.ref o, .int x1, .int x2] (PC D aC A o la z)) (QG (some (.int r)) (OC D aC A o la zq) A) 0 0 A := by
  refine g_ofW (cc := cX0_whomBits) (maxL := 6) (ret := (some .int)) (own := RX0) (by decide) rfl rfl [.ref o, .int x1, .int x2] (PC D aC A o la z) (Nat.le_of_ble_eq_true rfl) ?_
  intro p e s m below meth c ls hx hb hr hml hts hown hlocks hnm hPre hl
  obtain ⟨hO, hK, hA, hZ⟩ := hPre
  have hf : CallFix p m c cX0_whomBits 6 s _ lw_all RX0 := ⟨hx, hb, hml, hown, hts⟩
  have hl : lv_has ls 6 [(0, .ref o), (1, .int x1), (2, .int x2)] := hl
  refine g_open (A := A) (OC D aC A o la z) hO (fun H locs hO hS => ?_)
  unfold FX0_whomBits at h
  refine lv_aload_n hx hb dX0_whomBits_0 rfl (lv_at hl 0 rfl) ?_
  refine X0_getA hx hb hts hown hK hO 0 (by decide) (Or.inl rfl) (hts _ q164) dX0_whomBits_1 ?_
  refine lv_iload_n hx hb dX0_whomBits_4 rfl (lv_at hl 2 rfl) ?_
  obtain ⟨g1, h⟩ := grd h
  refine X0_paald hx hb hK hO g1 dX0_whomBits_5 ?_
  refine X0_getP hx hb hts hown hK hO g1 4 (by decide) (hK.nw q330 rfl) dX0_whomBits_6 ?_
  refine lv_topi (fun y2 ey2 => ?_)
  have h := pin_to ey2 h
  refine lv_istore_n (lv' := [(3, .int y2), (0, .ref o), (1, .int x1), (2, .int x2)]) hx hb dX0_whomBits_9 rfl hl (by decide) rfl (fun ls hl => ?_)
  refine lv_iconst (v := 0) hx hb dX0_whomBits_10 (by decide) ?_
  refine lv_istore (lv' := [(4, .int 0), (3, .int y2), (0, .ref o), (1, .int x1), (2, .int x2)]) hx hb dX0_whomBits_11 hl (by decide) rfl (fun ls hl => ?_)
  refine lv_iconst (v := (-1)) hx hb dX0_whomBits_13 (by decide) ?_
  refine lv_istore (lv' := [(5, .int (-1)), (4, .int 0), (3, .int y2), (0, .ref o), (1, .int x1), (2, .int x2)]) hx hb dX0_whomBits_14 hl (by decide) rfl (fun ls hl => ?_)
  obtain ⟨k3, e27, h⟩ := pin_nm h
  have hk3 : ∀ (v4 : Int32) (z5 : GS) (H : Heap) (locs : List Loc) (ls : Array Slot), k3 v4 z5 = some (r, zq) → OC D aC A o la z5 H → va_S A s.heap H locs → lv_has ls 6 [(0, .ref o), (2, .int x2), (3, .int y2), (4, .int v4)] → W p l e ({ frames := 204, cells := 0, slots := 0, locals := 20089 }) s m ([.ref o, .int x1, .int x2] : List Value).toArray below meth c H locs 0 0 (MQ below (QG (some (.int r)) (OC D aC A o la zq) A) ([.ref o, .int x1, .int x2] : List Value).toArray s 0 0 A) (F0 m 81 ls []) := by
    intro v4 z5 H locs ls h hO hS hl
    rw [e27] at h
    refine lv_aload_n hx hb dX0_whomBits_81 rfl (lv_at hl 0 rfl) ?_
    refine X0_getA hx hb hts hown hK hO 0 (by decide) (Or.inl rfl) (hts _ q164) dX0_whomBits_82 ?_
    refine lv_iload_n hx hb dX0_whomBits_85 rfl (lv_at hl 1 rfl) ?_
    obtain ⟨g6, h⟩ := grd h
    refine X0_paald hx hb hK hO g6 dX0_whomBits_86 ?_
    refine lv_iload_n hx hb dX0_whomBits_87 rfl (lv_at hl 2 rfl) ?_
    refine X0_putP hx hb hts hown hK hO hS g6 4 (by decide) (hK.nw q330 rfl) rfl rfl dX0_whomBits_88 (fun H locs z7 ez7 hO hS => ?_)
    have h := pin_to ez7 h
    refine lv_iload hx hb dX0_whomBits_91 (lv_at hl 3 rfl) ?_
    obtain ⟨e8, rfl⟩ := Prod.mk.inj (Option.some.inj h)
    exact g_retG hx hb hr hlocks e8 hO hS dX0_whomBits_93
  have key26 : ∀ (f : Nat) (v4 : Int32) (v5 : Int32) (z : GS) (H : Heap) (locs : List Loc) (ls : Array Slot), FX0_whomBits_L16 k3 x1 x2 y2 f v4 v5 z = some (r, zq) → OC D aC A o la z H → va_S A s.heap H locs → lv_has ls 6 [(0, .ref o), (1, .int x1), (2, .int x2), (3, .int y2), (4, .int v4), (5, .int v5)] → W p l e ({ frames := 204, cells := 0, slots := 0, locals := 20089 }) s m ([.ref o, .int x1, .int x2] : List Value).toArray below meth c H locs 0 0 (MQ below (QG (some (.int r)) (OC D aC A o la zq) A) ([.ref o, .int x1, .int x2] : List Value).toArray s 0 0 A) (F0 m 16 ls []) := by
    intro f
    induction f with
    | zero =>
      intro v4 v5 z H locs ls h
      rw [FX0_whomBits_L16] at h
      cases h
    | succ f ih8 =>
      intro v4 v5 z H locs ls h hO hS hl
      rw [FX0_whomBits_L16] at h
      refine lv_iload hx hb dX0_whomBits_16 (lv_at hl 5 rfl) ?_
      refine lv_aload_n hx hb dX0_whomBits_18 rfl (lv_at hl 0 rfl) ?_
      refine X0_getF hx hb hts hown hK hO 1 (by decide) rfl (hts _ q165) dX0_whomBits_19 ?_
      refine lv_icmp_ge (tgt := 81) hx hb dX0_whomBits_22 (by decide) (fun c9 => ?_) (fun c9 => ?_)
      · have h := it_t c9 h
        exact hk3 _ _ _ _ _ h hO hS (lv_sub hl [0, 2, 3, 4] rfl)
      · have h := it_f c9 h
        refine lv_iload hx hb dX0_whomBits_25 (lv_at hl 5 rfl) ?_
        refine lv_iload_n hx hb dX0_whomBits_27 rfl (lv_at hl 2 rfl) ?_
        obtain ⟨k10, e25, h⟩ := pin_nm h
        have hk10 : ∀ (v11 : Int32) (z12 : GS) (H : Heap) (locs : List Loc) (ls : Array Slot), k10 v11 z12 = some (r, zq) → OC D aC A o la z12 H → va_S A s.heap H locs → lv_has ls 6 [(0, .ref o), (1, .int x1), (2, .int x2), (3, .int y2), (4, .int v11), (5, .int v5)] → W p l e ({ frames := 204, cells := 0, slots := 0, locals := 20089 }) s m ([.ref o, .int x1, .int x2] : List Value).toArray below meth c H locs 0 0 (MQ below (QG (some (.int r)) (OC D aC A o la zq) A) ([.ref o, .int x1, .int x2] : List Value).toArray s 0 0 A) (F0 m 75 ls []) := by
          intro v11 z12 H locs ls h hO hS hl
          rw [e25] at h
          refine lv_iinc (v := (v5 + 1)) (lv' := [(5, .int (v5 + 1)), (0, .ref o), (1, .int x1), (2, .int x2), (3, .int y2), (4, .int v11)]) hx hb dX0_whomBits_75 hl (k := 5) rfl rfl (by decide) rfl (fun ls hl => ?_)
          refine lv_goto (tgt := 16) hx hb dX0_whomBits_78 (by decide) ?_
          exact ih8 _ _ _ _ _ _ h hO hS (lv_sub hl [1, 2, 3, 4, 5, 0] rfl)
        refine lv_icmp_ne (tgt := 34) hx hb dX0_whomBits_28 (by decide) (fun c13 => ?_) (fun c13 => ?_)
        · have h := it_f c13 h
          refine lv_aload_n hx hb dX0_whomBits_34 rfl (lv_at hl 0 rfl) ?_
          refine X0_getA hx hb hts hown hK hO 0 (by decide) (Or.inl rfl) (hts _ q164) dX0_whomBits_35 ?_
          refine lv_iload_n hx hb dX0_whomBits_38 rfl (lv_at hl 2 rfl) ?_
          obtain ⟨g14, h⟩ := grd h
          refine X0_paald hx hb hK hO g14 dX0_whomBits_39 ?_
          refine lv_iload hx hb dX0_whomBits_40 (lv_at hl 5 rfl) ?_
          refine X0_putP hx hb hts hown hK hO hS g14 4 (by decide) (hK.nw q330 rfl) rfl rfl dX0_whomBits_42 (fun H locs z15 ez15 hO hS => ?_)
          have h := pin_to ez15 h
          refine lv_aload_n hx hb dX0_whomBits_45 rfl (lv_at hl 0 rfl) ?_
          refine lv_iload_n hx hb dX0_whomBits_46 rfl (lv_at hl 1 rfl) ?_
          obtain ⟨r16, z17, e18, h⟩ := bnd_e h
          refine clX0_wrongDay hf hK hO hA hZ hS (metX0_wrongDay l D aC A o la x1 z15 r16 z17 e18) q964 hl.1 (Nat.le_of_ble_eq_true rfl) ⟨Nat.le_of_ble_eq_true rfl, Nat.le_of_ble_eq_true rfl⟩ ⟨Nat.le_of_ble_eq_true rfl, Nat.le_of_ble_eq_true rfl⟩ dX0_whomBits_47 (fun H locs hO hS => ?_)
          refine lv_bipush (v := (-2)) hx hb dX0_whomBits_50 (by decide) ?_
          refine lv_icmp_ne (tgt := 75) hx hb dX0_whomBits_52 (by decide) (fun c19 => ?_) (fun c19 => ?_)
          · have h := it_f c19 h
            exact hk10 _ _ _ _ _ h hO hS (lv_sub hl [0, 1, 2, 3, 4, 5] rfl)
          · have h := it_t c19 h
            refine lv_iload hx hb dX0_whomBits_55 (lv_at hl 4 rfl) ?_
            refine lv_iload hx hb dX0_whomBits_57 (lv_at hl 5 rfl) ?_
            obtain ⟨k21, e23, h⟩ := pin_nm2 h
            have hk21 : ∀ (u20 : Int32) (ls : Array Slot), k21 u20 = some (r, zq) → lv_has ls 6 [(0, .ref o), (1, .int x1), (2, .int x2), (3, .int y2), (5, .int v5)] → W p l e ({ frames := 204, cells := 0, slots := 0, locals := 20089 }) s m ([.ref o, .int x1, .int x2] : List Value).toArray below meth c H locs 0 0 (MQ below (QG (some (.int r)) (OC D aC A o la zq) A) ([.ref o, .int x1, .int x2] : List Value).toArray s 0 0 A) (F0 m 72 ls [.int u20, .int v4]) := by
              intro u20 ls h hl
              rw [e23] at h
              refine lv_ior hx hb dX0_whomBits_72 ?_
              refine lv_topi (fun y22 ey22 => ?_)
              have h := pin_to ey22 h
              refine lv_istore (lv' := [(4, .int y22), (0, .ref o), (1, .int x1), (2, .int x2), (3, .int y2), (5, .int v5)]) hx hb dX0_whomBits_73 hl (by decide) rfl (fun ls hl => ?_)
              exact hk10 _ _ _ _ _ h hO hS (lv_sub hl [1, 2, 3, 4, 0, 5] rfl)
            refine lv_if_ge (tgt := 68) hx hb dX0_whomBits_59 (by decide) (fun c24 => ?_) (fun c24 => ?_)
            · have h := pt_t (k := k21) c24 h
              refine lv_iconst (v := 1) hx hb dX0_whomBits_68 (by decide) ?_
              refine lv_iload hx hb dX0_whomBits_69 (lv_at hl 5 rfl) ?_
              refine g_ishl hx hb dX0_whomBits_71 ?_
              exact hk21 _ _ h (lv_sub hl [0, 1, 2, 3, 5] rfl)
            · have h := pt_f (k := k21) c24 h
              refine lv_sipush (v := 256) hx hb dX0_whomBits_62 (by decide) ?_
              refine lv_goto (tgt := 72) hx hb dX0_whomBits_65 (by decide) ?_
              exact hk21 _ _ h (lv_sub hl [0, 1, 2, 3, 5] rfl)
        · have h := it_t c13 h
          refine lv_goto (tgt := 75) hx hb dX0_whomBits_31 (by decide) ?_
          exact hk10 _ _ _ _ _ h hO hS (lv_sub hl [0, 1, 2, 3, 4, 5] rfl)
  exact key26 FU _ _ _ _ _ _ h hO hS (lv_sub hl [3, 4, 5, 2, 1, 0] rfl)
theorem clX0_whomBits {p : Program} {l : Launch} {e : Env} {R : Room} {s : State} {m : MethodId} {args : Array Value} {below : List Frame} {meth : Method} {c : Code} {H : Heap} {locs : List Loc} {cells slots : Nat} {Q : State → Prop} {cc : ByteArray} {pc nL idx fr lo : Nat} {ls : Array Slot} {rest : List Value} {own : String} {D : va_G} {aC : Nat → ClassId} {A : Nat → Prop} {o : Nat} {la : LC} {z : GS} {zq : GS} {x1 : Int32} {x2 : Int32} {r : Int32} (hf : CallFix p m c cc nL s args lw_all own) (hK : KC D aC s) (hO : OC D aC A o la z H) (hA : ∀ q : Nat, s.heap.size ≤ q → A q) (hZ : ZX A s s.heap) (hS : va_S A s.heap H locs) (hM : Met l yX0_whomBits (ws_ yX0_whomBits cX0_whomBits 6 (some .int)) ({ frames := fr, cells := 0, slots := 0, locals := lo }) (va_Pc [.ref o, .int x1, .int x2] (PC D aC A o la z)) (QG (some (.int r)) (OC D aC A o la zq) A) 0 0 A) (hq : Cond.methodLink own idx yX0_whomBits ∈ lw_all) (hs : ls.size = nL) (hr : (rest.map fun v => v.category).sum ≤ 8) (hR : fr + 1 ≤ R.frames ∧ 8 + (6 + 11) + lo ≤ R.locals) (hcs : cells + 0 ≤ R.cells ∧ slots + 0 ≤ R.slots) (hd : decode cc pc = .ok (.invokevirtual idx, 3)) (kk : ∀ (H1 : Heap) (locs1 : List Loc), OC D aC A o la zq H1 → va_S A s.heap H1 locs1 → W p l e R s m args below meth c H1 locs1 cells slots Q (F0 m (pc + 3) ls (.int r :: rest))) : W p l e R s m args below meth c H locs cells slots Q (F0 m pc ls (.int x2 :: .int x1 :: .ref o :: rest)) :=
  g_callG (W.runV (As := [.int x1, .int x2]) (rest := rest) hf hM (cwV 2 hf.2.2.2.2 (lw_V hq q974 qs39 q90 q975) rfl rfl rfl (by decide +kernel) hR) ⟨PC.blind, OC.recv hK hO, fun U hU hW => ⟨rfl, PC.at hO hK hA hZ hS hU hW⟩⟩ rfl rfl hs rfl (lv_room hr) hd hcs) hS (fun H1 locs1 hP hS _ _ => kk H1 locs1 hP hS)
theorem metX0_giftBits (l : Launch) (D : va_G) (aC : Nat → ClassId) (A : Nat → Prop) (o : Nat) (la : LC) (x1 : Int32) (x2 : Int32) (z : GS) (r : Int32) (zq : GS) (h : FX0_giftBits x1 x2 z = some (r, zq)) : Met l yX0_giftBits (ws_ yX0_giftBits cX0_giftBits 6 (some .int)) ({ frames := 204, cells := 0, slots := 0, locals := 20089 }) (va_Pc [.ref o, .int x1, .ref (lPa la x2.toNatClampNeg)] (PC D aC A o la z)) (QG (some (.int r)) (OC D aC A o la zq) A) 0 0 A := by
  refine g_ofW (cc := cX0_giftBits) (maxL := 6) (ret := (some .int)) (own := RX0) (by decide) rfl rfl [.ref o, .int x1, .ref (lPa la x2.toNatClampNeg)] (PC D aC A o la z) (Nat.le_of_ble_eq_true rfl) ?_
  intro p e s m below meth c ls hx hb hr hml hts hown hlocks hnm hPre hl
  obtain ⟨hO, hK, hA, hZ⟩ := hPre
  have hf : CallFix p m c cX0_giftBits 6 s _ lw_all RX0 := ⟨hx, hb, hml, hown, hts⟩
  have hl : lv_has ls 6 [(0, .ref o), (1, .int x1), (2, .ref (lPa la x2.toNatClampNeg))] := hl
  refine g_open (A := A) (OC D aC A o la z) hO (fun H locs hO hS => ?_)
  unfold FX0_giftBits at h
  refine lv_aload_n hx hb dX0_giftBits_0 rfl (lv_at hl 2 rfl) ?_
  obtain ⟨g1, h⟩ := grd h
  refine X0_getP hx hb hts hown hK hO g1 1 (by decide) (hK.nw q324 rfl) dX0_giftBits_1 ?_
  refine lv_topi (fun y2 ey2 => ?_)
  have h := pin_to ey2 h
  refine lv_istore_n (lv' := [(3, .int y2), (0, .ref o), (1, .int x1), (2, .ref (lPa la x2.toNatClampNeg))]) hx hb dX0_giftBits_4 rfl hl (by decide) rfl (fun ls hl => ?_)
  refine lv_iconst (v := 0) hx hb dX0_giftBits_5 (by decide) ?_
  refine lv_istore (lv' := [(4, .int 0), (3, .int y2), (0, .ref o), (1, .int x1), (2, .ref (lPa la x2.toNatClampNeg))]) hx hb dX0_giftBits_6 hl (by decide) rfl (fun ls hl => ?_)
  refine lv_iconst (v := 0) hx hb dX0_giftBits_8 (by decide) ?_
  refine lv_istore (lv' := [(5, .int 0), (4, .int 0), (3, .int y2), (0, .ref o), (1, .int x1), (2, .ref (lPa la x2.toNatClampNeg))]) hx hb dX0_giftBits_9 hl (by decide) rfl (fun ls hl => ?_)
  obtain ⟨k3, e21, h⟩ := pin_nm h
  have hk3 : ∀ (v4 : Int32) (z5 : GS) (H : Heap) (locs : List Loc) (ls : Array Slot), k3 v4 z5 = some (r, zq) → OC D aC A o la z5 H → va_S A s.heap H locs → lv_has ls 6 [(0, .ref o), (2, .ref (lPa la x2.toNatClampNeg)), (3, .int y2), (4, .int v4)] → W p l e ({ frames := 204, cells := 0, slots := 0, locals := 20089 }) s m ([.ref o, .int x1, .ref (lPa la x2.toNatClampNeg)] : List Value).toArray below meth c H locs 0 0 (MQ below (QG (some (.int r)) (OC D aC A o la zq) A) ([.ref o, .int x1, .ref (lPa la x2.toNatClampNeg)] : List Value).toArray s 0 0 A) (F0 m 49 ls []) := by
    intro v4 z5 H locs ls h hO hS hl
    rw [e21] at h
    refine lv_aload_n hx hb dX0_giftBits_49 rfl (lv_at hl 1 rfl) ?_
    refine lv_iload_n hx hb dX0_giftBits_50 rfl (lv_at hl 2 rfl) ?_
    obtain ⟨g6, h⟩ := grd h
    refine X0_putP hx hb hts hown hK hO hS g6 1 (by decide) (hK.nw q324 rfl) rfl rfl dX0_giftBits_51 (fun H locs z7 ez7 hO hS => ?_)
    have h := pin_to ez7 h
    refine lv_iload hx hb dX0_giftBits_54 (lv_at hl 3 rfl) ?_
    obtain ⟨e8, rfl⟩ := Prod.mk.inj (Option.some.inj h)
    exact g_retG hx hb hr hlocks e8 hO hS dX0_giftBits_56
  have key20 : ∀ (f : Nat) (v4 : Int32) (v5 : Int32) (z : GS) (H : Heap) (locs : List Loc) (ls : Array Slot), FX0_giftBits_L11 k3 x1 x2 y2 f v4 v5 z = some (r, zq) → OC D aC A o la z H → va_S A s.heap H locs → lv_has ls 6 [(0, .ref o), (1, .int x1), (2, .ref (lPa la x2.toNatClampNeg)), (3, .int y2), (4, .int v4), (5, .int v5)] → W p l e ({ frames := 204, cells := 0, slots := 0, locals := 20089 }) s m ([.ref o, .int x1, .ref (lPa la x2.toNatClampNeg)] : List Value).toArray below meth c H locs 0 0 (MQ below (QG (some (.int r)) (OC D aC A o la zq) A) ([.ref o, .int x1, .ref (lPa la x2.toNatClampNeg)] : List Value).toArray s 0 0 A) (F0 m 11 ls []) := by
    intro f
    induction f with
    | zero =>
      intro v4 v5 z H locs ls h
      rw [FX0_giftBits_L11] at h
      cases h
    | succ f ih8 =>
      intro v4 v5 z H locs ls h hO hS hl
      rw [FX0_giftBits_L11] at h
      refine lv_iload hx hb dX0_giftBits_11 (lv_at hl 5 rfl) ?_
      refine lv_bipush (v := 9) hx hb dX0_giftBits_13 (by decide) ?_
      refine lv_icmp_gt (tgt := 49) hx hb dX0_giftBits_15 (by decide) (fun c9 => ?_) (fun c9 => ?_)
      · have h := it_t c9 h
        exact hk3 _ _ _ _ _ h hO hS (lv_sub hl [0, 2, 3, 4] rfl)
      · have h := it_f c9 h
        refine lv_aload_n hx hb dX0_giftBits_18 rfl (lv_at hl 2 rfl) ?_
        refine lv_iload hx hb dX0_giftBits_19 (lv_at hl 5 rfl) ?_
        obtain ⟨g10, h⟩ := grd h
        refine X0_putP hx hb hts hown hK hO hS g10 1 (by decide) (hK.nw q324 rfl) rfl rfl dX0_giftBits_21 (fun H locs z11 ez11 hO hS => ?_)
        have h := pin_to ez11 h
        refine lv_aload_n hx hb dX0_giftBits_24 rfl (lv_at hl 0 rfl) ?_
        refine lv_iload_n hx hb dX0_giftBits_25 rfl (lv_at hl 1 rfl) ?_
        obtain ⟨r12, z13, e14, h⟩ := bnd_e h
        refine clX0_wrongDay hf hK hO hA hZ hS (metX0_wrongDay l D aC A o la x1 z11 r12 z13 e14) q964 hl.1 (Nat.le_of_ble_eq_true rfl) ⟨Nat.le_of_ble_eq_true rfl, Nat.le_of_ble_eq_true rfl⟩ ⟨Nat.le_of_ble_eq_true rfl, Nat.le_of_ble_eq_true rfl⟩ dX0_giftBits_26 (fun H locs hO hS => ?_)
        refine lv_bipush (v := (-2)) hx hb dX0_giftBits_29 (by decide) ?_
        obtain ⟨k15, e19, h⟩ := pin_nm h
        have hk15 : ∀ (v16 : Int32) (ls : Array Slot), k15 v16 = some (r, zq) → lv_has ls 6 [(0, .ref o), (1, .int x1), (2, .ref (lPa la x2.toNatClampNeg)), (3, .int y2), (4, .int v16), (5, .int v5)] → W p l e ({ frames := 204, cells := 0, slots := 0, locals := 20089 }) s m ([.ref o, .int x1, .ref (lPa la x2.toNatClampNeg)] : List Value).toArray below meth c H locs 0 0 (MQ below (QG (some (.int r)) (OC D aC A o la zq) A) ([.ref o, .int x1, .ref (lPa la x2.toNatClampNeg)] : List Value).toArray s 0 0 A) (F0 m 43 ls []) := by
          intro v16 ls h hl
          rw [e19] at h
          refine lv_iinc (v := (v5 + 1)) (lv' := [(5, .int (v5 + 1)), (0, .ref o), (1, .int x1), (2, .ref (lPa la x2.toNatClampNeg)), (3, .int y2), (4, .int v16)]) hx hb dX0_giftBits_43 hl (k := 5) rfl rfl (by decide) rfl (fun ls hl => ?_)
          refine lv_goto (tgt := 11) hx hb dX0_giftBits_46 (by decide) ?_
          exact ih8 _ _ _ _ _ _ h hO hS (lv_sub hl [1, 2, 3, 4, 5, 0] rfl)
        refine lv_icmp_ne (tgt := 43) hx hb dX0_giftBits_31 (by decide) (fun c17 => ?_) (fun c17 => ?_)
        · have h := it_f c17 h
          exact hk15 _ _ h (lv_sub hl [0, 1, 2, 3, 4, 5] rfl)
        · have h := it_t c17 h
          refine lv_iload hx hb dX0_giftBits_34 (lv_at hl 4 rfl) ?_
          refine lv_iconst (v := 1) hx hb dX0_giftBits_36 (by decide) ?_
          refine lv_iload hx hb dX0_giftBits_37 (lv_at hl 5 rfl) ?_
          refine g_ishl hx hb dX0_giftBits_39 ?_
          refine lv_ior hx hb dX0_giftBits_40 ?_
          refine lv_topi (fun y18 ey18 => ?_)
          have h := pin_to ey18 h
          refine lv_istore (lv' := [(4, .int y18), (0, .ref o), (1, .int x1), (2, .ref (lPa la x2.toNatClampNeg)), (3, .int y2), (5, .int v5)]) hx hb dX0_giftBits_41 hl (by decide) rfl (fun ls hl => ?_)
          exact hk15 _ _ h (lv_sub hl [1, 2, 3, 4, 0, 5] rfl)
  exact key20 FU _ _ _ _ _ _ h hO hS (lv_sub hl [3, 4, 5, 2, 1, 0] rfl)
theorem clX0_giftBits {p : Program} {l : Launch} {e : Env} {R : Room} {s : State} {m : MethodId} {args : Array Value} {below : List Frame} {meth : Method} {c : Code} {H : Heap} {locs : List Loc} {cells slots : Nat} {Q : State → Prop} {cc : ByteArray} {pc nL idx fr lo : Nat} {ls : Array Slot} {rest : List Value} {own : String} {D : va_G} {aC : Nat → ClassId} {A : Nat → Prop} {o : Nat} {la : LC} {z : GS} {zq : GS} {x1 : Int32} {x2 : Int32} {r : Int32} (hf : CallFix p m c cc nL s args lw_all own) (hK : KC D aC s) (hO : OC D aC A o la z H) (hA : ∀ q : Nat, s.heap.size ≤ q → A q) (hZ : ZX A s s.heap) (hS : va_S A s.heap H locs) (hM : Met l yX0_giftBits (ws_ yX0_giftBits cX0_giftBits 6 (some .int)) ({ frames := fr, cells := 0, slots := 0, locals := lo }) (va_Pc [.ref o, .int x1, .ref (lPa la x2.toNatClampNeg)] (PC D aC A o la z)) (QG (some (.int r)) (OC D aC A o la zq) A) 0 0 A) (hq : Cond.methodLink own idx yX0_giftBits ∈ lw_all) (hs : ls.size = nL) (hr : (rest.map fun v => v.category).sum ≤ 8) (hR : fr + 1 ≤ R.frames ∧ 8 + (6 + 11) + lo ≤ R.locals) (hcs : cells + 0 ≤ R.cells ∧ slots + 0 ≤ R.slots) (hd : decode cc pc = .ok (.invokevirtual idx, 3)) (kk : ∀ (H1 : Heap) (locs1 : List Loc), OC D aC A o la zq H1 → va_S A s.heap H1 locs1 → W p l e R s m args below meth c H1 locs1 cells slots Q (F0 m (pc + 3) ls (.int r :: rest))) : W p l e R s m args below meth c H locs cells slots Q (F0 m pc ls (.ref (lPa la x2.toNatClampNeg) :: .int x1 :: .ref o :: rest)) :=
  g_callG (W.runV (As := [.int x1, .ref (lPa la x2.toNatClampNeg)]) (rest := rest) hf hM (cwV 2 hf.2.2.2.2 (lw_V hq q978 qs40 q90 q979) rfl rfl rfl (by decide +kernel) hR) ⟨PC.blind, OC.recv hK hO, fun U hU hW => ⟨rfl, PC.at hO hK hA hZ hS hU hW⟩⟩ rfl rfl hs rfl (lv_room hr) hd hcs) hS (fun H1 locs1 hP hS _ _ => kk H1 locs1 hP hS)
theorem metX0_fits (l : Launch) (hst : l.stackTraces = false) (D : va_G) (aC : Nat → ClassId) (A : Nat → Prop) (o : Nat) (la : LC) (x1 : Int32) (x2 : Int32) (x3 : Int32) (z : GS) (r : Int32) (zq : GS) (h : FX0_fits x1 x2 x3 z = some (r, zq)) : Met l yX0_fits (ws_ yX0_fits cX0_fits 6 (some .int)) ({ frames := 205, cells := 3, slots := 1010, locals := 20114 }) (va_Pc [.ref o, .int x1, .int x2, .int x3] (PC D aC A o la z)) (QG (some (.int r)) (OC D aC A o la zq) A) 3 1010 A := by
  refine g_ofW (cc := cX0_fits) (maxL := 6) (ret := (some .int)) (own := RX0) (by decide) rfl rfl [.ref o, .int x1, .int x2, .int x3] (PC D aC A o la z) (Nat.le_of_ble_eq_true rfl) ?_
  intro p e s m below meth c ls hx hb hr hml hts hown hlocks hnm hPre hl
  obtain ⟨hO, hK, hA, hZ⟩ := hPre
  have hf : CallFix p m c cX0_fits 6 s _ lw_all RX0 := ⟨hx, hb, hml, hown, hts⟩
  have hl : lv_has ls 6 [(0, .ref o), (1, .int x1), (2, .int x2), (3, .int x3)] := hl
  refine g_open (A := A) (OC D aC A o la z) hO (fun H locs hO hS => ?_)
  unfold FX0_fits at h
  refine lv_iload_n hx hb dX0_fits_0 rfl (lv_at hl 1 rfl) ?_
  refine clX0_isShelf hf (metX0_isShelf l x1 _ rfl) q474 hl.1 (Nat.le_of_ble_eq_true rfl) ⟨Nat.le_of_ble_eq_true rfl, Nat.le_of_ble_eq_true rfl⟩ ⟨Nat.le_of_ble_eq_true rfl, Nat.le_of_ble_eq_true rfl⟩ dX0_fits_1 ?_
  refine lv_if_eq (tgt := 42) hx hb dX0_fits_4 (by decide) (fun c1 => ?_) (fun c1 => ?_)
  · have h := it_t c1 h
    refine lv_iconst (v := (-1)) hx hb dX0_fits_42 (by decide) ?_
    obtain ⟨e8, rfl⟩ := Prod.mk.inj (Option.some.inj h)
    refine W.widen (k := 3) (n := 1010) (Nat.le_of_ble_eq_true rfl) (Nat.le_of_ble_eq_true rfl) ?_
    exact g_retG hx hb hr hlocks e8 hO hS dX0_fits_43
  · have h := it_f c1 h
    refine lv_iload_n hx hb dX0_fits_7 rfl (lv_at hl 2 rfl) ?_
    refine lv_if_lt (tgt := 42) hx hb dX0_fits_8 (by decide) (fun c2 => ?_) (fun c2 => ?_)
    · have h := it_t c2 h
      refine lv_iconst (v := (-1)) hx hb dX0_fits_42 (by decide) ?_
      obtain ⟨e8, rfl⟩ := Prod.mk.inj (Option.some.inj h)
      refine W.widen (k := 3) (n := 1010) (Nat.le_of_ble_eq_true rfl) (Nat.le_of_ble_eq_true rfl) ?_
      exact g_retG hx hb hr hlocks e8 hO hS dX0_fits_43
    · have h := it_f c2 h
      refine lv_aload_n hx hb dX0_fits_11 rfl (lv_at hl 0 rfl) ?_
      refine lv_iload_n hx hb dX0_fits_12 rfl (lv_at hl 2 rfl) ?_
      refine lv_bipush (v := 10) hx hb dX0_fits_13 (by decide) ?_
      refine lv_idiv hx hb dX0_fits_15 (by decide) ?_
      refine clX0_isPerson hf hK hO hA hZ hS (metX0_isPerson l D aC A o la (x2 / 10) z _ rfl) q502 hl.1 (Nat.le_of_ble_eq_true rfl) ⟨Nat.le_of_ble_eq_true rfl, Nat.le_of_ble_eq_true rfl⟩ ⟨Nat.le_of_ble_eq_true rfl, Nat.le_of_ble_eq_true rfl⟩ dX0_fits_16 ?_
      refine lv_if_eq (tgt := 42) hx hb dX0_fits_19 (by decide) (fun c3 => ?_) (fun c3 => ?_)
      · have h := it_t c3 h
        refine lv_iconst (v := (-1)) hx hb dX0_fits_42 (by decide) ?_
        obtain ⟨e8, rfl⟩ := Prod.mk.inj (Option.some.inj h)
        refine W.widen (k := 3) (n := 1010) (Nat.le_of_ble_eq_true rfl) (Nat.le_of_ble_eq_true rfl) ?_
        exact g_retG hx hb hr hlocks e8 hO hS dX0_fits_43
      · have h := it_f c3 h
        refine lv_aload_n hx hb dX0_fits_22 rfl (lv_at hl 0 rfl) ?_
        refine lv_iload_n hx hb dX0_fits_23 rfl (lv_at hl 2 rfl) ?_
        refine lv_bipush (v := 10) hx hb dX0_fits_24 (by decide) ?_
        refine g_irem hx hb dX0_fits_26 (by decide) ?_
        refine clX0_isPerson hf hK hO hA hZ hS (metX0_isPerson l D aC A o la (jrem x2 10) z _ rfl) q502 hl.1 (Nat.le_of_ble_eq_true rfl) ⟨Nat.le_of_ble_eq_true rfl, Nat.le_of_ble_eq_true rfl⟩ ⟨Nat.le_of_ble_eq_true rfl, Nat.le_of_ble_eq_true rfl⟩ dX0_fits_27 ?_
        refine lv_if_eq (tgt := 42) hx hb dX0_fits_30 (by decide) (fun c4 => ?_) (fun c4 => ?_)
        · have h := it_t c4 h
          refine lv_iconst (v := (-1)) hx hb dX0_fits_42 (by decide) ?_
          obtain ⟨e8, rfl⟩ := Prod.mk.inj (Option.some.inj h)
          refine W.widen (k := 3) (n := 1010) (Nat.le_of_ble_eq_true rfl) (Nat.le_of_ble_eq_true rfl) ?_
          exact g_retG hx hb hr hlocks e8 hO hS dX0_fits_43
        · have h := it_f c4 h
          refine lv_iload_n hx hb dX0_fits_33 rfl (lv_at hl 3 rfl) ?_
          refine lv_iconst (v := 0) hx hb dX0_fits_34 (by decide) ?_
          refine lv_iconst (v := 2) hx hb dX0_fits_35 (by decide) ?_
          refine clX0_in hf (metX0_in l x3 0 2 _ rfl) q309 hl.1 (Nat.le_of_ble_eq_true rfl) ⟨Nat.le_of_ble_eq_true rfl, Nat.le_of_ble_eq_true rfl⟩ ⟨Nat.le_of_ble_eq_true rfl, Nat.le_of_ble_eq_true rfl⟩ dX0_fits_36 ?_
          refine lv_if_ne (tgt := 44) hx hb dX0_fits_39 (by decide) (fun c5 => ?_) (fun c5 => ?_)
          · have h := it_f c5 h
            refine lv_aload_n hx hb dX0_fits_44 rfl (lv_at hl 0 rfl) ?_
            refine lv_iload_n hx hb dX0_fits_45 rfl (lv_at hl 1 rfl) ?_
            obtain ⟨r6, z7, e8, h⟩ := bnd_e h
            refine clX0_layRow hf hK hO hA hZ hS (metX0_layRow l hst D aC A o la x1 z r6 z7 e8) q956 hl.1 (Nat.le_of_ble_eq_true rfl) ⟨Nat.le_of_ble_eq_true rfl, Nat.le_of_ble_eq_true rfl⟩ ⟨Nat.le_of_ble_eq_true rfl, Nat.le_of_ble_eq_true rfl⟩ dX0_fits_46 (fun H locs hO hS => ?_)
            refine lv_istore (lv' := [(4, .int r6), (0, .ref o), (1, .int x1), (2, .int x2), (3, .int x3)]) hx hb dX0_fits_49 hl (by decide) rfl (fun ls hl => ?_)
            refine lv_iload hx hb dX0_fits_51 (lv_at hl 0 rfl) ?_
            refine lv_if_ge (tgt := 59) hx hb dX0_fits_53 (by decide) (fun c9 => ?_) (fun c9 => ?_)
            · have h := it_t c9 h
              refine lv_iload_n hx hb dX0_fits_59 rfl (lv_at hl 4 rfl) ?_
              refine lv_iconst (v := 2) hx hb dX0_fits_60 (by decide) ?_
              refine lv_icmp_ne (tgt := 77) hx hb dX0_fits_61 (by decide) (fun c10 => ?_) (fun c10 => ?_)
              · have h := it_f c10 h
                refine lv_aload_n hx hb dX0_fits_77 rfl (lv_at hl 1 rfl) ?_
                refine lv_iload_n hx hb dX0_fits_78 rfl (lv_at hl 3 rfl) ?_
                refine lv_bipush (v := 10) hx hb dX0_fits_79 (by decide) ?_
                refine lv_idiv hx hb dX0_fits_81 (by decide) ?_
                refine lv_aload_n hx hb dX0_fits_82 rfl (lv_at hl 1 rfl) ?_
                refine X0_getA hx hb hts hown hK hO 0 (by decide) (Or.inl rfl) (hts _ q164) dX0_fits_83 ?_
                refine lv_iload_n hx hb dX0_fits_86 rfl (lv_at hl 3 rfl) ?_
                refine lv_bipush (v := 10) hx hb dX0_fits_87 (by decide) ?_
                refine g_irem hx hb dX0_fits_89 (by decide) ?_
                obtain ⟨g11, h⟩ := grd h
                refine X0_paald hx hb hK hO g11 dX0_fits_90 ?_
                obtain ⟨r12, z13, e14, h⟩ := bnd_e h
                refine clX0_giftBits hf hK hO hA hZ hS (metX0_giftBits l D aC A o la (x2 / 10) (jrem x2 10) z7 r12 z13 e14) q976 hl.1 (Nat.le_of_ble_eq_true rfl) ⟨Nat.le_of_ble_eq_true rfl, Nat.le_of_ble_eq_true rfl⟩ ⟨Nat.le_of_ble_eq_true rfl, Nat.le_of_ble_eq_true rfl⟩ dX0_fits_91 (fun H locs hO hS => ?_)
                refine lv_istore (lv' := [(5, .int r12), (4, .int r6), (0, .ref o), (1, .int x1), (2, .int x2), (3, .int x3)]) hx hb dX0_fits_94 hl (by decide) rfl (fun ls hl => ?_)
                refine lv_iload_n hx hb dX0_fits_96 rfl (lv_at hl 5 rfl) ?_
                refine lv_if_ne (tgt := 108) hx hb dX0_fits_97 (by decide) (fun c15 => ?_) (fun c15 => ?_)
                · have h := it_f c15 h
                  refine lv_iload hx hb dX0_fits_108 (lv_at hl 0 rfl) ?_
                  refine lv_if_ne (tgt := 118) hx hb dX0_fits_110 (by decide) (fun c16 => ?_) (fun c16 => ?_)
                  · have h := it_f c16 h
                    refine lv_iload hx hb dX0_fits_118 (lv_at hl 0 rfl) ?_
                    refine clJ13_numberOfTrailingZeros hf (metJ13_numberOfTrailingZeros l r12 _ rfl) q891 hl.1 (Nat.le_of_ble_eq_true rfl) ⟨Nat.le_of_ble_eq_true rfl, Nat.le_of_ble_eq_true rfl⟩ ⟨Nat.le_of_ble_eq_true rfl, Nat.le_of_ble_eq_true rfl⟩ dX0_fits_120 ?_
                    obtain ⟨e8, rfl⟩ := Prod.mk.inj (Option.some.inj h)
                    refine W.widen (k := 3) (n := 1010) (Nat.le_of_ble_eq_true rfl) (Nat.le_of_ble_eq_true rfl) ?_
                    exact g_retG hx hb hr hlocks e8 hO hS dX0_fits_123
                  · have h := it_t c16 h
                    refine lv_bipush (v := (-2)) hx hb dX0_fits_113 (by decide) ?_
                    refine lv_goto (tgt := 123) hx hb dX0_fits_115 (by decide) ?_
                    obtain ⟨e8, rfl⟩ := Prod.mk.inj (Option.some.inj h)
                    refine W.widen (k := 3) (n := 1010) (Nat.le_of_ble_eq_true rfl) (Nat.le_of_ble_eq_true rfl) ?_
                    exact g_retG hx hb hr hlocks e8 hO hS dX0_fits_123
                · have h := it_t c15 h
                  refine lv_iload hx hb dX0_fits_100 (lv_at hl 0 rfl) ?_
                  refine clJ13_bitCount hf (metJ13_bitCount l r12 _ rfl) q930 hl.1 (Nat.le_of_ble_eq_true rfl) ⟨Nat.le_of_ble_eq_true rfl, Nat.le_of_ble_eq_true rfl⟩ ⟨Nat.le_of_ble_eq_true rfl, Nat.le_of_ble_eq_true rfl⟩ dX0_fits_102 ?_
                  refine lv_goto (tgt := 123) hx hb dX0_fits_105 (by decide) ?_
                  obtain ⟨e8, rfl⟩ := Prod.mk.inj (Option.some.inj h)
                  refine W.widen (k := 3) (n := 1010) (Nat.le_of_ble_eq_true rfl) (Nat.le_of_ble_eq_true rfl) ?_
                  exact g_retG hx hb hr hlocks e8 hO hS dX0_fits_123
              · have h := it_t c10 h
                refine lv_aload_n hx hb dX0_fits_64 rfl (lv_at hl 1 rfl) ?_
                refine lv_iload_n hx hb dX0_fits_65 rfl (lv_at hl 3 rfl) ?_
                refine lv_bipush (v := 10) hx hb dX0_fits_66 (by decide) ?_
                refine lv_idiv hx hb dX0_fits_68 (by decide) ?_
                refine lv_iload_n hx hb dX0_fits_69 rfl (lv_at hl 3 rfl) ?_
                refine lv_bipush (v := 10) hx hb dX0_fits_70 (by decide) ?_
                refine g_irem hx hb dX0_fits_72 (by decide) ?_
                obtain ⟨r17, z18, e19, h⟩ := bnd_e h
                refine clX0_whomBits hf hK hO hA hZ hS (metX0_whomBits l D aC A o la (x2 / 10) (jrem x2 10) z7 r17 z18 e19) q972 hl.1 (Nat.le_of_ble_eq_true rfl) ⟨Nat.le_of_ble_eq_true rfl, Nat.le_of_ble_eq_true rfl⟩ ⟨Nat.le_of_ble_eq_true rfl, Nat.le_of_ble_eq_true rfl⟩ dX0_fits_73 (fun H locs hO hS => ?_)
                obtain ⟨e8, rfl⟩ := Prod.mk.inj (Option.some.inj h)
                refine W.widen (k := 3) (n := 1010) (Nat.le_of_ble_eq_true rfl) (Nat.le_of_ble_eq_true rfl) ?_
                exact g_retG hx hb hr hlocks e8 hO hS dX0_fits_76
            · have h := it_f c9 h
              refine lv_iload hx hb dX0_fits_56 (lv_at hl 0 rfl) ?_
              obtain ⟨e8, rfl⟩ := Prod.mk.inj (Option.some.inj h)
              refine W.widen (k := 3) (n := 1010) (Nat.le_of_ble_eq_true rfl) (Nat.le_of_ble_eq_true rfl) ?_
              exact g_retG hx hb hr hlocks e8 hO hS dX0_fits_58
          · have h := it_t c5 h
            refine lv_iconst (v := (-1)) hx hb dX0_fits_42 (by decide) ?_
            obtain ⟨e8, rfl⟩ := Prod.mk.inj (Option.some.inj h)
            refine W.widen (k := 3) (n := 1010) (Nat.le_of_ble_eq_true rfl) (Nat.le_of_ble_eq_true rfl) ?_
            exact g_retG hx hb hr hlocks e8 hO hS dX0_fits_43
theorem clX0_fits {p : Program} {l : Launch} {e : Env} {R : Room} {s : State} {m : MethodId} {args : Array Value} {below : List Frame} {meth : Method} {c : Code} {H : Heap} {locs : List Loc} {cells slots : Nat} {Q : State → Prop} {cc : ByteArray} {pc nL idx fr lo : Nat} {ls : Array Slot} {rest : List Value} {own : String} {D : va_G} {aC : Nat → ClassId} {A : Nat → Prop} {o : Nat} {la : LC} {z : GS} {zq : GS} {x1 : Int32} {x2 : Int32} {x3 : Int32} {r : Int32} (hf : CallFix p m c cc nL s args lw_all own) (hK : KC D aC s) (hO : OC D aC A o la z H) (hA : ∀ q : Nat, s.heap.size ≤ q → A q) (hZ : ZX A s s.heap) (hS : va_S A s.heap H locs) (hM : Met l yX0_fits (ws_ yX0_fits cX0_fits 6 (some .int)) ({ frames := fr, cells := 3, slots := 1010, locals := lo }) (va_Pc [.ref o, .int x1, .int x2, .int x3] (PC D aC A o la z)) (QG (some (.int r)) (OC D aC A o la zq) A) 3 1010 A) (hq : Cond.methodLink own idx yX0_fits ∈ lw_all) (hs : ls.size = nL) (hr : (rest.map fun v => v.category).sum ≤ 8) (hR : fr + 1 ≤ R.frames ∧ 8 + (6 + 11) + lo ≤ R.locals) (hcs : cells + 3 ≤ R.cells ∧ slots + 1010 ≤ R.slots) (hd : decode cc pc = .ok (.invokevirtual idx, 3)) (kk : ∀ (H1 : Heap) (locs1 : List Loc), OC D aC A o la zq H1 → va_S A s.heap H1 locs1 → W p l e R s m args below meth c H1 locs1 (cells + 3) (slots + 1010) Q (F0 m (pc + 3) ls (.int r :: rest))) : W p l e R s m args below meth c H locs cells slots Q (F0 m pc ls (.int x3 :: .int x2 :: .int x1 :: .ref o :: rest)) :=
  g_callG (W.runV (As := [.int x1, .int x2, .int x3]) (rest := rest) hf hM (cwV 3 hf.2.2.2.2 (lw_V hq q969 q970 q90 q971) rfl rfl rfl (by decide +kernel) hR) ⟨PC.blind, OC.recv hK hO, fun U hU hW => ⟨rfl, PC.at hO hK hA hZ hS hU hW⟩⟩ rfl rfl hs rfl (lv_room hr) hd hcs) hS (fun H1 locs1 hP hS _ _ => kk H1 locs1 hP hS)
theorem metX0_part (l : Launch) (D : va_G) (aC : Nat → ClassId) (A : Nat → Prop) (o : Nat) (la : LC) (x1 : Int64) (x2 : Int64) (x3 : Int32) (z : GS) (r : Int64) (h : FX0_part x1 x2 x3 z = some r) : Met l yX0_part (ws_ yX0_part cX0_part 11 (some .long)) ({ frames := 0, cells := 0, slots := 0, locals := 0 }) (va_Pc [.long x1, .long x2, .int x3] (PC D aC A o la z)) (QR (some (.long r))) 0 0 (fun _ => False) := by
  refine g_ofW (cc := cX0_part) (maxL := 11) (ret := (some .long)) (own := RX0) (by decide) rfl rfl [.long x1, .long x2, .int x3] (PC D aC A o la z) (Nat.le_of_ble_eq_true rfl) ?_
  intro p e s m below meth c ls hx hb hr hml hts hown hlocks hnm hPre hl
  obtain ⟨hO, hK, hA, hZ⟩ := hPre
  have hf : CallFix p m c cX0_part 11 s _ lw_all RX0 := ⟨hx, hb, hml, hown, hts⟩
  have hl : lv_has ls 11 [(0, .long x1), (2, .long x2), (4, .int x3)] := hl
  have hS : va_S A s.heap s.heap [] := va_S.rf
  unfold FX0_part at h
  refine lv_lload_n hx hb dX0_part_0 rfl (lv_at hl 0 rfl) ?_
  refine lv_lconst (v := 0) hx hb dX0_part_1 (by decide) ?_
  refine W.lcmp hx hb dX0_part_2 ?_
  refine lv_if_ne (tgt := 10) hx hb dX0_part_3 (by decide) (fun c1 => ?_) (fun c1 => ?_)
  · have h := it_f c1 h
    refine lv_lload_n hx hb dX0_part_10 rfl (lv_at hl 0 rfl) ?_
    refine lv_lstore (lv' := [(5, .long x1), (0, .long x1), (2, .long x2), (4, .int x3)]) hx hb dX0_part_11 hl (by decide) rfl (fun ls hl => ?_)
    refine lv_lload_n hx hb dX0_part_13 rfl (lv_at hl 2 rfl) ?_
    refine lv_lstore (lv' := [(7, .long x2), (5, .long x1), (0, .long x1), (2, .long x2), (4, .int x3)]) hx hb dX0_part_14 hl (by decide) rfl (fun ls hl => ?_)
    obtain ⟨k2, e12, h⟩ := pin_nm h
    have hk2 : ∀ (v3 : Int64) (ls : Array Slot), k2 v3 = some r → lv_has ls 11 [(0, .long x1), (2, .long x2), (4, .int x3), (5, .long v3)] → W p l e ({ frames := 0, cells := 0, slots := 0, locals := 0 }) s m ([.long x1, .long x2, .int x3] : List Value).toArray below meth c s.heap [] 0 0 (MQ below (QR (some (.long r))) ([.long x1, .long x2, .int x3] : List Value).toArray s 0 0 (fun _ => False)) (F0 m 41 ls []) := by
      intro v3 ls h hl
      rw [e12] at h
      refine lv_iload hx hb dX0_part_41 (lv_at hl 2 rfl) ?_
      refine lv_if_ne (tgt := 53) hx hb dX0_part_43 (by decide) (fun c4 => ?_) (fun c4 => ?_)
      · have h := it_f c4 h
        refine lv_lload_n hx hb dX0_part_53 rfl (lv_at hl 1 rfl) ?_
        refine lv_lload hx hb dX0_part_54 (lv_at hl 3 rfl) ?_
        obtain ⟨g5, h⟩ := grd h
        refine lv_ldiv hx hb dX0_part_56 g5 ?_
        exact g_retRl hx hb hr hlocks (Option.some.inj h) dX0_part_57
      · have h := it_t c4 h
        refine lv_lload_n hx hb dX0_part_46 rfl (lv_at hl 0 rfl) ?_
        refine lv_lload hx hb dX0_part_47 (lv_at hl 3 rfl) ?_
        obtain ⟨g6, h⟩ := grd h
        refine lv_ldiv hx hb dX0_part_49 g6 ?_
        refine lv_goto (tgt := 57) hx hb dX0_part_50 (by decide) ?_
        exact g_retRl hx hb hr hlocks (Option.some.inj h) dX0_part_57
    have key11 : ∀ (f : Nat) (v5 : Int64) (v7 : Int64) (ls : Array Slot), FX0_part_L16 k2 x1 x2 x3 z f v5 v7 = some r → lv_has ls 11 [(0, .long x1), (2, .long x2), (4, .int x3), (5, .long v5), (7, .long v7)] → W p l e ({ frames := 0, cells := 0, slots := 0, locals := 0 }) s m ([.long x1, .long x2, .int x3] : List Value).toArray below meth c s.heap [] 0 0 (MQ below (QR (some (.long r))) ([.long x1, .long x2, .int x3] : List Value).toArray s 0 0 (fun _ => False)) (F0 m 16 ls []) := by
      intro f
      induction f with
      | zero =>
        intro v5 v7 ls h
        rw [FX0_part_L16] at h
        cases h
      | succ f ih7 =>
        intro v5 v7 ls h hl
        rw [FX0_part_L16] at h
        refine lv_lload hx hb dX0_part_16 (lv_at hl 4 rfl) ?_
        refine lv_lconst (v := 0) hx hb dX0_part_18 (by decide) ?_
        refine W.lcmp hx hb dX0_part_19 ?_
        refine lv_if_eq (tgt := 41) hx hb dX0_part_20 (by decide) (fun c8 => ?_) (fun c8 => ?_)
        · have h := it_t c8 h
          exact hk2 _ _ h (lv_sub hl [0, 1, 2, 3] rfl)
        · have h := it_f c8 h
          refine lv_lload hx hb dX0_part_23 (lv_at hl 3 rfl) ?_
          refine lv_lload hx hb dX0_part_25 (lv_at hl 4 rfl) ?_
          obtain ⟨g9, h⟩ := grd h
          refine g_lrem hx hb dX0_part_27 g9 ?_
          refine lv_topl (fun y10 ey10 => ?_)
          have h := pin_to ey10 h
          refine lv_lstore (lv' := [(9, .long y10), (0, .long x1), (2, .long x2), (4, .int x3), (5, .long v5), (7, .long v7)]) hx hb dX0_part_28 hl (by decide) rfl (fun ls hl => ?_)
          refine lv_lload hx hb dX0_part_30 (lv_at hl 5 rfl) ?_
          refine lv_lstore (lv' := [(5, .long v7), (9, .long y10), (0, .long x1), (2, .long x2), (4, .int x3), (7, .long v7)]) hx hb dX0_part_32 hl (by decide) rfl (fun ls hl => ?_)
          refine lv_lload hx hb dX0_part_34 (lv_at hl 1 rfl) ?_
          refine lv_lstore (lv' := [(7, .long y10), (5, .long v7), (9, .long y10), (0, .long x1), (2, .long x2), (4, .int x3)]) hx hb dX0_part_36 hl (by decide) rfl (fun ls hl => ?_)
          refine lv_goto (tgt := 16) hx hb dX0_part_38 (by decide) ?_
          exact ih7 _ _ _ h (lv_sub hl [3, 4, 5, 1, 0] rfl)
    exact key11 FU _ _ _ h (lv_sub hl [2, 3, 4, 1, 0] rfl)
  · have h := it_t c1 h
    refine lv_iload hx hb dX0_part_6 (lv_at hl 2 rfl) ?_
    refine lv_i2l (v := (x3.toInt64)) hx hb dX0_part_8 rfl ?_
    exact g_retRl hx hb hr hlocks (Option.some.inj h) dX0_part_9
theorem clX0_part {p : Program} {l : Launch} {e : Env} {R : Room} {s : State} {m : MethodId} {args : Array Value} {below : List Frame} {meth : Method} {c : Code} {H : Heap} {locs : List Loc} {cells slots : Nat} {Q : State → Prop} {cc : ByteArray} {pc nL idx fr lo : Nat} {ls : Array Slot} {rest : List Value} {own : String} {D : va_G} {aC : Nat → ClassId} {A : Nat → Prop} {o : Nat} {la : LC} {z : GS} {x1 : Int64} {x2 : Int64} {x3 : Int32} {r : Int64} (hf : CallFix p m c cc nL s args lw_all own) (hK : KC D aC s) (hO : OC D aC A o la z H) (hA : ∀ q : Nat, s.heap.size ≤ q → A q) (hZ : ZX A s s.heap) (hS : va_S A s.heap H locs) (hM : Met l yX0_part (ws_ yX0_part cX0_part 11 (some .long)) ({ frames := fr, cells := 0, slots := 0, locals := lo }) (va_Pc [.long x1, .long x2, .int x3] (PC D aC A o la z)) (QR (some (.long r))) 0 0 (fun _ => False)) (hq : Cond.methodLink own idx yX0_part ∈ lw_all) (hs : ls.size = nL) (hr : (rest.map fun v => v.category).sum ≤ 8) (hR : fr + 1 ≤ R.frames ∧ 8 + (11 + 11) + lo ≤ R.locals) (hcs : cells + 0 ≤ R.cells ∧ slots + 0 ≤ R.slots) (hd : decode cc pc = .ok (.invokestatic idx, 3)) (kk : W p l e R s m args below meth c H locs cells slots Q (F0 m (pc + 3) ls (.long r :: rest))) : W p l e R s m args below meth c H locs cells slots Q (F0 m pc ls (.int x3 :: .long x2 :: .long x1 :: rest)) :=
  g_callR (W.runS (As := [.long x1, .long x2, .int x3]) (rest := rest) hf hM (va_cwS 3 hf.2.2.2.2 (lw_S hq q987 q90 q988) rfl rfl rfl (by decide +kernel) hR) ⟨PC.blind, fun U hU hW => ⟨rfl, PC.at hO hK hA hZ hS hU hW⟩⟩ rfl rfl hs rfl (lv_room hr) hd hcs) kk
theorem metX0_can (l : Launch) (hst : l.stackTraces = false) (D : va_G) (aC : Nat → ClassId) (A : Nat → Prop) (o : Nat) (la : LC) (x1 : Int32) (x2 : Int32) (z : GS) (r : Int64) (zq : GS) (h : FX0_can x1 x2 z = some (r, zq)) : Met l yX0_can (ws_ yX0_can cX0_can 8 (some .long)) ({ frames := 13, cells := 3, slots := 1010, locals := 11023 }) (va_Pc [.ref o, .int x1, .int x2] (PC D aC A o la z)) (QG (some (.long r)) (OC D aC A o la zq) A) 3 1010 A := by
  refine g_ofW (cc := cX0_can) (maxL := 8) (ret := (some .long)) (own := RX0) (by decide) rfl rfl [.ref o, .int x1, .int x2] (PC D aC A o la z) (Nat.le_of_ble_eq_true rfl) ?_
  intro p e s m below meth c ls hx hb hr hml hts hown hlocks hnm hPre hl
  obtain ⟨hO, hK, hA, hZ⟩ := hPre
  have hf : CallFix p m c cX0_can 8 s _ lw_all RX0 := ⟨hx, hb, hml, hown, hts⟩
  have hl : lv_has ls 8 [(0, .ref o), (1, .int x1), (2, .int x2)] := hl
  refine g_open (A := A) (OC D aC A o la z) hO (fun H locs hO hS => ?_)
  unfold FX0_can at h
  refine lv_iload_n hx hb dX0_can_0 rfl (lv_at hl 1 rfl) ?_
  refine clX0_isShelf hf (metX0_isShelf l x1 _ rfl) q474 hl.1 (Nat.le_of_ble_eq_true rfl) ⟨Nat.le_of_ble_eq_true rfl, Nat.le_of_ble_eq_true rfl⟩ ⟨Nat.le_of_ble_eq_true rfl, Nat.le_of_ble_eq_true rfl⟩ dX0_can_1 ?_
  refine lv_if_eq (tgt := 24) hx hb dX0_can_4 (by decide) (fun c1 => ?_) (fun c1 => ?_)
  · have h := it_t c1 h
    refine lv_ldc2 (v := (-9223372036854775808)) hx hb hown (hts _ q984) dX0_can_24 ?_
    obtain ⟨e8, rfl⟩ := Prod.mk.inj (Option.some.inj h)
    refine W.widen (k := 3) (n := 1010) (Nat.le_of_ble_eq_true rfl) (Nat.le_of_ble_eq_true rfl) ?_
    exact g_retGl hx hb hr hlocks e8 hO hS dX0_can_27
  · have h := it_f c1 h
    refine lv_iload_n hx hb dX0_can_7 rfl (lv_at hl 2 rfl) ?_
    refine lv_iconst (v := 0) hx hb dX0_can_8 (by decide) ?_
    refine lv_iconst (v := 1) hx hb dX0_can_9 (by decide) ?_
    refine clX0_in hf (metX0_in l x2 0 1 _ rfl) q309 hl.1 (Nat.le_of_ble_eq_true rfl) ⟨Nat.le_of_ble_eq_true rfl, Nat.le_of_ble_eq_true rfl⟩ ⟨Nat.le_of_ble_eq_true rfl, Nat.le_of_ble_eq_true rfl⟩ dX0_can_10 ?_
    refine lv_if_eq (tgt := 24) hx hb dX0_can_13 (by decide) (fun c2 => ?_) (fun c2 => ?_)
    · have h := it_t c2 h
      refine lv_ldc2 (v := (-9223372036854775808)) hx hb hown (hts _ q984) dX0_can_24 ?_
      obtain ⟨e8, rfl⟩ := Prod.mk.inj (Option.some.inj h)
      refine W.widen (k := 3) (n := 1010) (Nat.le_of_ble_eq_true rfl) (Nat.le_of_ble_eq_true rfl) ?_
      exact g_retGl hx hb hr hlocks e8 hO hS dX0_can_27
    · have h := it_f c2 h
      refine lv_aload_n hx hb dX0_can_16 rfl (lv_at hl 0 rfl) ?_
      refine lv_iload_n hx hb dX0_can_17 rfl (lv_at hl 1 rfl) ?_
      obtain ⟨r3, z4, e5, h⟩ := bnd_e h
      refine clX0_layRow hf hK hO hA hZ hS (metX0_layRow l hst D aC A o la x1 z r3 z4 e5) q956 hl.1 (Nat.le_of_ble_eq_true rfl) ⟨Nat.le_of_ble_eq_true rfl, Nat.le_of_ble_eq_true rfl⟩ ⟨Nat.le_of_ble_eq_true rfl, Nat.le_of_ble_eq_true rfl⟩ dX0_can_18 (fun H locs hO hS => ?_)
      refine lv_if_ge (tgt := 28) hx hb dX0_can_21 (by decide) (fun c6 => ?_) (fun c6 => ?_)
      · have h := it_t c6 h
        refine lv_lconst (v := 1) hx hb dX0_can_28 (by decide) ?_
        refine lv_lstore_n (lv' := [(3, .long 1), (0, .ref o), (1, .int x1), (2, .int x2)]) hx hb dX0_can_29 rfl hl (by decide) rfl (fun ls hl => ?_)
        refine lv_lconst (v := 1) hx hb dX0_can_30 (by decide) ?_
        refine lv_lstore (lv' := [(5, .long 1), (3, .long 1), (0, .ref o), (1, .int x1), (2, .int x2)]) hx hb dX0_can_31 hl (by decide) rfl (fun ls hl => ?_)
        refine lv_iconst (v := 0) hx hb dX0_can_33 (by decide) ?_
        refine lv_istore (lv' := [(7, .int 0), (5, .long 1), (3, .long 1), (0, .ref o), (1, .int x1), (2, .int x2)]) hx hb dX0_can_34 hl (by decide) rfl (fun ls hl => ?_)
        obtain ⟨k7, e26, h⟩ := pin_nm h
        have hk7 : ∀ (v8 : Int64) (v9 : Int64) (ls : Array Slot), k7 v8 v9 = some (r, zq) → lv_has ls 8 [(0, .ref o), (2, .int x2), (3, .long v8), (5, .long v9)] → W p l e ({ frames := 13, cells := 3, slots := 1010, locals := 11023 }) s m ([.ref o, .int x1, .int x2] : List Value).toArray below meth c H locs 3 1010 (MQ below (QG (some (.long r)) (OC D aC A o la zq) A) ([.ref o, .int x1, .int x2] : List Value).toArray s 3 1010 A) (F0 m 101 ls []) := by
          intro v8 v9 ls h hl
          rw [e26] at h
          refine lv_lload_n hx hb dX0_can_101 rfl (lv_at hl 2 rfl) ?_
          refine lv_lload_n hx hb dX0_can_102 rfl (lv_at hl 2 rfl) ?_
          refine lv_lload hx hb dX0_can_103 (lv_at hl 3 rfl) ?_
          refine lv_ladd hx hb dX0_can_105 ?_
          refine lv_iload_n hx hb dX0_can_106 rfl (lv_at hl 1 rfl) ?_
          obtain ⟨r10, e11, h⟩ := bn1_e h
          refine clX0_part hf hK hO hA hZ hS (metX0_part l D aC A o la v8 (v8 + v9) x2 z4 r10 e11) q986 hl.1 (Nat.le_of_ble_eq_true rfl) ⟨Nat.le_of_ble_eq_true rfl, Nat.le_of_ble_eq_true rfl⟩ ⟨Nat.le_of_ble_eq_true rfl, Nat.le_of_ble_eq_true rfl⟩ dX0_can_107 ?_
          obtain ⟨e8, rfl⟩ := Prod.mk.inj (Option.some.inj h)
          refine W.widen (k := 3) (n := 1010) (Nat.le_of_ble_eq_true rfl) (Nat.le_of_ble_eq_true rfl) ?_
          exact g_retGl hx hb hr hlocks e8 hO hS dX0_can_110
        have key25 : ∀ (f : Nat) (v3 : Int64) (v5 : Int64) (v7 : Int32) (ls : Array Slot), FX0_can_L36 k7 x2 z4 f v3 v5 v7 = some (r, zq) → lv_has ls 8 [(0, .ref o), (2, .int x2), (3, .long v3), (5, .long v5), (7, .int v7)] → W p l e ({ frames := 13, cells := 3, slots := 1010, locals := 11023 }) s m ([.ref o, .int x1, .int x2] : List Value).toArray below meth c H locs 3 1010 (MQ below (QG (some (.long r)) (OC D aC A o la zq) A) ([.ref o, .int x1, .int x2] : List Value).toArray s 3 1010 A) (F0 m 36 ls []) := by
          intro f
          induction f with
          | zero =>
            intro v3 v5 v7 ls h
            rw [FX0_can_L36] at h
            cases h
          | succ f ih12 =>
            intro v3 v5 v7 ls h hl
            rw [FX0_can_L36] at h
            refine lv_iload hx hb dX0_can_36 (lv_at hl 4 rfl) ?_
            refine lv_bipush (v := 30) hx hb dX0_can_38 (by decide) ?_
            refine lv_icmp_ge (tgt := 101) hx hb dX0_can_40 (by decide) (fun c13 => ?_) (fun c13 => ?_)
            · have h := it_t c13 h
              refine W.widen (k := 3) (n := 1010) (Nat.le_of_ble_eq_true rfl) (Nat.le_of_ble_eq_true rfl) ?_
              exact hk7 _ _ _ h (lv_sub hl [0, 1, 2, 3] rfl)
            · have h := it_f c13 h
              refine lv_iload hx hb dX0_can_43 (lv_at hl 4 rfl) ?_
              refine lv_aload_n hx hb dX0_can_45 rfl (lv_at hl 0 rfl) ?_
              refine X0_getF hx hb hts hown hK hO 23 (by decide) rfl (hts _ q189) dX0_can_46 ?_
              refine lv_icmp_ge (tgt := 101) hx hb dX0_can_49 (by decide) (fun c14 => ?_) (fun c14 => ?_)
              · have h := it_t c14 h
                refine W.widen (k := 3) (n := 1010) (Nat.le_of_ble_eq_true rfl) (Nat.le_of_ble_eq_true rfl) ?_
                exact hk7 _ _ _ h (lv_sub hl [0, 1, 2, 3] rfl)
              · have h := it_f c14 h
                refine lv_aload_n hx hb dX0_can_52 rfl (lv_at hl 0 rfl) ?_
                refine X0_getA hx hb hts hown hK hO 22 (by decide) (Or.inl rfl) (hts _ q188) dX0_can_53 ?_
                refine lv_iload hx hb dX0_can_56 (lv_at hl 4 rfl) ?_
                obtain ⟨g15, h⟩ := grd h
                refine X0_iaload hx hb hK hO 22 (by decide) rfl rfl g15 dX0_can_58 ?_
                refine lv_iconst (v := 0) hx hb dX0_can_59 (by decide) ?_
                refine lv_iconst (v := 1) hx hb dX0_can_60 (by decide) ?_
                refine clX0_in hf (metX0_in l (gI z4 22 v7) 0 1 _ rfl) q309 hl.1 (Nat.le_of_ble_eq_true rfl) ⟨Nat.le_of_ble_eq_true rfl, Nat.le_of_ble_eq_true rfl⟩ ⟨Nat.le_of_ble_eq_true rfl, Nat.le_of_ble_eq_true rfl⟩ dX0_can_61 ?_
                refine lv_if_eq (tgt := 101) hx hb dX0_can_64 (by decide) (fun c16 => ?_) (fun c16 => ?_)
                · have h := it_t c16 h
                  refine W.widen (k := 3) (n := 1010) (Nat.le_of_ble_eq_true rfl) (Nat.le_of_ble_eq_true rfl) ?_
                  exact hk7 _ _ _ h (lv_sub hl [0, 1, 2, 3] rfl)
                · have h := it_f c16 h
                  refine lv_aload_n hx hb dX0_can_67 rfl (lv_at hl 0 rfl) ?_
                  refine X0_getA hx hb hts hown hK hO 22 (by decide) (Or.inl rfl) (hts _ q188) dX0_can_68 ?_
                  refine lv_iload hx hb dX0_can_71 (lv_at hl 4 rfl) ?_
                  obtain ⟨g17, h⟩ := grd h
                  refine X0_iaload hx hb hK hO 22 (by decide) rfl rfl g17 dX0_can_73 ?_
                  refine lv_iconst (v := 1) hx hb dX0_can_74 (by decide) ?_
                  obtain ⟨k18, e24, h⟩ := pin_nm h
                  have hk18 : ∀ (v19 : Int64) (v20 : Int64) (ls : Array Slot), k18 v19 v20 = some (r, zq) → lv_has ls 8 [(0, .ref o), (2, .int x2), (3, .long v19), (5, .long v20), (7, .int v7)] → W p l e ({ frames := 13, cells := 3, slots := 1010, locals := 11023 }) s m ([.ref o, .int x1, .int x2] : List Value).toArray below meth c H locs 3 1010 (MQ below (QG (some (.long r)) (OC D aC A o la zq) A) ([.ref o, .int x1, .int x2] : List Value).toArray s 3 1010 A) (F0 m 95 ls []) := by
                    intro v19 v20 ls h hl
                    rw [e24] at h
                    refine lv_iinc (v := (v7 + 1)) (lv' := [(7, .int (v7 + 1)), (0, .ref o), (2, .int x2), (3, .long v19), (5, .long v20)]) hx hb dX0_can_95 hl (k := 4) rfl rfl (by decide) rfl (fun ls hl => ?_)
                    refine lv_goto (tgt := 36) hx hb dX0_can_98 (by decide) ?_
                    exact ih12 _ _ _ _ h (lv_sub hl [1, 2, 3, 4, 0] rfl)
                  refine lv_icmp_ne (tgt := 87) hx hb dX0_can_75 (by decide) (fun c21 => ?_) (fun c21 => ?_)
                  · have h := it_f c21 h
                    refine lv_lload hx hb dX0_can_87 (lv_at hl 3 rfl) ?_
                    refine lv_ldc2 (v := 3) hx hb hown (hts _ q985) dX0_can_89 ?_
                    refine lv_lmul hx hb dX0_can_92 ?_
                    refine lv_topl (fun y22 ey22 => ?_)
                    have h := pin_to ey22 h
                    refine lv_lstore (lv' := [(5, .long y22), (0, .ref o), (2, .int x2), (3, .long v3), (7, .int v7)]) hx hb dX0_can_93 hl (by decide) rfl (fun ls hl => ?_)
                    refine W.widen (k := 3) (n := 1010) (Nat.le_of_ble_eq_true rfl) (Nat.le_of_ble_eq_true rfl) ?_
                    exact hk18 _ _ _ h (lv_sub hl [1, 2, 3, 0, 4] rfl)
                  · have h := it_t c21 h
                    refine lv_lload_n hx hb dX0_can_78 rfl (lv_at hl 2 rfl) ?_
                    refine lv_ldc2 (v := 3) hx hb hown (hts _ q985) dX0_can_79 ?_
                    refine lv_lmul hx hb dX0_can_82 ?_
                    refine lv_topl (fun y23 ey23 => ?_)
                    have h := pin_to ey23 h
                    refine lv_lstore_n (lv' := [(3, .long y23), (0, .ref o), (2, .int x2), (5, .long v5), (7, .int v7)]) hx hb dX0_can_83 rfl hl (by decide) rfl (fun ls hl => ?_)
                    refine lv_goto (tgt := 95) hx hb dX0_can_84 (by decide) ?_
                    refine W.widen (k := 3) (n := 1010) (Nat.le_of_ble_eq_true rfl) (Nat.le_of_ble_eq_true rfl) ?_
                    exact hk18 _ _ _ h (lv_sub hl [1, 2, 0, 3, 4] rfl)
        exact key25 FU _ _ _ _ h (lv_sub hl [3, 5, 2, 1, 0] rfl)
      · have h := it_f c6 h
        refine lv_ldc2 (v := (-9223372036854775808)) hx hb hown (hts _ q984) dX0_can_24 ?_
        obtain ⟨e8, rfl⟩ := Prod.mk.inj (Option.some.inj h)
        refine W.widen (k := 3) (n := 1010) (Nat.le_of_ble_eq_true rfl) (Nat.le_of_ble_eq_true rfl) ?_
        exact g_retGl hx hb hr hlocks e8 hO hS dX0_can_27
theorem clX0_can {p : Program} {l : Launch} {e : Env} {R : Room} {s : State} {m : MethodId} {args : Array Value} {below : List Frame} {meth : Method} {c : Code} {H : Heap} {locs : List Loc} {cells slots : Nat} {Q : State → Prop} {cc : ByteArray} {pc nL idx fr lo : Nat} {ls : Array Slot} {rest : List Value} {own : String} {D : va_G} {aC : Nat → ClassId} {A : Nat → Prop} {o : Nat} {la : LC} {z : GS} {zq : GS} {x1 : Int32} {x2 : Int32} {r : Int64} (hf : CallFix p m c cc nL s args lw_all own) (hK : KC D aC s) (hO : OC D aC A o la z H) (hA : ∀ q : Nat, s.heap.size ≤ q → A q) (hZ : ZX A s s.heap) (hS : va_S A s.heap H locs) (hM : Met l yX0_can (ws_ yX0_can cX0_can 8 (some .long)) ({ frames := fr, cells := 3, slots := 1010, locals := lo }) (va_Pc [.ref o, .int x1, .int x2] (PC D aC A o la z)) (QG (some (.long r)) (OC D aC A o la zq) A) 3 1010 A) (hq : Cond.methodLink own idx yX0_can ∈ lw_all) (hs : ls.size = nL) (hr : (rest.map fun v => v.category).sum ≤ 8) (hR : fr + 1 ≤ R.frames ∧ 8 + (8 + 11) + lo ≤ R.locals) (hcs : cells + 3 ≤ R.cells ∧ slots + 1010 ≤ R.slots) (hd : decode cc pc = .ok (.invokevirtual idx, 3)) (kk : ∀ (H1 : Heap) (locs1 : List Loc), OC D aC A o la zq H1 → va_S A s.heap H1 locs1 → W p l e R s m args below meth c H1 locs1 (cells + 3) (slots + 1010) Q (F0 m (pc + 3) ls (.long r :: rest))) : W p l e R s m args below meth c H locs cells slots Q (F0 m pc ls (.int x2 :: .int x1 :: .ref o :: rest)) :=
  g_callG (W.runV (As := [.int x1, .int x2]) (rest := rest) hf hM (cwV 2 hf.2.2.2.2 (lw_V hq q981 q982 q90 q983) rfl rfl rfl (by decide +kernel) hR) ⟨PC.blind, OC.recv hK hO, fun U hU hW => ⟨rfl, PC.at hO hK hA hZ hS hU hW⟩⟩ rfl rfl hs rfl (lv_room hr) hd hcs) hS (fun H1 locs1 hP hS _ _ => kk H1 locs1 hP hS)
theorem metX0_caresAlone (l : Launch) (D : va_G) (aC : Nat → ClassId) (A : Nat → Prop) (o : Nat) (la : LC) (x1 : Int32) (z : GS) (r : Int32) (h : FX0_caresAlone x1 z = some r) : Met l yX0_caresAlone (ws_ yX0_caresAlone cX0_caresAlone 2 (some .boolean)) ({ frames := 0, cells := 0, slots := 0, locals := 0 }) (va_Pc [.ref o, .int x1] (PC D aC A o la z)) (QR (some (.int r))) 0 0 (fun _ => False) := by
  refine g_ofW (cc := cX0_caresAlone) (maxL := 2) (ret := (some .boolean)) (own := RX0) (by decide) rfl rfl [.ref o, .int x1] (PC D aC A o la z) (Nat.le_of_ble_eq_true rfl) ?_
  intro p e s m below meth c ls hx hb hr hml hts hown hlocks hnm hPre hl
  obtain ⟨hO, hK, hA, hZ⟩ := hPre
  have hf : CallFix p m c cX0_caresAlone 2 s _ lw_all RX0 := ⟨hx, hb, hml, hown, hts⟩
  have hl : lv_has ls 2 [(0, .ref o), (1, .int x1)] := hl
  have hS : va_S A s.heap s.heap [] := va_S.rf
  unfold FX0_caresAlone at h
  refine lv_aload_n hx hb dX0_caresAlone_0 rfl (lv_at hl 0 rfl) ?_
  refine X0_getA hx hb hts hown hK hO 0 (by decide) (Or.inl rfl) (hts _ q164) dX0_caresAlone_1 ?_
  refine lv_iload_n hx hb dX0_caresAlone_4 rfl (lv_at hl 1 rfl) ?_
  obtain ⟨g1, h⟩ := grd h
  refine X0_paald hx hb hK hO g1 dX0_caresAlone_5 ?_
  refine X0_getP hx hb hts hown hK hO g1 4 (by decide) (hK.nw q330 rfl) dX0_caresAlone_6 ?_
  refine lv_if_lt (tgt := 34) hx hb dX0_caresAlone_9 (by decide) (fun c2 => ?_) (fun c2 => ?_)
  · have h := it_t c2 h
    refine lv_iconst (v := 0) hx hb dX0_caresAlone_34 (by decide) ?_
    exact g_retRz hx hb hr hlocks (Or.inl rfl) (Option.some.inj h) dX0_caresAlone_35
  · have h := it_f c2 h
    refine lv_aload_n hx hb dX0_caresAlone_12 rfl (lv_at hl 0 rfl) ?_
    refine X0_getA hx hb hts hown hK hO 14 (by decide) (Or.inl rfl) (hts _ q180) dX0_caresAlone_13 ?_
    refine lv_aload_n hx hb dX0_caresAlone_16 rfl (lv_at hl 0 rfl) ?_
    refine X0_getA hx hb hts hown hK hO 0 (by decide) (Or.inl rfl) (hts _ q164) dX0_caresAlone_17 ?_
    refine lv_iload_n hx hb dX0_caresAlone_20 rfl (lv_at hl 1 rfl) ?_
    refine X0_paald hx hb hK hO g1 dX0_caresAlone_21 ?_
    refine X0_getP hx hb hts hown hK hO g1 4 (by decide) (hK.nw q330 rfl) dX0_caresAlone_22 ?_
    obtain ⟨g3, h⟩ := grd h
    refine X0_iaload hx hb hK hO 14 (by decide) rfl rfl g3 dX0_caresAlone_25 ?_
    refine lv_iconst (v := 1) hx hb dX0_caresAlone_26 (by decide) ?_
    refine lv_icmp_ne (tgt := 34) hx hb dX0_caresAlone_27 (by decide) (fun c4 => ?_) (fun c4 => ?_)
    · have h := it_f c4 h
      refine lv_iconst (v := 0) hx hb dX0_caresAlone_34 (by decide) ?_
      exact g_retRz hx hb hr hlocks (Or.inl rfl) (Option.some.inj h) dX0_caresAlone_35
    · have h := it_t c4 h
      refine lv_iconst (v := 1) hx hb dX0_caresAlone_30 (by decide) ?_
      refine lv_goto (tgt := 35) hx hb dX0_caresAlone_31 (by decide) ?_
      exact g_retRz hx hb hr hlocks (Or.inr rfl) (Option.some.inj h) dX0_caresAlone_35
theorem clX0_caresAlone {p : Program} {l : Launch} {e : Env} {R : Room} {s : State} {m : MethodId} {args : Array Value} {below : List Frame} {meth : Method} {c : Code} {H : Heap} {locs : List Loc} {cells slots : Nat} {Q : State → Prop} {cc : ByteArray} {pc nL idx fr lo : Nat} {ls : Array Slot} {rest : List Value} {own : String} {D : va_G} {aC : Nat → ClassId} {A : Nat → Prop} {o : Nat} {la : LC} {z : GS} {x1 : Int32} {r : Int32} (hf : CallFix p m c cc nL s args lw_all own) (hK : KC D aC s) (hO : OC D aC A o la z H) (hA : ∀ q : Nat, s.heap.size ≤ q → A q) (hZ : ZX A s s.heap) (hS : va_S A s.heap H locs) (hM : Met l yX0_caresAlone (ws_ yX0_caresAlone cX0_caresAlone 2 (some .boolean)) ({ frames := fr, cells := 0, slots := 0, locals := lo }) (va_Pc [.ref o, .int x1] (PC D aC A o la z)) (QR (some (.int r))) 0 0 (fun _ => False)) (hq : Cond.methodLink own idx yX0_caresAlone ∈ lw_all) (hs : ls.size = nL) (hr : (rest.map fun v => v.category).sum ≤ 8) (hR : fr + 1 ≤ R.frames ∧ 8 + (2 + 11) + lo ≤ R.locals) (hcs : cells + 0 ≤ R.cells ∧ slots + 0 ≤ R.slots) (hd : decode cc pc = .ok (.invokevirtual idx, 3)) (kk : W p l e R s m args below meth c H locs cells slots Q (F0 m (pc + 3) ls (.int r :: rest))) : W p l e R s m args below meth c H locs cells slots Q (F0 m pc ls (.int x1 :: .ref o :: rest)) :=
  g_callR (W.runV (As := [.int x1]) (rest := rest) hf hM (cwV 1 hf.2.2.2.2 (lw_V hq q995 qs41 q90 q996) rfl rfl rfl (by decide +kernel) hR) ⟨PC.blind, OC.recv hK hO, fun U hU hW => ⟨rfl, PC.at hO hK hA hZ hS hU hW⟩⟩ rfl rfl hs rfl (lv_room hr) hd hcs) kk
theorem metX0_paid (l : Launch) (D : va_G) (aC : Nat → ClassId) (A : Nat → Prop) (o : Nat) (la : LC) (x1 : Int32) (x2 : Int32) (z : GS) (r : Int32) (zq : GS) (h : FX0_paid x1 x2 z = some (r, zq)) : Met l yX0_paid (ws_ yX0_paid cX0_paid 5 (some .int)) ({ frames := 2, cells := 0, slots := 0, locals := 43 }) (va_Pc [.ref o, .int x1, .int x2] (PC D aC A o la z)) (QG (some (.int r)) (OC D aC A o la zq) A) 0 0 A := by
  refine g_ofW (cc := cX0_paid) (maxL := 5) (ret := (some .int)) (own := RX0) (by decide) rfl rfl [.ref o, .int x1, .int x2] (PC D aC A o la z) (Nat.le_of_ble_eq_true rfl) ?_
  intro p e s m below meth c ls hx hb hr hml hts hown hlocks hnm hPre hl
  obtain ⟨hO, hK, hA, hZ⟩ := hPre
  have hf : CallFix p m c cX0_paid 5 s _ lw_all RX0 := ⟨hx, hb, hml, hown, hts⟩
  have hl : lv_has ls 5 [(0, .ref o), (1, .int x1), (2, .int x2)] := hl
  refine g_open (A := A) (OC D aC A o la z) hO (fun H locs hO hS => ?_)
  unfold FX0_paid at h
  refine lv_aload_n hx hb dX0_paid_0 rfl (lv_at hl 0 rfl) ?_
  refine lv_iload_n hx hb dX0_paid_1 rfl (lv_at hl 1 rfl) ?_
  refine clX0_isPerson hf hK hO hA hZ hS (metX0_isPerson l D aC A o la x1 z _ rfl) q502 hl.1 (Nat.le_of_ble_eq_true rfl) ⟨Nat.le_of_ble_eq_true rfl, Nat.le_of_ble_eq_true rfl⟩ ⟨Nat.le_of_ble_eq_true rfl, Nat.le_of_ble_eq_true rfl⟩ dX0_paid_2 ?_
  refine lv_if_eq (tgt := 19) hx hb dX0_paid_5 (by decide) (fun c1 => ?_) (fun c1 => ?_)
  · have h := it_t c1 h
    refine lv_iconst (v := (-1)) hx hb dX0_paid_19 (by decide) ?_
    obtain ⟨e8, rfl⟩ := Prod.mk.inj (Option.some.inj h)
    exact g_retG hx hb hr hlocks e8 hO hS dX0_paid_20
  · have h := it_f c1 h
    refine lv_iload_n hx hb dX0_paid_8 rfl (lv_at hl 2 rfl) ?_
    refine lv_iconst (v := 0) hx hb dX0_paid_9 (by decide) ?_
    refine lv_sipush (v := 9999) hx hb dX0_paid_10 (by decide) ?_
    refine clX0_in hf (metX0_in l x2 0 9999 _ rfl) q309 hl.1 (Nat.le_of_ble_eq_true rfl) ⟨Nat.le_of_ble_eq_true rfl, Nat.le_of_ble_eq_true rfl⟩ ⟨Nat.le_of_ble_eq_true rfl, Nat.le_of_ble_eq_true rfl⟩ dX0_paid_13 ?_
    refine lv_if_ne (tgt := 21) hx hb dX0_paid_16 (by decide) (fun c2 => ?_) (fun c2 => ?_)
    · have h := it_f c2 h
      refine lv_aload_n hx hb dX0_paid_21 rfl (lv_at hl 0 rfl) ?_
      obtain ⟨z3, e4, h⟩ := bn1_e h
      refine clX0_layNow hf hK hO hA hZ hS (metX0_layNow l D aC A o la z z3 e4) q802 hl.1 (Nat.le_of_ble_eq_true rfl) ⟨Nat.le_of_ble_eq_true rfl, Nat.le_of_ble_eq_true rfl⟩ ⟨Nat.le_of_ble_eq_true rfl, Nat.le_of_ble_eq_true rfl⟩ dX0_paid_22 (fun H locs hO hS => ?_)
      refine lv_aload_n hx hb dX0_paid_25 rfl (lv_at hl 0 rfl) ?_
      obtain ⟨z5, e6, h⟩ := bn1_e h
      refine clX0_countCarers hf hK hO hA hZ hS (metX0_countCarers l D aC A o la z3 z5 e6) q806 hl.1 (Nat.le_of_ble_eq_true rfl) ⟨Nat.le_of_ble_eq_true rfl, Nat.le_of_ble_eq_true rfl⟩ ⟨Nat.le_of_ble_eq_true rfl, Nat.le_of_ble_eq_true rfl⟩ dX0_paid_26 (fun H locs hO hS => ?_)
      refine lv_iconst (v := 0) hx hb dX0_paid_29 (by decide) ?_
      refine lv_istore_n (lv' := [(3, .int 0), (0, .ref o), (1, .int x1), (2, .int x2)]) hx hb dX0_paid_30 rfl hl (by decide) rfl (fun ls hl => ?_)
      refine lv_iconst (v := 0) hx hb dX0_paid_31 (by decide) ?_
      refine lv_istore (lv' := [(4, .int 0), (3, .int 0), (0, .ref o), (1, .int x1), (2, .int x2)]) hx hb dX0_paid_32 hl (by decide) rfl (fun ls hl => ?_)
      obtain ⟨k7, e28, h⟩ := pin_nm h
      have hk7 : ∀ (v8 : Int32) (ls : Array Slot), k7 v8 = some (r, zq) → lv_has ls 5 [(0, .ref o), (1, .int x1), (2, .int x2), (3, .int v8)] → W p l e ({ frames := 2, cells := 0, slots := 0, locals := 43 }) s m ([.ref o, .int x1, .int x2] : List Value).toArray below meth c H locs 0 0 (MQ below (QG (some (.int r)) (OC D aC A o la zq) A) ([.ref o, .int x1, .int x2] : List Value).toArray s 0 0 A) (F0 m 75 ls []) := by
        intro v8 ls h hl
        rw [e28] at h
        refine lv_iload_n hx hb dX0_paid_75 rfl (lv_at hl 3 rfl) ?_
        obtain ⟨k9, e16, h⟩ := pin_nm h
        have hk9 : ∀  (ls : Array Slot), k9  = some (r, zq) → lv_has ls 5 [(0, .ref o)] → W p l e ({ frames := 2, cells := 0, slots := 0, locals := 43 }) s m ([.ref o, .int x1, .int x2] : List Value).toArray below meth c H locs 0 0 (MQ below (QG (some (.int r)) (OC D aC A o la zq) A) ([.ref o, .int x1, .int x2] : List Value).toArray s 0 0 A) (F0 m 87 ls []) := by
          intro  ls h hl
          rw [e16] at h
          refine lv_iconst (v := 0) hx hb dX0_paid_87 (by decide) ?_
          refine lv_goto (tgt := 104) hx hb dX0_paid_88 (by decide) ?_
          obtain ⟨e8, rfl⟩ := Prod.mk.inj (Option.some.inj h)
          exact g_retG hx hb hr hlocks e8 hO hS dX0_paid_104
        refine lv_if_eq (tgt := 87) hx hb dX0_paid_76 (by decide) (fun c10 => ?_) (fun c10 => ?_)
        · have h := it_t c10 h
          exact hk9 _ h (lv_sub hl [0] rfl)
        · have h := it_f c10 h
          refine lv_aload_n hx hb dX0_paid_79 rfl (lv_at hl 0 rfl) ?_
          refine lv_iload_n hx hb dX0_paid_80 rfl (lv_at hl 1 rfl) ?_
          obtain ⟨r11, e12, h⟩ := bn1_e h
          refine clX0_caresAlone hf hK hO hA hZ hS (metX0_caresAlone l D aC A o la x1 z5 r11 e12) q993 hl.1 (Nat.le_of_ble_eq_true rfl) ⟨Nat.le_of_ble_eq_true rfl, Nat.le_of_ble_eq_true rfl⟩ ⟨Nat.le_of_ble_eq_true rfl, Nat.le_of_ble_eq_true rfl⟩ dX0_paid_81 ?_
          refine lv_if_ne (tgt := 91) hx hb dX0_paid_84 (by decide) (fun c13 => ?_) (fun c13 => ?_)
          · have h := it_f c13 h
            refine lv_iload_n hx hb dX0_paid_91 rfl (lv_at hl 2 rfl) ?_
            refine lv_aload_n hx hb dX0_paid_92 rfl (lv_at hl 0 rfl) ?_
            refine X0_getA hx hb hts hown hK hO 0 (by decide) (Or.inl rfl) (hts _ q164) dX0_paid_93 ?_
            refine lv_iload_n hx hb dX0_paid_96 rfl (lv_at hl 1 rfl) ?_
            obtain ⟨g14, h⟩ := grd h
            refine X0_paald hx hb hK hO g14 dX0_paid_97 ?_
            refine X0_getP hx hb hts hown hK hO g14 1 (by decide) (hK.nw q324 rfl) dX0_paid_98 ?_
            refine lv_imul hx hb dX0_paid_101 ?_
            refine lv_iload_n hx hb dX0_paid_102 rfl (lv_at hl 3 rfl) ?_
            obtain ⟨g15, h⟩ := grd h
            refine lv_idiv hx hb dX0_paid_103 g15 ?_
            obtain ⟨e8, rfl⟩ := Prod.mk.inj (Option.some.inj h)
            exact g_retG hx hb hr hlocks e8 hO hS dX0_paid_104
          · have h := it_t c13 h
            exact hk9 _ h (lv_sub hl [0] rfl)
      have key27 : ∀ (f : Nat) (v3 : Int32) (v4 : Int32) (ls : Array Slot), FX0_paid_L34 k7 x1 x2 z5 f v3 v4 = some (r, zq) → lv_has ls 5 [(0, .ref o), (1, .int x1), (2, .int x2), (3, .int v3), (4, .int v4)] → W p l e ({ frames := 2, cells := 0, slots := 0, locals := 43 }) s m ([.ref o, .int x1, .int x2] : List Value).toArray below meth c H locs 0 0 (MQ below (QG (some (.int r)) (OC D aC A o la zq) A) ([.ref o, .int x1, .int x2] : List Value).toArray s 0 0 A) (F0 m 34 ls []) := by
        intro f
        induction f with
        | zero =>
          intro v3 v4 ls h
          rw [FX0_paid_L34] at h
          cases h
        | succ f ih17 =>
          intro v3 v4 ls h hl
          rw [FX0_paid_L34] at h
          refine lv_iload hx hb dX0_paid_34 (lv_at hl 4 rfl) ?_
          refine lv_aload_n hx hb dX0_paid_36 rfl (lv_at hl 0 rfl) ?_
          refine X0_getF hx hb hts hown hK hO 1 (by decide) rfl (hts _ q165) dX0_paid_37 ?_
          refine lv_icmp_ge (tgt := 75) hx hb dX0_paid_40 (by decide) (fun c18 => ?_) (fun c18 => ?_)
          · have h := it_t c18 h
            exact hk7 _ _ h (lv_sub hl [0, 1, 2, 3] rfl)
          · have h := it_f c18 h
            refine lv_iload_n hx hb dX0_paid_43 rfl (lv_at hl 3 rfl) ?_
            refine lv_aload_n hx hb dX0_paid_44 rfl (lv_at hl 0 rfl) ?_
            refine lv_iload hx hb dX0_paid_45 (lv_at hl 4 rfl) ?_
            obtain ⟨r19, e20, h⟩ := bn1_e h
            refine clX0_caresAlone hf hK hO hA hZ hS (metX0_caresAlone l D aC A o la v4 z5 r19 e20) q993 hl.1 (Nat.le_of_ble_eq_true rfl) ⟨Nat.le_of_ble_eq_true rfl, Nat.le_of_ble_eq_true rfl⟩ ⟨Nat.le_of_ble_eq_true rfl, Nat.le_of_ble_eq_true rfl⟩ dX0_paid_47 ?_
            obtain ⟨k21, e26, h⟩ := pin_nm h
            have hk21 : ∀ (u22 : Int32) (ls : Array Slot), k21 u22 = some (r, zq) → lv_has ls 5 [(0, .ref o), (1, .int x1), (2, .int x2), (4, .int v4)] → W p l e ({ frames := 2, cells := 0, slots := 0, locals := 43 }) s m ([.ref o, .int x1, .int x2] : List Value).toArray below meth c H locs 0 0 (MQ below (QG (some (.int r)) (OC D aC A o la zq) A) ([.ref o, .int x1, .int x2] : List Value).toArray s 0 0 A) (F0 m 67 ls [.int u22, .int v3]) := by
              intro u22 ls h hl
              rw [e26] at h
              refine lv_iadd hx hb dX0_paid_67 ?_
              refine lv_topi (fun y23 ey23 => ?_)
              have h := pin_to ey23 h
              refine lv_istore_n (lv' := [(3, .int y23), (0, .ref o), (1, .int x1), (2, .int x2), (4, .int v4)]) hx hb dX0_paid_68 rfl hl (by decide) rfl (fun ls hl => ?_)
              refine lv_iinc (v := (v4 + 1)) (lv' := [(4, .int (v4 + 1)), (3, .int y23), (0, .ref o), (1, .int x1), (2, .int x2)]) hx hb dX0_paid_69 hl (k := 4) rfl rfl (by decide) rfl (fun ls hl => ?_)
              refine lv_goto (tgt := 34) hx hb dX0_paid_72 (by decide) ?_
              exact ih17 _ _ _ h (lv_sub hl [2, 3, 4, 1, 0] rfl)
            refine lv_if_eq (tgt := 66) hx hb dX0_paid_50 (by decide) (fun c24 => ?_) (fun c24 => ?_)
            · have h := it_t c24 h
              refine lv_iconst (v := 0) hx hb dX0_paid_66 (by decide) ?_
              exact hk21 _ _ h (lv_sub hl [0, 1, 2, 4] rfl)
            · have h := it_f c24 h
              refine lv_aload_n hx hb dX0_paid_53 rfl (lv_at hl 0 rfl) ?_
              refine X0_getA hx hb hts hown hK hO 0 (by decide) (Or.inl rfl) (hts _ q164) dX0_paid_54 ?_
              refine lv_iload hx hb dX0_paid_57 (lv_at hl 4 rfl) ?_
              obtain ⟨g25, h⟩ := grd h
              refine X0_paald hx hb hK hO g25 dX0_paid_59 ?_
              refine X0_getP hx hb hts hown hK hO g25 1 (by decide) (hK.nw q324 rfl) dX0_paid_60 ?_
              refine lv_goto (tgt := 67) hx hb dX0_paid_63 (by decide) ?_
              exact hk21 _ _ h (lv_sub hl [0, 1, 2, 4] rfl)
      exact key27 FU _ _ _ h (lv_sub hl [2, 3, 4, 1, 0] rfl)
    · have h := it_t c2 h
      refine lv_iconst (v := (-1)) hx hb dX0_paid_19 (by decide) ?_
      obtain ⟨e8, rfl⟩ := Prod.mk.inj (Option.some.inj h)
      exact g_retG hx hb hr hlocks e8 hO hS dX0_paid_20
theorem clX0_paid {p : Program} {l : Launch} {e : Env} {R : Room} {s : State} {m : MethodId} {args : Array Value} {below : List Frame} {meth : Method} {c : Code} {H : Heap} {locs : List Loc} {cells slots : Nat} {Q : State → Prop} {cc : ByteArray} {pc nL idx fr lo : Nat} {ls : Array Slot} {rest : List Value} {own : String} {D : va_G} {aC : Nat → ClassId} {A : Nat → Prop} {o : Nat} {la : LC} {z : GS} {zq : GS} {x1 : Int32} {x2 : Int32} {r : Int32} (hf : CallFix p m c cc nL s args lw_all own) (hK : KC D aC s) (hO : OC D aC A o la z H) (hA : ∀ q : Nat, s.heap.size ≤ q → A q) (hZ : ZX A s s.heap) (hS : va_S A s.heap H locs) (hM : Met l yX0_paid (ws_ yX0_paid cX0_paid 5 (some .int)) ({ frames := fr, cells := 0, slots := 0, locals := lo }) (va_Pc [.ref o, .int x1, .int x2] (PC D aC A o la z)) (QG (some (.int r)) (OC D aC A o la zq) A) 0 0 A) (hq : Cond.methodLink own idx yX0_paid ∈ lw_all) (hs : ls.size = nL) (hr : (rest.map fun v => v.category).sum ≤ 8) (hR : fr + 1 ≤ R.frames ∧ 8 + (5 + 11) + lo ≤ R.locals) (hcs : cells + 0 ≤ R.cells ∧ slots + 0 ≤ R.slots) (hd : decode cc pc = .ok (.invokevirtual idx, 3)) (kk : ∀ (H1 : Heap) (locs1 : List Loc), OC D aC A o la zq H1 → va_S A s.heap H1 locs1 → W p l e R s m args below meth c H1 locs1 cells slots Q (F0 m (pc + 3) ls (.int r :: rest))) : W p l e R s m args below meth c H locs cells slots Q (F0 m pc ls (.int x2 :: .int x1 :: .ref o :: rest)) :=
  g_callG (W.runV (As := [.int x1, .int x2]) (rest := rest) hf hM (cwV 2 hf.2.2.2.2 (lw_V hq q990 q991 q90 q992) rfl rfl rfl (by decide +kernel) hR) ⟨PC.blind, OC.recv hK hO, fun U hU hW => ⟨rfl, PC.at hO hK hA hZ hS hU hW⟩⟩ rfl rfl hs rfl (lv_room hr) hd hcs) hS (fun H1 locs1 hP hS _ _ => kk H1 locs1 hP hS)
theorem metX0_nextWhom (l : Launch) (D : va_G) (aC : Nat → ClassId) (A : Nat → Prop) (o : Nat) (la : LC) (x1 : Int32) (z : GS) (r : Int32) (h : FX0_nextWhom x1 z = some r) : Met l yX0_nextWhom (ws_ yX0_nextWhom cX0_nextWhom 3 (some .int)) ({ frames := 0, cells := 0, slots := 0, locals := 0 }) (va_Pc [.ref o, .int x1] (PC D aC A o la z)) (QR (some (.int r))) 0 0 (fun _ => False) := by
  refine g_ofW (cc := cX0_nextWhom) (maxL := 3) (ret := (some .int)) (own := RX0) (by decide) rfl rfl [.ref o, .int x1] (PC D aC A o la z) (Nat.le_of_ble_eq_true rfl) ?_
  intro p e s m below meth c ls hx hb hr hml hts hown hlocks hnm hPre hl
  obtain ⟨hO, hK, hA, hZ⟩ := hPre
  have hf : CallFix p m c cX0_nextWhom 3 s _ lw_all RX0 := ⟨hx, hb, hml, hown, hts⟩
  have hl : lv_has ls 3 [(0, .ref o), (1, .int x1)] := hl
  have hS : va_S A s.heap s.heap [] := va_S.rf
  unfold FX0_nextWhom at h
  refine lv_aload_n hx hb dX0_nextWhom_0 rfl (lv_at hl 0 rfl) ?_
  refine X0_getA hx hb hts hown hK hO 0 (by decide) (Or.inl rfl) (hts _ q164) dX0_nextWhom_1 ?_
  refine lv_iload_n hx hb dX0_nextWhom_4 rfl (lv_at hl 1 rfl) ?_
  obtain ⟨g1, h⟩ := grd h
  refine X0_paald hx hb hK hO g1 dX0_nextWhom_5 ?_
  refine X0_getP hx hb hts hown hK hO g1 4 (by decide) (hK.nw q330 rfl) dX0_nextWhom_6 ?_
  refine lv_iconst (v := 1) hx hb dX0_nextWhom_9 (by decide) ?_
  refine lv_iadd hx hb dX0_nextWhom_10 ?_
  refine lv_aload_n hx hb dX0_nextWhom_11 rfl (lv_at hl 0 rfl) ?_
  refine X0_getF hx hb hts hown hK hO 1 (by decide) rfl (hts _ q165) dX0_nextWhom_12 ?_
  obtain ⟨g2, h⟩ := grd h
  refine g_irem hx hb dX0_nextWhom_15 g2 ?_
  refine lv_topi (fun y3 ey3 => ?_)
  have h := pin_to ey3 h
  refine lv_istore_n (lv' := [(2, .int y3), (0, .ref o), (1, .int x1)]) hx hb dX0_nextWhom_16 rfl hl (by decide) rfl (fun ls hl => ?_)
  refine lv_iload_n hx hb dX0_nextWhom_17 rfl (lv_at hl 0 rfl) ?_
  refine lv_iload_n hx hb dX0_nextWhom_18 rfl (lv_at hl 2 rfl) ?_
  obtain ⟨k4, e10, h⟩ := pin_nm h
  have hk4 : ∀ (v5 : Int32) (ls : Array Slot), k4 v5 = some r → lv_has ls 3 [(0, .ref o), (1, .int x1), (2, .int v5)] → W p l e ({ frames := 0, cells := 0, slots := 0, locals := 0 }) s m ([.ref o, .int x1] : List Value).toArray below meth c s.heap [] 0 0 (MQ below (QR (some (.int r))) ([.ref o, .int x1] : List Value).toArray s 0 0 (fun _ => False)) (F0 m 31 ls []) := by
    intro v5 ls h hl
    rw [e10] at h
    refine lv_iload_n hx hb dX0_nextWhom_31 rfl (lv_at hl 2 rfl) ?_
    refine lv_iload_n hx hb dX0_nextWhom_32 rfl (lv_at hl 1 rfl) ?_
    refine lv_icmp_ne (tgt := 40) hx hb dX0_nextWhom_33 (by decide) (fun c6 => ?_) (fun c6 => ?_)
    · have h := it_f c6 h
      refine lv_iload_n hx hb dX0_nextWhom_40 rfl (lv_at hl 2 rfl) ?_
      exact g_retR hx hb hr hlocks (Option.some.inj h) dX0_nextWhom_41
    · have h := it_t c6 h
      refine lv_iconst (v := (-1)) hx hb dX0_nextWhom_36 (by decide) ?_
      refine lv_goto (tgt := 41) hx hb dX0_nextWhom_37 (by decide) ?_
      exact g_retR hx hb hr hlocks (Option.some.inj h) dX0_nextWhom_41
  refine lv_icmp_ne (tgt := 31) hx hb dX0_nextWhom_19 (by decide) (fun c7 => ?_) (fun c7 => ?_)
  · have h := it_f c7 h
    exact hk4 _ _ h (lv_sub hl [1, 2, 0] rfl)
  · have h := it_t c7 h
    refine lv_iload_n hx hb dX0_nextWhom_22 rfl (lv_at hl 0 rfl) ?_
    refine lv_iconst (v := 1) hx hb dX0_nextWhom_23 (by decide) ?_
    refine lv_iadd hx hb dX0_nextWhom_24 ?_
    refine lv_aload_n hx hb dX0_nextWhom_25 rfl (lv_at hl 1 rfl) ?_
    refine X0_getF hx hb hts hown hK hO 1 (by decide) rfl (hts _ q165) dX0_nextWhom_26 ?_
    obtain ⟨g8, h⟩ := grd h
    refine g_irem hx hb dX0_nextWhom_29 g8 ?_
    refine lv_topi (fun y9 ey9 => ?_)
    have h := pin_to ey9 h
    refine lv_istore_n (lv' := [(2, .int y9), (0, .ref o), (1, .int x1)]) hx hb dX0_nextWhom_30 rfl hl (by decide) rfl (fun ls hl => ?_)
    exact hk4 _ _ h (lv_sub hl [1, 2, 0] rfl)
theorem clX0_nextWhom {p : Program} {l : Launch} {e : Env} {R : Room} {s : State} {m : MethodId} {args : Array Value} {below : List Frame} {meth : Method} {c : Code} {H : Heap} {locs : List Loc} {cells slots : Nat} {Q : State → Prop} {cc : ByteArray} {pc nL idx fr lo : Nat} {ls : Array Slot} {rest : List Value} {own : String} {D : va_G} {aC : Nat → ClassId} {A : Nat → Prop} {o : Nat} {la : LC} {z : GS} {x1 : Int32} {r : Int32} (hf : CallFix p m c cc nL s args lw_all own) (hK : KC D aC s) (hO : OC D aC A o la z H) (hA : ∀ q : Nat, s.heap.size ≤ q → A q) (hZ : ZX A s s.heap) (hS : va_S A s.heap H locs) (hM : Met l yX0_nextWhom (ws_ yX0_nextWhom cX0_nextWhom 3 (some .int)) ({ frames := fr, cells := 0, slots := 0, locals := lo }) (va_Pc [.ref o, .int x1] (PC D aC A o la z)) (QR (some (.int r))) 0 0 (fun _ => False)) (hq : Cond.methodLink own idx yX0_nextWhom ∈ lw_all) (hs : ls.size = nL) (hr : (rest.map fun v => v.category).sum ≤ 8) (hR : fr + 1 ≤ R.frames ∧ 8 + (3 + 11) + lo ≤ R.locals) (hcs : cells + 0 ≤ R.cells ∧ slots + 0 ≤ R.slots) (hd : decode cc pc = .ok (.invokevirtual idx, 3)) (kk : W p l e R s m args below meth c H locs cells slots Q (F0 m (pc + 3) ls (.int r :: rest))) : W p l e R s m args below meth c H locs cells slots Q (F0 m pc ls (.int x1 :: .ref o :: rest)) :=
  g_callR (W.runV (As := [.int x1]) (rest := rest) hf hM (cwV 1 hf.2.2.2.2 (lw_V hq q1015 qs45 q90 q1016) rfl rfl rfl (by decide +kernel) hR) ⟨PC.blind, OC.recv hK hO, fun U hU hW => ⟨rfl, PC.at hO hK hA hZ hS hU hW⟩⟩ rfl rfl hs rfl (lv_room hr) hd hcs) kk
theorem metX0_endsBy (l : Launch) (D : va_G) (aC : Nat → ClassId) (A : Nat → Prop) (o : Nat) (la : LC)  (z : GS) (r : Int32) (zq : GS) (h : FX0_endsBy z = some (r, zq)) : Met l yX0_endsBy (ws_ yX0_endsBy cX0_endsBy 1 (some .int)) ({ frames := 204, cells := 0, slots := 0, locals := 20089 }) (va_Pc [.ref o] (PC D aC A o la z)) (QG (some (.int r)) (OC D aC A o la zq) A) 0 0 A := by
  refine g_ofW (cc := cX0_endsBy) (maxL := 1) (ret := (some .int)) (own := RX0) (by decide) rfl rfl [.ref o] (PC D aC A o la z) (Nat.le_of_ble_eq_true rfl) ?_
  intro p e s m below meth c ls hx hb hr hml hts hown hlocks hnm hPre hl
  obtain ⟨hO, hK, hA, hZ⟩ := hPre
  have hf : CallFix p m c cX0_endsBy 1 s _ lw_all RX0 := ⟨hx, hb, hml, hown, hts⟩
  have hl : lv_has ls 1 [(0, .ref o)] := hl
  refine g_open (A := A) (OC D aC A o la z) hO (fun H locs hO hS => ?_)
  unfold FX0_endsBy at h
  refine lv_aload_n hx hb dX0_endsBy_0 rfl (lv_at hl 0 rfl) ?_
  obtain ⟨z1, e2, h⟩ := bn1_e h
  refine clX0_layNow hf hK hO hA hZ hS (metX0_layNow l D aC A o la z z1 e2) q802 hl.1 (Nat.le_of_ble_eq_true rfl) ⟨Nat.le_of_ble_eq_true rfl, Nat.le_of_ble_eq_true rfl⟩ ⟨Nat.le_of_ble_eq_true rfl, Nat.le_of_ble_eq_true rfl⟩ dX0_endsBy_1 (fun H locs hO hS => ?_)
  refine lv_aload_n hx hb dX0_endsBy_4 rfl (lv_at hl 0 rfl) ?_
  refine lv_aload_n hx hb dX0_endsBy_5 rfl (lv_at hl 0 rfl) ?_
  refine X0_getF hx hb hts hown hK hO 24 (by decide) rfl (hts _ q190) dX0_endsBy_6 ?_
  obtain ⟨z3, e4, h⟩ := bn1_e h
  refine clX0_goDays hf hK hO hA hZ hS (metX0_goDays l D aC A o la (gF z1 24) z1 z3 e4) q864 hl.1 (Nat.le_of_ble_eq_true rfl) ⟨Nat.le_of_ble_eq_true rfl, Nat.le_of_ble_eq_true rfl⟩ ⟨Nat.le_of_ble_eq_true rfl, Nat.le_of_ble_eq_true rfl⟩ dX0_endsBy_9 (fun H locs hO hS => ?_)
  refine lv_aload_n hx hb dX0_endsBy_12 rfl (lv_at hl 0 rfl) ?_
  obtain ⟨r5, e6, h⟩ := bn1_e h
  refine clX0_lackMany hf hK hO hA hZ hS (metX0_lackMany l D aC A o la z3 r5 e6) q926 hl.1 (Nat.le_of_ble_eq_true rfl) ⟨Nat.le_of_ble_eq_true rfl, Nat.le_of_ble_eq_true rfl⟩ ⟨Nat.le_of_ble_eq_true rfl, Nat.le_of_ble_eq_true rfl⟩ dX0_endsBy_13 ?_
  obtain ⟨e8, rfl⟩ := Prod.mk.inj (Option.some.inj h)
  exact g_retG hx hb hr hlocks e8 hO hS dX0_endsBy_16
theorem clX0_endsBy {p : Program} {l : Launch} {e : Env} {R : Room} {s : State} {m : MethodId} {args : Array Value} {below : List Frame} {meth : Method} {c : Code} {H : Heap} {locs : List Loc} {cells slots : Nat} {Q : State → Prop} {cc : ByteArray} {pc nL idx fr lo : Nat} {ls : Array Slot} {rest : List Value} {own : String} {D : va_G} {aC : Nat → ClassId} {A : Nat → Prop} {o : Nat} {la : LC} {z : GS} {zq : GS}  {r : Int32} (hf : CallFix p m c cc nL s args lw_all own) (hK : KC D aC s) (hO : OC D aC A o la z H) (hA : ∀ q : Nat, s.heap.size ≤ q → A q) (hZ : ZX A s s.heap) (hS : va_S A s.heap H locs) (hM : Met l yX0_endsBy (ws_ yX0_endsBy cX0_endsBy 1 (some .int)) ({ frames := fr, cells := 0, slots := 0, locals := lo }) (va_Pc [.ref o] (PC D aC A o la z)) (QG (some (.int r)) (OC D aC A o la zq) A) 0 0 A) (hq : Cond.methodLink own idx yX0_endsBy ∈ lw_all) (hs : ls.size = nL) (hr : (rest.map fun v => v.category).sum ≤ 8) (hR : fr + 1 ≤ R.frames ∧ 8 + (1 + 11) + lo ≤ R.locals) (hcs : cells + 0 ≤ R.cells ∧ slots + 0 ≤ R.slots) (hd : decode cc pc = .ok (.invokevirtual idx, 3)) (kk : ∀ (H1 : Heap) (locs1 : List Loc), OC D aC A o la zq H1 → va_S A s.heap H1 locs1 → W p l e R s m args below meth c H1 locs1 cells slots Q (F0 m (pc + 3) ls (.int r :: rest))) : W p l e R s m args below meth c H locs cells slots Q (F0 m pc ls (.ref o :: rest)) :=
  g_callG (W.runV (As := []) (rest := rest) hf hM (cwV 0 hf.2.2.2.2 (lw_V hq q1007 qs43 q90 q1008) rfl rfl rfl (by decide +kernel) hR) ⟨PC.blind, OC.recv hK hO, fun U hU hW => ⟨rfl, PC.at hO hK hA hZ hS hU hW⟩⟩ rfl rfl hs rfl (lv_room hr) hd hcs) hS (fun H1 locs1 hP hS _ _ => kk H1 locs1 hP hS)
theorem clX0_bestOf {p : Program} {l : Launch} {e : Env} {R : Room} {s : State} {m : MethodId} {args : Array Value} {below : List Frame} {meth : Method} {c : Code} {H : Heap} {locs : List Loc} {cells slots : Nat} {Q : State → Prop} {cc : ByteArray} {pc nL idx fr lo : Nat} {ls : Array Slot} {rest : List Value} {own : String} {D : va_G} {aC : Nat → ClassId} {A : Nat → Prop} {o : Nat} {la : LC} {z : GS} {zq : GS} {x1 : Int32} {x2 : Int32} {r : Int32} (hf : CallFix p m c cc nL s args lw_all own) (hK : KC D aC s) (hO : OC D aC A o la z H) (hA : ∀ q : Nat, s.heap.size ≤ q → A q) (hZ : ZX A s s.heap) (hS : va_S A s.heap H locs) (hM : Met l yX0_bestOf (ws_ yX0_bestOf cX0_bestOf 6 (some .int)) ({ frames := fr, cells := 0, slots := 0, locals := lo }) (va_Pc [.ref o, .int x1, .int x2] (PC D aC A o la z)) (QG (some (.int r)) (OC D aC A o la zq) A) 0 0 A) (hq : Cond.methodLink own idx yX0_bestOf ∈ lw_all) (hs : ls.size = nL) (hr : (rest.map fun v => v.category).sum ≤ 8) (hR : fr + 1 ≤ R.frames ∧ 8 + (6 + 11) + lo ≤ R.locals) (hcs : cells + 0 ≤ R.cells ∧ slots + 0 ≤ R.slots) (hd : decode cc pc = .ok (.invokevirtual idx, 3)) (kk : ∀ (H1 : Heap) (locs1 : List Loc), OC D aC A o la zq H1 → va_S A s.heap H1 locs1 → W p l e R s m args below meth c H1 locs1 cells slots Q (F0 m (pc + 3) ls (.int r :: rest))) : W p l e R s m args below meth c H locs cells slots Q (F0 m pc ls (.int x2 :: .int x1 :: .ref o :: rest)) :=
  g_callG (W.runV (As := [.int x1, .int x2]) (rest := rest) hf hM (cwV 2 hf.2.2.2.2 (lw_V hq q1003 qs42 q90 q1004) rfl rfl rfl (by decide +kernel) hR) ⟨PC.blind, OC.recv hK hO, fun U hU hW => ⟨rfl, PC.at hO hK hA hZ hS hU hW⟩⟩ rfl rfl hs rfl (lv_room hr) hd hcs) hS (fun H1 locs1 hP hS _ _ => kk H1 locs1 hP hS)
theorem metX0_byDeed (l : Launch) (D : va_G) (aC : Nat → ClassId) (A : Nat → Prop) (o : Nat) (la : LC) (n : Nat) (rec : Int32 → Int32 → GS → Option (Int32 × GS)) (hrec : ∀ (x1 : Int32) (x2 : Int32) (z : GS) (r : Int32) (zq : GS), rec x1 x2 z = some (r, zq) → Met l yX0_bestOf (ws_ yX0_bestOf cX0_bestOf 6 (some .int)) ({ frames := 205 * n, cells := 0, slots := 0, locals := 20109 * n }) (va_Pc [.ref o, .int x1, .int x2] (PC D aC A o la z)) (QG (some (.int r)) (OC D aC A o la zq) A) 0 0 A) (x1 : Int32) (x2 : Int32) (x3 : Int32) (z : GS) (r : Int32) (zq : GS) (h : FX0_byDeed rec x1 x2 x3 z = some (r, zq)) : Met l yX0_byDeed (ws_ yX0_byDeed cX0_byDeed 6 (some .int)) ({ frames := 205 * n + 2, cells := 0, slots := 0, locals := 20109 * n + 80 }) (va_Pc [.ref o, .int x1, .int x2, .int x3] (PC D aC A o la z)) (QG (some (.int r)) (OC D aC A o la zq) A) 0 0 A := by
  refine g_ofW (cc := cX0_byDeed) (maxL := 6) (ret := (some .int)) (own := RX0) (by decide) rfl rfl [.ref o, .int x1, .int x2, .int x3] (PC D aC A o la z) (Nat.le_of_ble_eq_true rfl) ?_
  intro p e s m below meth c ls hx hb hr hml hts hown hlocks hnm hPre hl
  obtain ⟨hO, hK, hA, hZ⟩ := hPre
  have hf : CallFix p m c cX0_byDeed 6 s _ lw_all RX0 := ⟨hx, hb, hml, hown, hts⟩
  have hl : lv_has ls 6 [(0, .ref o), (1, .int x1), (2, .int x2), (3, .int x3)] := hl
  refine g_open (A := A) (OC D aC A o la z) hO (fun H locs hO hS => ?_)
  unfold FX0_byDeed at h
  refine lv_iload_n hx hb dX0_byDeed_0 rfl (lv_at hl 1 rfl) ?_
  refine lv_bipush (v := 8) hx hb dX0_byDeed_1 (by decide) ?_
  refine lv_icmp_ne (tgt := 23) hx hb dX0_byDeed_3 (by decide) (fun c1 => ?_) (fun c1 => ?_)
  · have h := it_f c1 h
    refine lv_iload_n hx hb dX0_byDeed_23 rfl (lv_at hl 3 rfl) ?_
    obtain ⟨k2, e29, h⟩ := pin_nm h
    have hk2 : ∀ (u3 : Int32) (ls : Array Slot), k2 u3 = some (r, zq) → lv_has ls 6 [(0, .ref o), (1, .int x1), (2, .int x2), (3, .int x3)] → W p l e ({ frames := 205 * n + 2, cells := 0, slots := 0, locals := 20109 * n + 80 }) s m ([.ref o, .int x1, .int x2, .int x3] : List Value).toArray below meth c H locs 0 0 (MQ below (QG (some (.int r)) (OC D aC A o la zq) A) ([.ref o, .int x1, .int x2, .int x3] : List Value).toArray s 0 0 A) (F0 m 48 ls [.int u3]) := by
      intro u3 ls h hl
      rw [e29] at h
      refine lv_istore (lv' := [(4, .int u3), (0, .ref o), (1, .int x1), (2, .int x2), (3, .int x3)]) hx hb dX0_byDeed_48 hl (by decide) rfl (fun ls hl => ?_)
      refine lv_iload_n hx hb dX0_byDeed_50 rfl (lv_at hl 4 rfl) ?_
      obtain ⟨k4, e25, h⟩ := pin_nm h
      have hk4 : ∀  (z5 : GS) (H : Heap) (locs : List Loc) (ls : Array Slot), k4  z5 = some (r, zq) → OC D aC A o la z5 H → va_S A s.heap H locs → lv_has ls 6 [(0, .ref o), (1, .int x1), (2, .int x2), (3, .int x3), (4, .int u3)] → W p l e ({ frames := 205 * n + 2, cells := 0, slots := 0, locals := 20109 * n + 80 }) s m ([.ref o, .int x1, .int x2, .int x3] : List Value).toArray below meth c H locs 0 0 (MQ below (QG (some (.int r)) (OC D aC A o la zq) A) ([.ref o, .int x1, .int x2, .int x3] : List Value).toArray s 0 0 A) (F0 m 87 ls []) := by
        intro  z5 H locs ls h hO hS hl
        rw [e25] at h
        refine lv_aload_n hx hb dX0_byDeed_87 rfl (lv_at hl 0 rfl) ?_
        refine lv_iload_n hx hb dX0_byDeed_88 rfl (lv_at hl 2 rfl) ?_
        refine lv_iconst (v := 1) hx hb dX0_byDeed_89 (by decide) ?_
        refine lv_isub hx hb dX0_byDeed_90 ?_
        refine lv_iload_n hx hb dX0_byDeed_91 rfl (lv_at hl 3 rfl) ?_
        obtain ⟨k7, e16, h⟩ := pin_nm2 h
        have hk7 : ∀ (u6 : Int32) (ls : Array Slot), k7 u6 = some (r, zq) → lv_has ls 6 [(0, .ref o), (1, .int x1), (3, .int x3), (4, .int u3)] → W p l e ({ frames := 205 * n + 2, cells := 0, slots := 0, locals := 20109 * n + 80 }) s m ([.ref o, .int x1, .int x2, .int x3] : List Value).toArray below meth c H locs 0 0 (MQ below (QG (some (.int r)) (OC D aC A o la zq) A) ([.ref o, .int x1, .int x2, .int x3] : List Value).toArray s 0 0 A) (F0 m 100 ls [.int u6, .int (x2 - 1), .ref o]) := by
          intro u6 ls h hl
          rw [e16] at h
          obtain ⟨r8, z9, e10, h⟩ := bnd_e h
          refine clX0_bestOf hf hK hO hA hZ hS (hrec (x2 - 1) u6 z5 r8 z9 e10) q1001 hl.1 (Nat.le_of_ble_eq_true rfl) ⟨by dsimp only; omega, by dsimp only; omega⟩ ⟨Nat.le_of_ble_eq_true rfl, Nat.le_of_ble_eq_true rfl⟩ dX0_byDeed_100 (fun H locs hO hS => ?_)
          refine lv_istore (lv' := [(5, .int r8), (0, .ref o), (1, .int x1), (3, .int x3), (4, .int u3)]) hx hb dX0_byDeed_103 hl (by decide) rfl (fun ls hl => ?_)
          refine lv_iload_n hx hb dX0_byDeed_105 rfl (lv_at hl 3 rfl) ?_
          refine lv_if_eq (tgt := 123) hx hb dX0_byDeed_106 (by decide) (fun c11 => ?_) (fun c11 => ?_)
          · have h := it_t c11 h
            refine lv_aload_n hx hb dX0_byDeed_123 rfl (lv_at hl 1 rfl) ?_
            refine X0_getA hx hb hts hown hK hO 0 (by decide) (Or.inl rfl) (hts _ q164) dX0_byDeed_124 ?_
            refine lv_iload_n hx hb dX0_byDeed_127 rfl (lv_at hl 2 rfl) ?_
            obtain ⟨g12, h⟩ := grd h
            refine X0_paald hx hb hK hO g12 dX0_byDeed_128 ?_
            refine lv_iload hx hb dX0_byDeed_129 (lv_at hl 4 rfl) ?_
            refine X0_putP hx hb hts hown hK hO hS g12 3 (by decide) (hK.nw q328 rfl) rfl rfl dX0_byDeed_131 (fun H locs z13 ez13 hO hS => ?_)
            have h := pin_to ez13 h
            refine lv_iload hx hb dX0_byDeed_134 (lv_at hl 0 rfl) ?_
            obtain ⟨e8, rfl⟩ := Prod.mk.inj (Option.some.inj h)
            exact g_retG hx hb hr hlocks e8 hO hS dX0_byDeed_136
          · have h := it_f c11 h
            refine lv_aload_n hx hb dX0_byDeed_109 rfl (lv_at hl 1 rfl) ?_
            refine X0_getA hx hb hts hown hK hO 0 (by decide) (Or.inl rfl) (hts _ q164) dX0_byDeed_110 ?_
            refine lv_iload_n hx hb dX0_byDeed_113 rfl (lv_at hl 2 rfl) ?_
            obtain ⟨g14, h⟩ := grd h
            refine X0_paald hx hb hK hO g14 dX0_byDeed_114 ?_
            refine lv_iload hx hb dX0_byDeed_115 (lv_at hl 4 rfl) ?_
            refine X0_putP hx hb hts hown hK hO hS g14 4 (by decide) (hK.nw q330 rfl) rfl rfl dX0_byDeed_117 (fun H locs z15 ez15 hO hS => ?_)
            have h := pin_to ez15 h
            refine lv_goto (tgt := 134) hx hb dX0_byDeed_120 (by decide) ?_
            refine lv_iload hx hb dX0_byDeed_134 (lv_at hl 0 rfl) ?_
            obtain ⟨e8, rfl⟩ := Prod.mk.inj (Option.some.inj h)
            exact g_retG hx hb hr hlocks e8 hO hS dX0_byDeed_136
        refine lv_if_ne (tgt := 99) hx hb dX0_byDeed_92 (by decide) (fun c17 => ?_) (fun c17 => ?_)
        · have h := pt_f (k := k7) c17 h
          refine lv_iconst (v := 0) hx hb dX0_byDeed_99 (by decide) ?_
          exact hk7 _ _ h (lv_sub hl [0, 1, 3, 4] rfl)
        · have h := pt_t (k := k7) c17 h
          refine lv_iconst (v := 1) hx hb dX0_byDeed_95 (by decide) ?_
          refine lv_goto (tgt := 100) hx hb dX0_byDeed_96 (by decide) ?_
          exact hk7 _ _ h (lv_sub hl [0, 1, 3, 4] rfl)
      refine lv_if_eq (tgt := 71) hx hb dX0_byDeed_51 (by decide) (fun c18 => ?_) (fun c18 => ?_)
      · have h := it_t c18 h
        refine lv_aload_n hx hb dX0_byDeed_71 rfl (lv_at hl 1 rfl) ?_
        refine X0_getA hx hb hts hown hK hO 0 (by decide) (Or.inl rfl) (hts _ q164) dX0_byDeed_72 ?_
        refine lv_iload_n hx hb dX0_byDeed_75 rfl (lv_at hl 2 rfl) ?_
        obtain ⟨g19, h⟩ := grd h
        refine X0_paald hx hb hK hO g19 dX0_byDeed_76 ?_
        refine lv_iload hx hb dX0_byDeed_77 (lv_at hl 0 rfl) ?_
        refine lv_iconst (v := 5) hx hb dX0_byDeed_79 (by decide) ?_
        refine lv_isub hx hb dX0_byDeed_80 ?_
        refine clX0_held hf (metX0_held l (u3 - 5) _ rfl) q872 hl.1 (Nat.le_of_ble_eq_true rfl) ⟨by dsimp only; omega, by dsimp only; omega⟩ ⟨Nat.le_of_ble_eq_true rfl, Nat.le_of_ble_eq_true rfl⟩ dX0_byDeed_81 ?_
        refine X0_putP hx hb hts hown hK hO hS g19 3 (by decide) (hK.nw q328 rfl) rfl rfl dX0_byDeed_84 (fun H locs z20 ez20 hO hS => ?_)
        have h := pin_to ez20 h
        exact hk4 _ _ _ _ h hO hS (lv_sub hl [1, 2, 3, 4, 0] rfl)
      · have h := it_f c18 h
        refine lv_aload_n hx hb dX0_byDeed_54 rfl (lv_at hl 1 rfl) ?_
        refine X0_getA hx hb hts hown hK hO 0 (by decide) (Or.inl rfl) (hts _ q164) dX0_byDeed_55 ?_
        refine lv_iload_n hx hb dX0_byDeed_58 rfl (lv_at hl 2 rfl) ?_
        obtain ⟨g21, h⟩ := grd h
        refine X0_paald hx hb hK hO g21 dX0_byDeed_59 ?_
        refine lv_aload_n hx hb dX0_byDeed_60 rfl (lv_at hl 1 rfl) ?_
        refine lv_iload_n hx hb dX0_byDeed_61 rfl (lv_at hl 2 rfl) ?_
        obtain ⟨r22, e23, h⟩ := bn1_e h
        refine clX0_nextWhom hf hK hO hA hZ hS (metX0_nextWhom l D aC A o la x1 z r22 e23) q1013 hl.1 (Nat.le_of_ble_eq_true rfl) ⟨by dsimp only; omega, by dsimp only; omega⟩ ⟨Nat.le_of_ble_eq_true rfl, Nat.le_of_ble_eq_true rfl⟩ dX0_byDeed_62 ?_
        refine X0_putP hx hb hts hown hK hO hS g21 4 (by decide) (hK.nw q330 rfl) rfl rfl dX0_byDeed_65 (fun H locs z24 ez24 hO hS => ?_)
        have h := pin_to ez24 h
        refine lv_goto (tgt := 87) hx hb dX0_byDeed_68 (by decide) ?_
        exact hk4 _ _ _ _ h hO hS (lv_sub hl [1, 2, 3, 4, 0] rfl)
    refine lv_if_eq (tgt := 39) hx hb dX0_byDeed_24 (by decide) (fun c26 => ?_) (fun c26 => ?_)
    · have h := it_t c26 h
      refine lv_aload_n hx hb dX0_byDeed_39 rfl (lv_at hl 0 rfl) ?_
      refine X0_getA hx hb hts hown hK hO 0 (by decide) (Or.inl rfl) (hts _ q164) dX0_byDeed_40 ?_
      refine lv_iload_n hx hb dX0_byDeed_43 rfl (lv_at hl 1 rfl) ?_
      obtain ⟨g27, h⟩ := grd h
      refine X0_paald hx hb hK hO g27 dX0_byDeed_44 ?_
      refine X0_getP hx hb hts hown hK hO g27 3 (by decide) (hK.nw q328 rfl) dX0_byDeed_45 ?_
      exact hk2 _ _ h (lv_sub hl [0, 1, 2, 3] rfl)
    · have h := it_f c26 h
      refine lv_aload_n hx hb dX0_byDeed_27 rfl (lv_at hl 0 rfl) ?_
      refine X0_getA hx hb hts hown hK hO 0 (by decide) (Or.inl rfl) (hts _ q164) dX0_byDeed_28 ?_
      refine lv_iload_n hx hb dX0_byDeed_31 rfl (lv_at hl 1 rfl) ?_
      obtain ⟨g28, h⟩ := grd h
      refine X0_paald hx hb hK hO g28 dX0_byDeed_32 ?_
      refine X0_getP hx hb hts hown hK hO g28 4 (by decide) (hK.nw q330 rfl) dX0_byDeed_33 ?_
      refine lv_goto (tgt := 48) hx hb dX0_byDeed_36 (by decide) ?_
      exact hk2 _ _ h (lv_sub hl [0, 1, 2, 3] rfl)
  · have h := it_t c1 h
    refine lv_aload_n hx hb dX0_byDeed_6 rfl (lv_at hl 0 rfl) ?_
    refine lv_iload_n hx hb dX0_byDeed_7 rfl (lv_at hl 2 rfl) ?_
    refine lv_iconst (v := 1) hx hb dX0_byDeed_8 (by decide) ?_
    refine lv_isub hx hb dX0_byDeed_9 ?_
    refine lv_iload_n hx hb dX0_byDeed_10 rfl (lv_at hl 3 rfl) ?_
    obtain ⟨k31, e35, h⟩ := pin_nm2 h
    have hk31 : ∀ (u30 : Int32) (ls : Array Slot), k31 u30 = some (r, zq) → lv_has ls 6 [(0, .ref o)] → W p l e ({ frames := 205 * n + 2, cells := 0, slots := 0, locals := 20109 * n + 80 }) s m ([.ref o, .int x1, .int x2, .int x3] : List Value).toArray below meth c H locs 0 0 (MQ below (QG (some (.int r)) (OC D aC A o la zq) A) ([.ref o, .int x1, .int x2, .int x3] : List Value).toArray s 0 0 A) (F0 m 19 ls [.int u30, .int (x2 - 1), .ref o]) := by
      intro u30 ls h hl
      rw [e35] at h
      obtain ⟨r32, z33, e34, h⟩ := bnd_e h
      refine clX0_bestOf hf hK hO hA hZ hS (hrec (x2 - 1) u30 z r32 z33 e34) q1001 hl.1 (Nat.le_of_ble_eq_true rfl) ⟨by dsimp only; omega, by dsimp only; omega⟩ ⟨Nat.le_of_ble_eq_true rfl, Nat.le_of_ble_eq_true rfl⟩ dX0_byDeed_19 (fun H locs hO hS => ?_)
      obtain ⟨e8, rfl⟩ := Prod.mk.inj (Option.some.inj h)
      exact g_retG hx hb hr hlocks e8 hO hS dX0_byDeed_22
    refine lv_if_ne (tgt := 18) hx hb dX0_byDeed_11 (by decide) (fun c36 => ?_) (fun c36 => ?_)
    · have h := pt_f (k := k31) c36 h
      refine lv_iconst (v := 0) hx hb dX0_byDeed_18 (by decide) ?_
      exact hk31 _ _ h (lv_sub hl [0] rfl)
    · have h := pt_t (k := k31) c36 h
      refine lv_iconst (v := 1) hx hb dX0_byDeed_14 (by decide) ?_
      refine lv_goto (tgt := 19) hx hb dX0_byDeed_15 (by decide) ?_
      exact hk31 _ _ h (lv_sub hl [0] rfl)
theorem clX0_byDeed {p : Program} {l : Launch} {e : Env} {R : Room} {s : State} {m : MethodId} {args : Array Value} {below : List Frame} {meth : Method} {c : Code} {H : Heap} {locs : List Loc} {cells slots : Nat} {Q : State → Prop} {cc : ByteArray} {pc nL idx fr lo : Nat} {ls : Array Slot} {rest : List Value} {own : String} {D : va_G} {aC : Nat → ClassId} {A : Nat → Prop} {o : Nat} {la : LC} {z : GS} {zq : GS} {x1 : Int32} {x2 : Int32} {x3 : Int32} {r : Int32} (hf : CallFix p m c cc nL s args lw_all own) (hK : KC D aC s) (hO : OC D aC A o la z H) (hA : ∀ q : Nat, s.heap.size ≤ q → A q) (hZ : ZX A s s.heap) (hS : va_S A s.heap H locs) (hM : Met l yX0_byDeed (ws_ yX0_byDeed cX0_byDeed 6 (some .int)) ({ frames := fr, cells := 0, slots := 0, locals := lo }) (va_Pc [.ref o, .int x1, .int x2, .int x3] (PC D aC A o la z)) (QG (some (.int r)) (OC D aC A o la zq) A) 0 0 A) (hq : Cond.methodLink own idx yX0_byDeed ∈ lw_all) (hs : ls.size = nL) (hr : (rest.map fun v => v.category).sum ≤ 8) (hR : fr + 1 ≤ R.frames ∧ 8 + (6 + 11) + lo ≤ R.locals) (hcs : cells + 0 ≤ R.cells ∧ slots + 0 ≤ R.slots) (hd : decode cc pc = .ok (.invokevirtual idx, 3)) (kk : ∀ (H1 : Heap) (locs1 : List Loc), OC D aC A o la zq H1 → va_S A s.heap H1 locs1 → W p l e R s m args below meth c H1 locs1 cells slots Q (F0 m (pc + 3) ls (.int r :: rest))) : W p l e R s m args below meth c H locs cells slots Q (F0 m pc ls (.int x3 :: .int x2 :: .int x1 :: .ref o :: rest)) :=
  g_callG (W.runV (As := [.int x1, .int x2, .int x3]) (rest := rest) hf hM (cwV 3 hf.2.2.2.2 (lw_V hq q1011 qs44 q90 q1012) rfl rfl rfl (by decide +kernel) hR) ⟨PC.blind, OC.recv hK hO, fun U hU hW => ⟨rfl, PC.at hO hK hA hZ hS hU hW⟩⟩ rfl rfl hs rfl (lv_room hr) hd hcs) hS (fun H1 locs1 hP hS _ _ => kk H1 locs1 hP hS)
theorem metX0_bestOfb (l : Launch) (D : va_G) (aC : Nat → ClassId) (A : Nat → Prop) (o : Nat) (la : LC) (n : Nat) (rec : Int32 → Int32 → GS → Option (Int32 × GS)) (hrec : ∀ (x1 : Int32) (x2 : Int32) (z : GS) (r : Int32) (zq : GS), rec x1 x2 z = some (r, zq) → Met l yX0_bestOf (ws_ yX0_bestOf cX0_bestOf 6 (some .int)) ({ frames := 205 * n, cells := 0, slots := 0, locals := 20109 * n }) (va_Pc [.ref o, .int x1, .int x2] (PC D aC A o la z)) (QG (some (.int r)) (OC D aC A o la zq) A) 0 0 A) (x1 : Int32) (x2 : Int32) (z : GS) (r : Int32) (zq : GS) (h : FX0_bestOfb rec x1 x2 z = some (r, zq)) : Met l yX0_bestOf (ws_ yX0_bestOf cX0_bestOf 6 (some .int)) ({ frames := 205 * (n + 1), cells := 0, slots := 0, locals := 20109 * (n + 1) }) (va_Pc [.ref o, .int x1, .int x2] (PC D aC A o la z)) (QG (some (.int r)) (OC D aC A o la zq) A) 0 0 A := by
  refine g_ofW (cc := cX0_bestOf) (maxL := 6) (ret := (some .int)) (own := RX0) (by decide) rfl rfl [.ref o, .int x1, .int x2] (PC D aC A o la z) (Nat.le_of_ble_eq_true rfl) ?_
  intro p e s m below meth c ls hx hb hr hml hts hown hlocks hnm hPre hl
  obtain ⟨hO, hK, hA, hZ⟩ := hPre
  have hf : CallFix p m c cX0_bestOf 6 s _ lw_all RX0 := ⟨hx, hb, hml, hown, hts⟩
  have hl : lv_has ls 6 [(0, .ref o), (1, .int x1), (2, .int x2)] := hl
  refine g_open (A := A) (OC D aC A o la z) hO (fun H locs hO hS => ?_)
  unfold FX0_bestOfb at h
  refine lv_iload_n hx hb dX0_bestOf_0 rfl (lv_at hl 1 rfl) ?_
  refine lv_if_ne (tgt := 9) hx hb dX0_bestOf_1 (by decide) (fun c1 => ?_) (fun c1 => ?_)
  · have h := it_f c1 h
    refine lv_aload_n hx hb dX0_bestOf_9 rfl (lv_at hl 0 rfl) ?_
    refine lv_bipush (v := 8) hx hb dX0_bestOf_10 (by decide) ?_
    refine lv_iload_n hx hb dX0_bestOf_12 rfl (lv_at hl 1 rfl) ?_
    refine lv_iload_n hx hb dX0_bestOf_13 rfl (lv_at hl 2 rfl) ?_
    obtain ⟨r2, z3, e4, h⟩ := bnd_e h
    refine clX0_byDeed hf hK hO hA hZ hS (metX0_byDeed l D aC A o la n rec hrec 8 x1 x2 z r2 z3 e4) q1009 hl.1 (Nat.le_of_ble_eq_true rfl) ⟨by dsimp only; omega, by dsimp only; omega⟩ ⟨Nat.le_of_ble_eq_true rfl, Nat.le_of_ble_eq_true rfl⟩ dX0_bestOf_14 (fun H locs hO hS => ?_)
    refine lv_istore_n (lv' := [(3, .int r2), (0, .ref o), (1, .int x1), (2, .int x2)]) hx hb dX0_bestOf_17 rfl hl (by decide) rfl (fun ls hl => ?_)
    refine lv_iconst (v := 0) hx hb dX0_bestOf_18 (by decide) ?_
    refine lv_istore (lv' := [(4, .int 0), (3, .int r2), (0, .ref o), (1, .int x1), (2, .int x2)]) hx hb dX0_bestOf_19 hl (by decide) rfl (fun ls hl => ?_)
    have key18 : ∀ (f : Nat) (v3 : Int32) (v4 : Int32) (z : GS) (H : Heap) (locs : List Loc) (ls : Array Slot), FX0_bestOf_L21 rec x1 x2 f v3 v4 z = some (r, zq) → OC D aC A o la z H → va_S A s.heap H locs → lv_has ls 6 [(0, .ref o), (1, .int x1), (2, .int x2), (3, .int v3), (4, .int v4)] → W p l e ({ frames := 205 * (n + 1), cells := 0, slots := 0, locals := 20109 * (n + 1) }) s m ([.ref o, .int x1, .int x2] : List Value).toArray below meth c H locs 0 0 (MQ below (QG (some (.int r)) (OC D aC A o la zq) A) ([.ref o, .int x1, .int x2] : List Value).toArray s 0 0 A) (F0 m 21 ls []) := by
      intro f
      induction f with
      | zero =>
        intro v3 v4 z H locs ls h
        rw [FX0_bestOf_L21] at h
        cases h
      | succ f ih5 =>
        intro v3 v4 z H locs ls h hO hS hl
        rw [FX0_bestOf_L21] at h
        refine lv_iload hx hb dX0_bestOf_21 (lv_at hl 4 rfl) ?_
        refine lv_aload_n hx hb dX0_bestOf_23 rfl (lv_at hl 0 rfl) ?_
        refine X0_getF hx hb hts hown hK hO 1 (by decide) rfl (hts _ q165) dX0_bestOf_24 ?_
        refine lv_icmp_ge (tgt := 68) hx hb dX0_bestOf_27 (by decide) (fun c6 => ?_) (fun c6 => ?_)
        · have h := it_t c6 h
          refine lv_iload_n hx hb dX0_bestOf_68 rfl (lv_at hl 3 rfl) ?_
          obtain ⟨e8, rfl⟩ := Prod.mk.inj (Option.some.inj h)
          exact g_retG hx hb hr hlocks e8 hO hS dX0_bestOf_69
        · have h := it_f c6 h
          refine lv_aload_n hx hb dX0_bestOf_30 rfl (lv_at hl 0 rfl) ?_
          refine lv_iload hx hb dX0_bestOf_31 (lv_at hl 4 rfl) ?_
          refine lv_iload_n hx hb dX0_bestOf_33 rfl (lv_at hl 1 rfl) ?_
          refine lv_iload_n hx hb dX0_bestOf_34 rfl (lv_at hl 2 rfl) ?_
          obtain ⟨r7, z8, e9, h⟩ := bnd_e h
          refine clX0_byDeed hf hK hO hA hZ hS (metX0_byDeed l D aC A o la n rec hrec v4 x1 x2 z r7 z8 e9) q1009 hl.1 (Nat.le_of_ble_eq_true rfl) ⟨by dsimp only; omega, by dsimp only; omega⟩ ⟨Nat.le_of_ble_eq_true rfl, Nat.le_of_ble_eq_true rfl⟩ dX0_bestOf_35 (fun H locs hO hS => ?_)
          refine lv_istore (lv' := [(5, .int r7), (0, .ref o), (1, .int x1), (2, .int x2), (3, .int v3), (4, .int v4)]) hx hb dX0_bestOf_38 hl (by decide) rfl (fun ls hl => ?_)
          refine lv_iload_n hx hb dX0_bestOf_40 rfl (lv_at hl 3 rfl) ?_
          obtain ⟨k10, e17, h⟩ := pin_nm h
          have hk10 : ∀ (v11 : Int32) (ls : Array Slot), k10 v11 = some (r, zq) → lv_has ls 6 [(0, .ref o), (1, .int x1), (2, .int x2), (3, .int v11), (4, .int v4)] → W p l e ({ frames := 205 * (n + 1), cells := 0, slots := 0, locals := 20109 * (n + 1) }) s m ([.ref o, .int x1, .int x2] : List Value).toArray below meth c H locs 0 0 (MQ below (QG (some (.int r)) (OC D aC A o la zq) A) ([.ref o, .int x1, .int x2] : List Value).toArray s 0 0 A) (F0 m 62 ls []) := by
            intro v11 ls h hl
            rw [e17] at h
            refine lv_iinc (v := (v4 + 1)) (lv' := [(4, .int (v4 + 1)), (0, .ref o), (1, .int x1), (2, .int x2), (3, .int v11)]) hx hb dX0_bestOf_62 hl (k := 4) rfl rfl (by decide) rfl (fun ls hl => ?_)
            refine lv_goto (tgt := 21) hx hb dX0_bestOf_65 (by decide) ?_
            exact ih5 _ _ _ _ _ _ h hO hS (lv_sub hl [1, 2, 3, 4, 0] rfl)
          obtain ⟨k12, e16, h⟩ := pin_nm h
          have hk12 : ∀  (ls : Array Slot), k12  = some (r, zq) → lv_has ls 6 [(0, .ref o), (1, .int x1), (2, .int x2), (4, .int v4), (5, .int r7)] → W p l e ({ frames := 205 * (n + 1), cells := 0, slots := 0, locals := 20109 * (n + 1) }) s m ([.ref o, .int x1, .int x2] : List Value).toArray below meth c H locs 0 0 (MQ below (QG (some (.int r)) (OC D aC A o la zq) A) ([.ref o, .int x1, .int x2] : List Value).toArray s 0 0 A) (F0 m 59 ls []) := by
            intro  ls h hl
            rw [e16] at h
            refine lv_iload hx hb dX0_bestOf_59 (lv_at hl 4 rfl) ?_
            refine lv_istore_n (lv' := [(3, .int r7), (0, .ref o), (1, .int x1), (2, .int x2), (4, .int v4), (5, .int r7)]) hx hb dX0_bestOf_61 rfl hl (by decide) rfl (fun ls hl => ?_)
            exact hk10 _ _ h (lv_sub hl [1, 2, 3, 0, 4] rfl)
          refine lv_if_eq (tgt := 53) hx hb dX0_bestOf_41 (by decide) (fun c13 => ?_) (fun c13 => ?_)
          · have h := it_t c13 h
            refine lv_iload hx hb dX0_bestOf_53 (lv_at hl 0 rfl) ?_
            refine lv_iload_n hx hb dX0_bestOf_55 rfl (lv_at hl 4 rfl) ?_
            refine lv_icmp_le (tgt := 62) hx hb dX0_bestOf_56 (by decide) (fun c14 => ?_) (fun c14 => ?_)
            · have h := it_t c14 h
              exact hk10 _ _ h (lv_sub hl [1, 2, 3, 4, 5] rfl)
            · have h := it_f c14 h
              exact hk12 _ h (lv_sub hl [1, 2, 3, 5, 0] rfl)
          · have h := it_f c13 h
            refine lv_iload hx hb dX0_bestOf_44 (lv_at hl 0 rfl) ?_
            refine lv_iload_n hx hb dX0_bestOf_46 rfl (lv_at hl 4 rfl) ?_
            refine lv_icmp_ge (tgt := 62) hx hb dX0_bestOf_47 (by decide) (fun c15 => ?_) (fun c15 => ?_)
            · have h := it_t c15 h
              exact hk10 _ _ h (lv_sub hl [1, 2, 3, 4, 5] rfl)
            · have h := it_f c15 h
              refine lv_goto (tgt := 59) hx hb dX0_bestOf_50 (by decide) ?_
              exact hk12 _ h (lv_sub hl [1, 2, 3, 5, 0] rfl)
    exact key18 FU _ _ _ _ _ _ h hO hS (lv_sub hl [2, 3, 4, 1, 0] rfl)
  · have h := it_t c1 h
    refine lv_aload_n hx hb dX0_bestOf_4 rfl (lv_at hl 0 rfl) ?_
    obtain ⟨r19, z20, e21, h⟩ := bnd_e h
    refine clX0_endsBy hf hK hO hA hZ hS (metX0_endsBy l D aC A o la z r19 z20 e21) q1005 hl.1 (Nat.le_of_ble_eq_true rfl) ⟨by dsimp only; omega, by dsimp only; omega⟩ ⟨Nat.le_of_ble_eq_true rfl, Nat.le_of_ble_eq_true rfl⟩ dX0_bestOf_5 (fun H locs hO hS => ?_)
    obtain ⟨e8, rfl⟩ := Prod.mk.inj (Option.some.inj h)
    exact g_retG hx hb hr hlocks e8 hO hS dX0_bestOf_8
theorem metX0_bestOf (l : Launch) (D : va_G) (aC : Nat → ClassId) (A : Nat → Prop) (o : Nat) (la : LC) (n : Nat) : ∀ (x1 : Int32) (x2 : Int32) (z : GS) (r : Int32) (zq : GS), FX0_bestOf n x1 x2 z = some (r, zq) → Met l yX0_bestOf (ws_ yX0_bestOf cX0_bestOf 6 (some .int)) ({ frames := 205 * n, cells := 0, slots := 0, locals := 20109 * n }) (va_Pc [.ref o, .int x1, .int x2] (PC D aC A o la z)) (QG (some (.int r)) (OC D aC A o la zq) A) 0 0 A := by
  induction n with
  | zero =>
    intro x1 x2 z r zq h
    rw [FX0_bestOf] at h
    cases h
  | succ n ih =>
    intro x1 x2 z r zq h
    rw [FX0_bestOf] at h
    exact metX0_bestOfb l D aC A o la n _ ih x1 x2 z r zq h
theorem metX0_byTurns (l : Launch) (D : va_G) (aC : Nat → ClassId) (A : Nat → Prop) (o : Nat) (la : LC) (x1 : Int32) (x2 : Int32) (z : GS) (r : Int32) (zq : GS) (h : FX0_byTurns x1 x2 z = some (r, zq)) : Met l yX0_byTurns (ws_ yX0_byTurns cX0_byTurns 6 (some .int)) ({ frames := 1028, cells := 0, slots := 0, locals := 100650 }) (va_Pc [.ref o, .int x1, .int x2] (PC D aC A o la z)) (QG (some (.int r)) (OC D aC A o la zq) A) 0 0 A := by
  refine g_ofW (cc := cX0_byTurns) (maxL := 6) (ret := (some .int)) (own := RX0) (by decide) rfl rfl [.ref o, .int x1, .int x2] (PC D aC A o la z) (Nat.le_of_ble_eq_true rfl) ?_
  intro p e s m below meth c ls hx hb hr hml hts hown hlocks hnm hPre hl
  obtain ⟨hO, hK, hA, hZ⟩ := hPre
  have hf : CallFix p m c cX0_byTurns 6 s _ lw_all RX0 := ⟨hx, hb, hml, hown, hts⟩
  have hl : lv_has ls 6 [(0, .ref o), (1, .int x1), (2, .int x2)] := hl
  refine g_open (A := A) (OC D aC A o la z) hO (fun H locs hO hS => ?_)
  unfold FX0_byTurns at h
  refine lv_iload_n hx hb dX0_byTurns_0 rfl (lv_at hl 1 rfl) ?_
  refine lv_bipush (v := 10) hx hb dX0_byTurns_1 (by decide) ?_
  refine lv_idiv hx hb dX0_byTurns_3 (by decide) ?_
  refine lv_iconst (v := 1) hx hb dX0_byTurns_4 (by decide) ?_
  refine lv_iconst (v := 3) hx hb dX0_byTurns_5 (by decide) ?_
  refine clX0_in hf (metX0_in l (x1 / 10) 1 3 _ rfl) q309 hl.1 (Nat.le_of_ble_eq_true rfl) ⟨Nat.le_of_ble_eq_true rfl, Nat.le_of_ble_eq_true rfl⟩ ⟨Nat.le_of_ble_eq_true rfl, Nat.le_of_ble_eq_true rfl⟩ dX0_byTurns_6 ?_
  refine lv_if_eq (tgt := 30) hx hb dX0_byTurns_9 (by decide) (fun c1 => ?_) (fun c1 => ?_)
  · have h := it_t c1 h
    refine lv_iconst (v := (-1)) hx hb dX0_byTurns_30 (by decide) ?_
    obtain ⟨e8, rfl⟩ := Prod.mk.inj (Option.some.inj h)
    exact g_retG hx hb hr hlocks e8 hO hS dX0_byTurns_31
  · have h := it_f c1 h
    refine lv_iload_n hx hb dX0_byTurns_12 rfl (lv_at hl 1 rfl) ?_
    refine lv_bipush (v := 10) hx hb dX0_byTurns_13 (by decide) ?_
    refine g_irem hx hb dX0_byTurns_15 (by decide) ?_
    refine lv_bipush (v := 6) hx hb dX0_byTurns_16 (by decide) ?_
    refine lv_icmp_gt (tgt := 30) hx hb dX0_byTurns_18 (by decide) (fun c2 => ?_) (fun c2 => ?_)
    · have h := it_t c2 h
      refine lv_iconst (v := (-1)) hx hb dX0_byTurns_30 (by decide) ?_
      obtain ⟨e8, rfl⟩ := Prod.mk.inj (Option.some.inj h)
      exact g_retG hx hb hr hlocks e8 hO hS dX0_byTurns_31
    · have h := it_f c2 h
      refine lv_iload_n hx hb dX0_byTurns_21 rfl (lv_at hl 2 rfl) ?_
      refine lv_iconst (v := 0) hx hb dX0_byTurns_22 (by decide) ?_
      refine lv_iconst (v := 1) hx hb dX0_byTurns_23 (by decide) ?_
      refine clX0_in hf (metX0_in l x2 0 1 _ rfl) q309 hl.1 (Nat.le_of_ble_eq_true rfl) ⟨Nat.le_of_ble_eq_true rfl, Nat.le_of_ble_eq_true rfl⟩ ⟨Nat.le_of_ble_eq_true rfl, Nat.le_of_ble_eq_true rfl⟩ dX0_byTurns_24 ?_
      refine lv_if_ne (tgt := 32) hx hb dX0_byTurns_27 (by decide) (fun c3 => ?_) (fun c3 => ?_)
      · have h := it_f c3 h
        refine lv_aload_n hx hb dX0_byTurns_32 rfl (lv_at hl 0 rfl) ?_
        refine lv_iload_n hx hb dX0_byTurns_33 rfl (lv_at hl 1 rfl) ?_
        refine lv_bipush (v := 10) hx hb dX0_byTurns_34 (by decide) ?_
        refine g_irem hx hb dX0_byTurns_36 (by decide) ?_
        refine X0_putF hx hb hts hown hK hO hS 24 (by decide) rfl (by decide) (by decide) (hts _ q190) rfl (ty := .int) rfl rfl rfl dX0_byTurns_37 (fun H locs z4 ez4 hO hS => ?_)
        have h := pin_to ez4 h
        refine lv_iload_n hx hb dX0_byTurns_40 rfl (lv_at hl 1 rfl) ?_
        refine lv_bipush (v := 10) hx hb dX0_byTurns_41 (by decide) ?_
        refine lv_idiv hx hb dX0_byTurns_43 (by decide) ?_
        refine lv_topi (fun y5 ey5 => ?_)
        have h := pin_to ey5 h
        refine lv_istore_n (lv' := [(3, .int y5), (0, .ref o), (1, .int x1), (2, .int x2)]) hx hb dX0_byTurns_44 rfl hl (by decide) rfl (fun ls hl => ?_)
        refine lv_aload_n hx hb dX0_byTurns_45 rfl (lv_at hl 1 rfl) ?_
        refine lv_iload_n hx hb dX0_byTurns_46 rfl (lv_at hl 0 rfl) ?_
        refine lv_iconst (v := 1) hx hb dX0_byTurns_47 (by decide) ?_
        obtain ⟨r6, z7, e8, h⟩ := bnd_e h
        refine clX0_bestOf hf hK hO hA hZ hS (metX0_bestOf l D aC A o la 5 y5 1 z4 r6 z7 e8) q1001 hl.1 (Nat.le_of_ble_eq_true rfl) ⟨Nat.le_of_ble_eq_true rfl, Nat.le_of_ble_eq_true rfl⟩ ⟨Nat.le_of_ble_eq_true rfl, Nat.le_of_ble_eq_true rfl⟩ dX0_byTurns_48 (fun H locs hO hS => ?_)
        refine lv_istore (lv' := [(4, .int r6), (3, .int y5), (0, .ref o), (1, .int x1), (2, .int x2)]) hx hb dX0_byTurns_51 hl (by decide) rfl (fun ls hl => ?_)
        refine lv_iload_n hx hb dX0_byTurns_53 rfl (lv_at hl 4 rfl) ?_
        refine lv_if_ne (tgt := 60) hx hb dX0_byTurns_54 (by decide) (fun c9 => ?_) (fun c9 => ?_)
        · have h := it_f c9 h
          refine lv_aload_n hx hb dX0_byTurns_60 rfl (lv_at hl 2 rfl) ?_
          refine lv_bipush (v := 8) hx hb dX0_byTurns_61 (by decide) ?_
          refine lv_iload_n hx hb dX0_byTurns_63 rfl (lv_at hl 1 rfl) ?_
          refine lv_iconst (v := 1) hx hb dX0_byTurns_64 (by decide) ?_
          obtain ⟨r10, z11, e12, h⟩ := bnd_e h
          refine clX0_byDeed hf hK hO hA hZ hS (metX0_byDeed l D aC A o la 5 (FX0_bestOf 5) (metX0_bestOf l D aC A o la 5) 8 y5 1 z7 r10 z11 e12) q1009 hl.1 (Nat.le_of_ble_eq_true rfl) ⟨Nat.le_of_ble_eq_true rfl, Nat.le_of_ble_eq_true rfl⟩ ⟨Nat.le_of_ble_eq_true rfl, Nat.le_of_ble_eq_true rfl⟩ dX0_byTurns_65 (fun H locs hO hS => ?_)
          refine lv_iload hx hb dX0_byTurns_68 (lv_at hl 0 rfl) ?_
          refine lv_icmp_ne (tgt := 76) hx hb dX0_byTurns_70 (by decide) (fun c13 => ?_) (fun c13 => ?_)
          · have h := it_f c13 h
            refine lv_iconst (v := 0) hx hb dX0_byTurns_76 (by decide) ?_
            refine lv_istore (lv' := [(5, .int 0), (4, .int r6), (3, .int y5), (0, .ref o), (1, .int x1), (2, .int x2)]) hx hb dX0_byTurns_77 hl (by decide) rfl (fun ls hl => ?_)
            have key19 : ∀ (f : Nat) (v5 : Int32) (z : GS) (H : Heap) (locs : List Loc) (ls : Array Slot), FX0_byTurns_L79 y5 r6 f v5 z = some (r, zq) → OC D aC A o la z H → va_S A s.heap H locs → lv_has ls 6 [(0, .ref o), (3, .int y5), (4, .int r6), (5, .int v5)] → W p l e ({ frames := 1028, cells := 0, slots := 0, locals := 100650 }) s m ([.ref o, .int x1, .int x2] : List Value).toArray below meth c H locs 0 0 (MQ below (QG (some (.int r)) (OC D aC A o la zq) A) ([.ref o, .int x1, .int x2] : List Value).toArray s 0 0 A) (F0 m 79 ls []) := by
              intro f
              induction f with
              | zero =>
                intro v5 z H locs ls h
                rw [FX0_byTurns_L79] at h
                cases h
              | succ f ih14 =>
                intro v5 z H locs ls h hO hS hl
                rw [FX0_byTurns_L79] at h
                refine lv_aload_n hx hb dX0_byTurns_79 rfl (lv_at hl 0 rfl) ?_
                refine lv_iload hx hb dX0_byTurns_80 (lv_at hl 3 rfl) ?_
                refine lv_iload_n hx hb dX0_byTurns_82 rfl (lv_at hl 1 rfl) ?_
                refine lv_iconst (v := 1) hx hb dX0_byTurns_83 (by decide) ?_
                obtain ⟨r15, z16, e17, h⟩ := bnd_e h
                refine clX0_byDeed hf hK hO hA hZ hS (metX0_byDeed l D aC A o la 5 (FX0_bestOf 5) (metX0_bestOf l D aC A o la 5) v5 y5 1 z r15 z16 e17) q1009 hl.1 (Nat.le_of_ble_eq_true rfl) ⟨Nat.le_of_ble_eq_true rfl, Nat.le_of_ble_eq_true rfl⟩ ⟨Nat.le_of_ble_eq_true rfl, Nat.le_of_ble_eq_true rfl⟩ dX0_byTurns_84 (fun H locs hO hS => ?_)
                refine lv_iload hx hb dX0_byTurns_87 (lv_at hl 2 rfl) ?_
                refine lv_icmp_eq (tgt := 98) hx hb dX0_byTurns_89 (by decide) (fun c18 => ?_) (fun c18 => ?_)
                · have h := it_t c18 h
                  refine lv_iload hx hb dX0_byTurns_98 (lv_at hl 3 rfl) ?_
                  obtain ⟨e8, rfl⟩ := Prod.mk.inj (Option.some.inj h)
                  exact g_retG hx hb hr hlocks e8 hO hS dX0_byTurns_100
                · have h := it_f c18 h
                  refine lv_iinc (v := (v5 + 1)) (lv' := [(5, .int (v5 + 1)), (0, .ref o), (3, .int y5), (4, .int r6)]) hx hb dX0_byTurns_92 hl (k := 3) rfl rfl (by decide) rfl (fun ls hl => ?_)
                  refine lv_goto (tgt := 79) hx hb dX0_byTurns_95 (by decide) ?_
                  exact ih14 _ _ _ _ _ h hO hS (lv_sub hl [1, 2, 3, 0] rfl)
            exact key19 FU _ _ _ _ _ h hO hS (lv_sub hl [3, 2, 1, 0] rfl)
          · have h := it_t c13 h
            refine lv_bipush (v := 8) hx hb dX0_byTurns_73 (by decide) ?_
            obtain ⟨e8, rfl⟩ := Prod.mk.inj (Option.some.inj h)
            exact g_retG hx hb hr hlocks e8 hO hS dX0_byTurns_75
        · have h := it_t c9 h
          refine lv_iload hx hb dX0_byTurns_57 (lv_at hl 0 rfl) ?_
          obtain ⟨e8, rfl⟩ := Prod.mk.inj (Option.some.inj h)
          exact g_retG hx hb hr hlocks e8 hO hS dX0_byTurns_59
      · have h := it_t c3 h
        refine lv_iconst (v := (-1)) hx hb dX0_byTurns_30 (by decide) ?_
        obtain ⟨e8, rfl⟩ := Prod.mk.inj (Option.some.inj h)
        exact g_retG hx hb hr hlocks e8 hO hS dX0_byTurns_31
theorem clX0_byTurns {p : Program} {l : Launch} {e : Env} {R : Room} {s : State} {m : MethodId} {args : Array Value} {below : List Frame} {meth : Method} {c : Code} {H : Heap} {locs : List Loc} {cells slots : Nat} {Q : State → Prop} {cc : ByteArray} {pc nL idx fr lo : Nat} {ls : Array Slot} {rest : List Value} {own : String} {D : va_G} {aC : Nat → ClassId} {A : Nat → Prop} {o : Nat} {la : LC} {z : GS} {zq : GS} {x1 : Int32} {x2 : Int32} {r : Int32} (hf : CallFix p m c cc nL s args lw_all own) (hK : KC D aC s) (hO : OC D aC A o la z H) (hA : ∀ q : Nat, s.heap.size ≤ q → A q) (hZ : ZX A s s.heap) (hS : va_S A s.heap H locs) (hM : Met l yX0_byTurns (ws_ yX0_byTurns cX0_byTurns 6 (some .int)) ({ frames := fr, cells := 0, slots := 0, locals := lo }) (va_Pc [.ref o, .int x1, .int x2] (PC D aC A o la z)) (QG (some (.int r)) (OC D aC A o la zq) A) 0 0 A) (hq : Cond.methodLink own idx yX0_byTurns ∈ lw_all) (hs : ls.size = nL) (hr : (rest.map fun v => v.category).sum ≤ 8) (hR : fr + 1 ≤ R.frames ∧ 8 + (6 + 11) + lo ≤ R.locals) (hcs : cells + 0 ≤ R.cells ∧ slots + 0 ≤ R.slots) (hd : decode cc pc = .ok (.invokevirtual idx, 3)) (kk : ∀ (H1 : Heap) (locs1 : List Loc), OC D aC A o la zq H1 → va_S A s.heap H1 locs1 → W p l e R s m args below meth c H1 locs1 cells slots Q (F0 m (pc + 3) ls (.int r :: rest))) : W p l e R s m args below meth c H locs cells slots Q (F0 m pc ls (.int x2 :: .int x1 :: .ref o :: rest)) :=
  g_callG (W.runV (As := [.int x1, .int x2]) (rest := rest) hf hM (cwV 2 hf.2.2.2.2 (lw_V hq q998 q999 q90 q1000) rfl rfl rfl (by decide +kernel) hR) ⟨PC.blind, OC.recv hK hO, fun U hU hW => ⟨rfl, PC.at hO hK hA hZ hS hU hW⟩⟩ rfl rfl hs rfl (lv_room hr) hd hcs) hS (fun H1 locs1 hP hS _ _ => kk H1 locs1 hP hS)
theorem metX0_drawn (l : Launch) (D : va_G) (aC : Nat → ClassId) (A : Nat → Prop) (o : Nat) (la : LC) (x1 : Int32) (x2 : Int32) (x3 : Int32) (z : GS) (r : Int32) (zq : GS) (h : FX0_drawn x1 x2 x3 z = some (r, zq)) : Met l yX0_drawn (ws_ yX0_drawn cX0_drawn 9 (some .int)) ({ frames := 203, cells := 0, slots := 0, locals := 20067 }) (va_Pc [.ref o, .int x1, .int x2, .int x3] (PC D aC A o la z)) (QG (some (.int r)) (OC D aC A o la zq) A) 0 0 A := by
  refine g_ofW (cc := cX0_drawn) (maxL := 9) (ret := (some .int)) (own := RX0) (by decide) rfl rfl [.ref o, .int x1, .int x2, .int x3] (PC D aC A o la z) (Nat.le_of_ble_eq_true rfl) ?_
  intro p e s m below meth c ls hx hb hr hml hts hown hlocks hnm hPre hl
  obtain ⟨hO, hK, hA, hZ⟩ := hPre
  have hf : CallFix p m c cX0_drawn 9 s _ lw_all RX0 := ⟨hx, hb, hml, hown, hts⟩
  have hl : lv_has ls 9 [(0, .ref o), (1, .int x1), (2, .int x2), (3, .int x3)] := hl
  refine g_open (A := A) (OC D aC A o la z) hO (fun H locs hO hS => ?_)
  unfold FX0_drawn at h
  refine lv_iload_n hx hb dX0_drawn_0 rfl (lv_at hl 2 rfl) ?_
  refine lv_if_lt (tgt := 44) hx hb dX0_drawn_1 (by decide) (fun c1 => ?_) (fun c1 => ?_)
  · have h := it_t c1 h
    refine lv_iconst (v := (-1)) hx hb dX0_drawn_44 (by decide) ?_
    obtain ⟨e8, rfl⟩ := Prod.mk.inj (Option.some.inj h)
    exact g_retG hx hb hr hlocks e8 hO hS dX0_drawn_45
  · have h := it_f c1 h
    refine lv_iload_n hx hb dX0_drawn_4 rfl (lv_at hl 2 rfl) ?_
    refine lv_bipush (v := 100) hx hb dX0_drawn_5 (by decide) ?_
    refine lv_idiv hx hb dX0_drawn_7 (by decide) ?_
    refine lv_iconst (v := 1) hx hb dX0_drawn_8 (by decide) ?_
    refine lv_bipush (v := 30) hx hb dX0_drawn_9 (by decide) ?_
    refine clX0_in hf (metX0_in l (x2 / 100) 1 30 _ rfl) q309 hl.1 (Nat.le_of_ble_eq_true rfl) ⟨Nat.le_of_ble_eq_true rfl, Nat.le_of_ble_eq_true rfl⟩ ⟨Nat.le_of_ble_eq_true rfl, Nat.le_of_ble_eq_true rfl⟩ dX0_drawn_11 ?_
    refine lv_if_eq (tgt := 44) hx hb dX0_drawn_14 (by decide) (fun c2 => ?_) (fun c2 => ?_)
    · have h := it_t c2 h
      refine lv_iconst (v := (-1)) hx hb dX0_drawn_44 (by decide) ?_
      obtain ⟨e8, rfl⟩ := Prod.mk.inj (Option.some.inj h)
      exact g_retG hx hb hr hlocks e8 hO hS dX0_drawn_45
    · have h := it_f c2 h
      refine lv_iload_n hx hb dX0_drawn_17 rfl (lv_at hl 2 rfl) ?_
      refine lv_bipush (v := 100) hx hb dX0_drawn_18 (by decide) ?_
      refine g_irem hx hb dX0_drawn_20 (by decide) ?_
      refine lv_iconst (v := 1) hx hb dX0_drawn_21 (by decide) ?_
      refine lv_bipush (v := 40) hx hb dX0_drawn_22 (by decide) ?_
      refine clX0_in hf (metX0_in l (jrem x2 100) 1 40 _ rfl) q309 hl.1 (Nat.le_of_ble_eq_true rfl) ⟨Nat.le_of_ble_eq_true rfl, Nat.le_of_ble_eq_true rfl⟩ ⟨Nat.le_of_ble_eq_true rfl, Nat.le_of_ble_eq_true rfl⟩ dX0_drawn_24 ?_
      refine lv_if_eq (tgt := 44) hx hb dX0_drawn_27 (by decide) (fun c3 => ?_) (fun c3 => ?_)
      · have h := it_t c3 h
        refine lv_iconst (v := (-1)) hx hb dX0_drawn_44 (by decide) ?_
        obtain ⟨e8, rfl⟩ := Prod.mk.inj (Option.some.inj h)
        exact g_retG hx hb hr hlocks e8 hO hS dX0_drawn_45
      · have h := it_f c3 h
        refine lv_iload_n hx hb dX0_drawn_30 rfl (lv_at hl 3 rfl) ?_
        refine lv_iconst (v := (-1)) hx hb dX0_drawn_31 (by decide) ?_
        refine lv_aload_n hx hb dX0_drawn_32 rfl (lv_at hl 0 rfl) ?_
        refine X0_getF hx hb hts hown hK hO 1 (by decide) rfl (hts _ q165) dX0_drawn_33 ?_
        refine lv_iconst (v := 1) hx hb dX0_drawn_36 (by decide) ?_
        refine lv_isub hx hb dX0_drawn_37 ?_
        refine clX0_in hf (metX0_in l x3 (-1) ((gF z 1) - 1) _ rfl) q309 hl.1 (Nat.le_of_ble_eq_true rfl) ⟨Nat.le_of_ble_eq_true rfl, Nat.le_of_ble_eq_true rfl⟩ ⟨Nat.le_of_ble_eq_true rfl, Nat.le_of_ble_eq_true rfl⟩ dX0_drawn_38 ?_
        refine lv_if_ne (tgt := 46) hx hb dX0_drawn_41 (by decide) (fun c4 => ?_) (fun c4 => ?_)
        · have h := it_f c4 h
          refine lv_iload_n hx hb dX0_drawn_46 rfl (lv_at hl 1 rfl) ?_
          refine lv_istore (lv' := [(4, .int x1), (0, .ref o), (1, .int x1), (2, .int x2), (3, .int x3)]) hx hb dX0_drawn_47 hl (by decide) rfl (fun ls hl => ?_)
          refine lv_iconst (v := 0) hx hb dX0_drawn_49 (by decide) ?_
          refine lv_istore (lv' := [(5, .int 0), (4, .int x1), (0, .ref o), (1, .int x1), (2, .int x2), (3, .int x3)]) hx hb dX0_drawn_50 hl (by decide) rfl (fun ls hl => ?_)
          refine lv_iconst (v := 0) hx hb dX0_drawn_52 (by decide) ?_
          refine lv_istore (lv' := [(6, .int 0), (5, .int 0), (4, .int x1), (0, .ref o), (1, .int x1), (2, .int x2), (3, .int x3)]) hx hb dX0_drawn_53 hl (by decide) rfl (fun ls hl => ?_)
          have key36 : ∀ (f : Nat) (v4 : Int32) (v5 : Int32) (v6 : Int32) (z : GS) (H : Heap) (locs : List Loc) (ls : Array Slot), FX0_drawn_L55 x2 x3 f v4 v5 v6 z = some (r, zq) → OC D aC A o la z H → va_S A s.heap H locs → lv_has ls 9 [(0, .ref o), (2, .int x2), (3, .int x3), (4, .int v4), (5, .int v5), (6, .int v6)] → W p l e ({ frames := 203, cells := 0, slots := 0, locals := 20067 }) s m ([.ref o, .int x1, .int x2, .int x3] : List Value).toArray below meth c H locs 0 0 (MQ below (QG (some (.int r)) (OC D aC A o la zq) A) ([.ref o, .int x1, .int x2, .int x3] : List Value).toArray s 0 0 A) (F0 m 55 ls []) := by
            intro f
            induction f with
            | zero =>
              intro v4 v5 v6 z H locs ls h
              rw [FX0_drawn_L55] at h
              cases h
            | succ f ih5 =>
              intro v4 v5 v6 z H locs ls h hO hS hl
              rw [FX0_drawn_L55] at h
              refine lv_iload hx hb dX0_drawn_55 (lv_at hl 5 rfl) ?_
              refine lv_iload_n hx hb dX0_drawn_57 rfl (lv_at hl 1 rfl) ?_
              refine lv_bipush (v := 100) hx hb dX0_drawn_58 (by decide) ?_
              refine lv_idiv hx hb dX0_drawn_60 (by decide) ?_
              refine lv_icmp_ge (tgt := 175) hx hb dX0_drawn_61 (by decide) (fun c6 => ?_) (fun c6 => ?_)
              · have h := it_t c6 h
                refine lv_iload hx hb dX0_drawn_175 (lv_at hl 4 rfl) ?_
                obtain ⟨e8, rfl⟩ := Prod.mk.inj (Option.some.inj h)
                exact g_retG hx hb hr hlocks e8 hO hS dX0_drawn_177
              · have h := it_f c6 h
                refine lv_aload_n hx hb dX0_drawn_64 rfl (lv_at hl 0 rfl) ?_
                obtain ⟨z7, e8, h⟩ := bn1_e h
                refine clX0_layNow hf hK hO hA hZ hS (metX0_layNow l D aC A o la z z7 e8) q802 hl.1 (Nat.le_of_ble_eq_true rfl) ⟨Nat.le_of_ble_eq_true rfl, Nat.le_of_ble_eq_true rfl⟩ ⟨Nat.le_of_ble_eq_true rfl, Nat.le_of_ble_eq_true rfl⟩ dX0_drawn_65 (fun H locs hO hS => ?_)
                refine lv_iconst (v := 0) hx hb dX0_drawn_68 (by decide) ?_
                refine lv_istore (lv' := [(7, .int 0), (0, .ref o), (2, .int x2), (3, .int x3), (4, .int v4), (5, .int v5), (6, .int v6)]) hx hb dX0_drawn_69 hl (by decide) rfl (fun ls hl => ?_)
                obtain ⟨k9, e35, h⟩ := pin_nm h
                have hk9 : ∀ (v10 : Int32) (z11 : GS) (H : Heap) (locs : List Loc) (ls : Array Slot), k9 v10 z11 = some (r, zq) → OC D aC A o la z11 H → va_S A s.heap H locs → lv_has ls 9 [(0, .ref o), (2, .int x2), (3, .int x3), (4, .int v10), (5, .int v5), (6, .int v6)] → W p l e ({ frames := 203, cells := 0, slots := 0, locals := 20067 }) s m ([.ref o, .int x1, .int x2, .int x3] : List Value).toArray below meth c H locs 0 0 (MQ below (QG (some (.int r)) (OC D aC A o la zq) A) ([.ref o, .int x1, .int x2, .int x3] : List Value).toArray s 0 0 A) (F0 m 147 ls []) := by
                  intro v10 z11 H locs ls h hO hS hl
                  rw [e35] at h
                  refine lv_iload hx hb dX0_drawn_147 (lv_at hl 4 rfl) ?_
                  refine lv_iload_n hx hb dX0_drawn_149 rfl (lv_at hl 2 rfl) ?_
                  obtain ⟨k12, e19, h⟩ := pin_nm h
                  have hk12 : ∀ (u13 : Int32) (ls : Array Slot), k12 u13 = some (r, zq) → lv_has ls 9 [(0, .ref o), (2, .int x2), (3, .int x3), (4, .int v10), (6, .int v6)] → W p l e ({ frames := 203, cells := 0, slots := 0, locals := 20067 }) s m ([.ref o, .int x1, .int x2, .int x3] : List Value).toArray below meth c H locs 0 0 (MQ below (QG (some (.int r)) (OC D aC A o la zq) A) ([.ref o, .int x1, .int x2, .int x3] : List Value).toArray s 0 0 A) (F0 m 166 ls [.int u13, .int v5]) := by
                    intro u13 ls h hl
                    rw [e19] at h
                    refine lv_iadd hx hb dX0_drawn_166 ?_
                    refine lv_topi (fun y14 ey14 => ?_)
                    have h := pin_to ey14 h
                    refine lv_istore (lv' := [(5, .int y14), (0, .ref o), (2, .int x2), (3, .int x3), (4, .int v10), (6, .int v6)]) hx hb dX0_drawn_167 hl (by decide) rfl (fun ls hl => ?_)
                    refine lv_iinc (v := (v6 + 1)) (lv' := [(6, .int (v6 + 1)), (5, .int y14), (0, .ref o), (2, .int x2), (3, .int x3), (4, .int v10)]) hx hb dX0_drawn_169 hl (k := 5) rfl rfl (by decide) rfl (fun ls hl => ?_)
                    refine lv_goto (tgt := 55) hx hb dX0_drawn_172 (by decide) ?_
                    exact ih5 _ _ _ _ _ _ _ h hO hS (lv_sub hl [2, 3, 4, 5, 1, 0] rfl)
                  refine lv_if_ge (tgt := 160) hx hb dX0_drawn_150 (by decide) (fun c15 => ?_) (fun c15 => ?_)
                  · have h := it_t c15 h
                    refine lv_aload_n hx hb dX0_drawn_160 rfl (lv_at hl 0 rfl) ?_
                    refine X0_getA hx hb hts hown hK hO 11 (by decide) (Or.inl rfl) (hts _ q177) dX0_drawn_161 ?_
                    refine lv_iload_n hx hb dX0_drawn_164 rfl (lv_at hl 2 rfl) ?_
                    obtain ⟨g16, h⟩ := grd h
                    refine X0_iaload hx hb hK hO 11 (by decide) rfl rfl g16 dX0_drawn_165 ?_
                    exact hk12 _ _ h (lv_sub hl [0, 1, 2, 3, 5] rfl)
                  · have h := it_f c15 h
                    refine lv_aload_n hx hb dX0_drawn_153 rfl (lv_at hl 0 rfl) ?_
                    obtain ⟨r17, e18, h⟩ := bn1_e h
                    refine clX0_lackMany hf hK hO hA hZ hS (metX0_lackMany l D aC A o la z11 r17 e18) q926 hl.1 (Nat.le_of_ble_eq_true rfl) ⟨Nat.le_of_ble_eq_true rfl, Nat.le_of_ble_eq_true rfl⟩ ⟨Nat.le_of_ble_eq_true rfl, Nat.le_of_ble_eq_true rfl⟩ dX0_drawn_154 ?_
                    refine lv_goto (tgt := 166) hx hb dX0_drawn_157 (by decide) ?_
                    exact hk12 _ _ h (lv_sub hl [0, 1, 2, 3, 5] rfl)
                have key34 : ∀ (f : Nat) (v4 : Int32) (v7 : Int32) (z : GS) (H : Heap) (locs : List Loc) (ls : Array Slot), FX0_drawn_L71 k9 x2 x3 v5 v6 f v4 v7 z = some (r, zq) → OC D aC A o la z H → va_S A s.heap H locs → lv_has ls 9 [(0, .ref o), (2, .int x2), (3, .int x3), (4, .int v4), (5, .int v5), (6, .int v6), (7, .int v7)] → W p l e ({ frames := 203, cells := 0, slots := 0, locals := 20067 }) s m ([.ref o, .int x1, .int x2, .int x3] : List Value).toArray below meth c H locs 0 0 (MQ below (QG (some (.int r)) (OC D aC A o la zq) A) ([.ref o, .int x1, .int x2, .int x3] : List Value).toArray s 0 0 A) (F0 m 71 ls []) := by
                  intro f
                  induction f with
                  | zero =>
                    intro v4 v7 z H locs ls h
                    rw [FX0_drawn_L71] at h
                    cases h
                  | succ f ih20 =>
                    intro v4 v7 z H locs ls h hO hS hl
                    rw [FX0_drawn_L71] at h
                    refine lv_iload hx hb dX0_drawn_71 (lv_at hl 6 rfl) ?_
                    refine lv_iload_n hx hb dX0_drawn_73 rfl (lv_at hl 1 rfl) ?_
                    refine lv_bipush (v := 100) hx hb dX0_drawn_74 (by decide) ?_
                    refine g_irem hx hb dX0_drawn_76 (by decide) ?_
                    refine lv_icmp_ge (tgt := 147) hx hb dX0_drawn_77 (by decide) (fun c21 => ?_) (fun c21 => ?_)
                    · have h := it_t c21 h
                      exact hk9 _ _ _ _ _ h hO hS (lv_sub hl [0, 1, 2, 3, 4, 5] rfl)
                    · have h := it_f c21 h
                      refine lv_iload hx hb dX0_drawn_80 (lv_at hl 3 rfl) ?_
                      refine lv_ldcw (v := 1103515245) hx hb hown (hts _ q1021) dX0_drawn_82 ?_
                      refine lv_imul hx hb dX0_drawn_85 ?_
                      refine lv_sipush (v := 12345) hx hb dX0_drawn_86 (by decide) ?_
                      refine lv_iadd hx hb dX0_drawn_89 ?_
                      refine lv_topi (fun y22 ey22 => ?_)
                      have h := pin_to ey22 h
                      refine lv_istore (lv' := [(4, .int y22), (0, .ref o), (2, .int x2), (3, .int x3), (5, .int v5), (6, .int v6), (7, .int v7)]) hx hb dX0_drawn_90 hl (by decide) rfl (fun ls hl => ?_)
                      refine lv_aload_n hx hb dX0_drawn_92 rfl (lv_at hl 1 rfl) ?_
                      refine X0_getF hx hb hts hown hK hO 1 (by decide) rfl (hts _ q165) dX0_drawn_93 ?_
                      obtain ⟨k23, e33, h⟩ := pin_nm h
                      have hk23 : ∀  (z24 : GS) (H : Heap) (locs : List Loc) (ls : Array Slot), k23  z24 = some (r, zq) → OC D aC A o la z24 H → va_S A s.heap H locs → lv_has ls 9 [(0, .ref o), (2, .int x2), (3, .int x3), (4, .int y22), (5, .int v5), (6, .int v6), (7, .int v7)] → W p l e ({ frames := 203, cells := 0, slots := 0, locals := 20067 }) s m ([.ref o, .int x1, .int x2, .int x3] : List Value).toArray below meth c H locs 0 0 (MQ below (QG (some (.int r)) (OC D aC A o la zq) A) ([.ref o, .int x1, .int x2, .int x3] : List Value).toArray s 0 0 A) (F0 m 137 ls []) := by
                        intro  z24 H locs ls h hO hS hl
                        rw [e33] at h
                        refine lv_aload_n hx hb dX0_drawn_137 rfl (lv_at hl 0 rfl) ?_
                        obtain ⟨z25, e26, h⟩ := bn1_e h
                        refine clX0_goDay hf hK hO hA hZ hS (metX0_goDay l D aC A o la z24 z25 e26) q868 hl.1 (Nat.le_of_ble_eq_true rfl) ⟨Nat.le_of_ble_eq_true rfl, Nat.le_of_ble_eq_true rfl⟩ ⟨Nat.le_of_ble_eq_true rfl, Nat.le_of_ble_eq_true rfl⟩ dX0_drawn_138 (fun H locs hO hS => ?_)
                        refine lv_iinc (v := (v7 + 1)) (lv' := [(7, .int (v7 + 1)), (0, .ref o), (2, .int x2), (3, .int x3), (4, .int y22), (5, .int v5), (6, .int v6)]) hx hb dX0_drawn_141 hl (k := 6) rfl rfl (by decide) rfl (fun ls hl => ?_)
                        refine lv_goto (tgt := 71) hx hb dX0_drawn_144 (by decide) ?_
                        exact ih20 _ _ _ _ _ _ h hO hS (lv_sub hl [1, 2, 3, 4, 5, 6, 0] rfl)
                      refine lv_if_le (tgt := 137) hx hb dX0_drawn_96 (by decide) (fun c27 => ?_) (fun c27 => ?_)
                      · have h := it_t c27 h
                        exact hk23 _ _ _ _ h hO hS (lv_sub hl [1, 2, 3, 0, 4, 5, 6] rfl)
                      · have h := it_f c27 h
                        refine lv_iload hx hb dX0_drawn_99 (lv_at hl 0 rfl) ?_
                        refine lv_bipush (v := 8) hx hb dX0_drawn_101 (by decide) ?_
                        refine g_iushr hx hb dX0_drawn_103 ?_
                        refine lv_aload_n hx hb dX0_drawn_104 rfl (lv_at hl 1 rfl) ?_
                        refine X0_getF hx hb hts hown hK hO 1 (by decide) rfl (hts _ q165) dX0_drawn_105 ?_
                        obtain ⟨g28, h⟩ := grd h
                        refine g_irem hx hb dX0_drawn_108 g28 ?_
                        refine lv_topi (fun y29 ey29 => ?_)
                        have h := pin_to ey29 h
                        refine lv_istore (lv' := [(8, .int y29), (4, .int y22), (0, .ref o), (2, .int x2), (3, .int x3), (5, .int v5), (6, .int v6), (7, .int v7)]) hx hb dX0_drawn_109 hl (by decide) rfl (fun ls hl => ?_)
                        refine lv_aload_n hx hb dX0_drawn_111 rfl (lv_at hl 2 rfl) ?_
                        refine X0_getA hx hb hts hown hK hO 11 (by decide) (Or.inl rfl) (hts _ q177) dX0_drawn_112 ?_
                        refine lv_iload hx hb dX0_drawn_115 (lv_at hl 0 rfl) ?_
                        refine lv_aload_n hx hb dX0_drawn_117 rfl (lv_at hl 2 rfl) ?_
                        refine X0_getA hx hb hts hown hK hO 11 (by decide) (Or.inl rfl) (hts _ q177) dX0_drawn_118 ?_
                        refine lv_iload hx hb dX0_drawn_121 (lv_at hl 0 rfl) ?_
                        obtain ⟨g30, h⟩ := grd h
                        refine X0_iaload hx hb hK hO 11 (by decide) rfl rfl g30 dX0_drawn_123 ?_
                        refine lv_iload hx hb dX0_drawn_124 (lv_at hl 1 rfl) ?_
                        refine lv_bipush (v := 16) hx hb dX0_drawn_126 (by decide) ?_
                        refine g_iushr hx hb dX0_drawn_128 ?_
                        refine lv_bipush (v := 10) hx hb dX0_drawn_129 (by decide) ?_
                        refine g_irem hx hb dX0_drawn_131 (by decide) ?_
                        refine lv_isub hx hb dX0_drawn_132 ?_
                        refine clX0_held hf (metX0_held l ((gI z 11 y29) - (jrem (jushr y22 16) 10)) _ rfl) q872 hl.1 (Nat.le_of_ble_eq_true rfl) ⟨Nat.le_of_ble_eq_true rfl, Nat.le_of_ble_eq_true rfl⟩ ⟨Nat.le_of_ble_eq_true rfl, Nat.le_of_ble_eq_true rfl⟩ dX0_drawn_133 ?_
                        obtain ⟨g31, h⟩ := grd h
                        refine X0_iastore hx hb hK hO hS 11 (by decide) rfl rfl g31 dX0_drawn_136 (fun H locs z32 ez32 hO hS => ?_)
                        have h := pin_to ez32 h
                        exact hk23 _ _ _ _ h hO hS (lv_sub hl [2, 3, 4, 1, 5, 6, 7] rfl)
                exact key34 FU _ _ _ _ _ _ h hO hS (lv_sub hl [1, 2, 3, 4, 5, 6, 0] rfl)
          exact key36 FU _ _ _ _ _ _ _ h hO hS (lv_sub hl [3, 5, 6, 2, 1, 0] rfl)
        · have h := it_t c4 h
          refine lv_iconst (v := (-1)) hx hb dX0_drawn_44 (by decide) ?_
          obtain ⟨e8, rfl⟩ := Prod.mk.inj (Option.some.inj h)
          exact g_retG hx hb hr hlocks e8 hO hS dX0_drawn_45
theorem clX0_drawn {p : Program} {l : Launch} {e : Env} {R : Room} {s : State} {m : MethodId} {args : Array Value} {below : List Frame} {meth : Method} {c : Code} {H : Heap} {locs : List Loc} {cells slots : Nat} {Q : State → Prop} {cc : ByteArray} {pc nL idx fr lo : Nat} {ls : Array Slot} {rest : List Value} {own : String} {D : va_G} {aC : Nat → ClassId} {A : Nat → Prop} {o : Nat} {la : LC} {z : GS} {zq : GS} {x1 : Int32} {x2 : Int32} {x3 : Int32} {r : Int32} (hf : CallFix p m c cc nL s args lw_all own) (hK : KC D aC s) (hO : OC D aC A o la z H) (hA : ∀ q : Nat, s.heap.size ≤ q → A q) (hZ : ZX A s s.heap) (hS : va_S A s.heap H locs) (hM : Met l yX0_drawn (ws_ yX0_drawn cX0_drawn 9 (some .int)) ({ frames := fr, cells := 0, slots := 0, locals := lo }) (va_Pc [.ref o, .int x1, .int x2, .int x3] (PC D aC A o la z)) (QG (some (.int r)) (OC D aC A o la zq) A) 0 0 A) (hq : Cond.methodLink own idx yX0_drawn ∈ lw_all) (hs : ls.size = nL) (hr : (rest.map fun v => v.category).sum ≤ 8) (hR : fr + 1 ≤ R.frames ∧ 8 + (9 + 11) + lo ≤ R.locals) (hcs : cells + 0 ≤ R.cells ∧ slots + 0 ≤ R.slots) (hd : decode cc pc = .ok (.invokevirtual idx, 3)) (kk : ∀ (H1 : Heap) (locs1 : List Loc), OC D aC A o la zq H1 → va_S A s.heap H1 locs1 → W p l e R s m args below meth c H1 locs1 cells slots Q (F0 m (pc + 3) ls (.int r :: rest))) : W p l e R s m args below meth c H locs cells slots Q (F0 m pc ls (.int x3 :: .int x2 :: .int x1 :: .ref o :: rest)) :=
  g_callG (W.runV (As := [.int x1, .int x2, .int x3]) (rest := rest) hf hM (cwV 3 hf.2.2.2.2 (lw_V hq q1018 q1019 q90 q1020) rfl rfl rfl (by decide +kernel) hR) ⟨PC.blind, OC.recv hK hO, fun U hU hW => ⟨rfl, PC.at hO hK hA hZ hS hU hW⟩⟩ rfl rfl hs rfl (lv_room hr) hd hcs) hS (fun H1 locs1 hP hS _ _ => kk H1 locs1 hP hS)
theorem metX0_day (l : Launch) (D : va_G) (aC : Nat → ClassId) (A : Nat → Prop) (o : Nat) (la : LC)  (z : GS) (r : Int32) (zq : GS) (h : FX0_day z = some (r, zq)) : Met l yX0_day (ws_ yX0_day cX0_day 3 (some .int)) ({ frames := 203, cells := 0, slots := 0, locals := 20067 }) (va_Pc [.ref o] (PC D aC A o la z)) (QG (some (.int r)) (OC D aC A o la zq) A) 0 0 A := by
  refine g_ofW (cc := cX0_day) (maxL := 3) (ret := (some .int)) (own := RX0) (by decide) rfl rfl [.ref o] (PC D aC A o la z) (Nat.le_of_ble_eq_true rfl) ?_
  intro p e s m below meth c ls hx hb hr hml hts hown hlocks hnm hPre hl
  obtain ⟨hO, hK, hA, hZ⟩ := hPre
  have hf : CallFix p m c cX0_day 3 s _ lw_all RX0 := ⟨hx, hb, hml, hown, hts⟩
  have hl : lv_has ls 3 [(0, .ref o)] := hl
  refine g_open (A := A) (OC D aC A o la z) hO (fun H locs hO hS => ?_)
  unfold FX0_day at h
  refine lv_aload_n hx hb dX0_day_0 rfl (lv_at hl 0 rfl) ?_
  obtain ⟨z1, e2, h⟩ := bn1_e h
  refine clX0_layNow hf hK hO hA hZ hS (metX0_layNow l D aC A o la z z1 e2) q802 hl.1 (Nat.le_of_ble_eq_true rfl) ⟨Nat.le_of_ble_eq_true rfl, Nat.le_of_ble_eq_true rfl⟩ ⟨Nat.le_of_ble_eq_true rfl, Nat.le_of_ble_eq_true rfl⟩ dX0_day_1 (fun H locs hO hS => ?_)
  refine lv_aload_n hx hb dX0_day_4 rfl (lv_at hl 0 rfl) ?_
  obtain ⟨r3, e4, h⟩ := bn1_e h
  refine clX0_lackBits hf hK hO hA hZ hS (metX0_lackBits l D aC A o la z1 r3 e4) q883 hl.1 (Nat.le_of_ble_eq_true rfl) ⟨Nat.le_of_ble_eq_true rfl, Nat.le_of_ble_eq_true rfl⟩ ⟨Nat.le_of_ble_eq_true rfl, Nat.le_of_ble_eq_true rfl⟩ dX0_day_5 ?_
  refine lv_istore_n (lv' := [(1, .int r3), (0, .ref o)]) hx hb dX0_day_8 rfl hl (by decide) rfl (fun ls hl => ?_)
  refine lv_aload_n hx hb dX0_day_9 rfl (lv_at hl 1 rfl) ?_
  obtain ⟨z5, e6, h⟩ := bn1_e h
  refine clX0_goDay hf hK hO hA hZ hS (metX0_goDay l D aC A o la z1 z5 e6) q868 hl.1 (Nat.le_of_ble_eq_true rfl) ⟨Nat.le_of_ble_eq_true rfl, Nat.le_of_ble_eq_true rfl⟩ ⟨Nat.le_of_ble_eq_true rfl, Nat.le_of_ble_eq_true rfl⟩ dX0_day_10 (fun H locs hO hS => ?_)
  refine lv_iconst (v := 0) hx hb dX0_day_13 (by decide) ?_
  refine lv_istore_n (lv' := [(2, .int 0), (1, .int r3), (0, .ref o)]) hx hb dX0_day_14 rfl hl (by decide) rfl (fun ls hl => ?_)
  obtain ⟨k7, e23, h⟩ := pin_nm h
  have hk7 : ∀  (z8 : GS) (H : Heap) (locs : List Loc) (ls : Array Slot), k7  z8 = some (r, zq) → OC D aC A o la z8 H → va_S A s.heap H locs → lv_has ls 3 [(0, .ref o), (1, .int r3)] → W p l e ({ frames := 203, cells := 0, slots := 0, locals := 20067 }) s m ([.ref o] : List Value).toArray below meth c H locs 0 0 (MQ below (QG (some (.int r)) (OC D aC A o la zq) A) ([.ref o] : List Value).toArray s 0 0 A) (F0 m 44 ls []) := by
    intro  z8 H locs ls h hO hS hl
    rw [e23] at h
    refine lv_aload_n hx hb dX0_day_44 rfl (lv_at hl 0 rfl) ?_
    refine lv_aload_n hx hb dX0_day_45 rfl (lv_at hl 0 rfl) ?_
    refine X0_getF hx hb hts hown hK hO 15 (by decide) rfl (hts _ q181) dX0_day_46 ?_
    refine X0_putF hx hb hts hown hK hO hS 3 (by decide) rfl (by decide) (by decide) (hts _ q167) rfl (ty := .int) rfl rfl rfl dX0_day_49 (fun H locs z9 ez9 hO hS => ?_)
    have h := pin_to ez9 h
    refine lv_aload_n hx hb dX0_day_52 rfl (lv_at hl 0 rfl) ?_
    refine lv_dup hx hb dX0_day_53 rfl ?_
    refine X0_getF hx hb hts hown hK hO 25 (by decide) rfl (hts _ q191) dX0_day_54 ?_
    refine lv_iconst (v := 1) hx hb dX0_day_57 (by decide) ?_
    refine lv_iadd hx hb dX0_day_58 ?_
    refine X0_putF hx hb hts hown hK hO hS 25 (by decide) rfl (by decide) (by decide) (hts _ q191) rfl (ty := .int) rfl rfl rfl dX0_day_59 (fun H locs z10 ez10 hO hS => ?_)
    have h := pin_to ez10 h
    refine lv_aload_n hx hb dX0_day_62 rfl (lv_at hl 0 rfl) ?_
    refine lv_dup hx hb dX0_day_63 rfl ?_
    refine X0_getF hx hb hts hown hK hO 26 (by decide) rfl (hts _ q192) dX0_day_64 ?_
    refine lv_aload_n hx hb dX0_day_67 rfl (lv_at hl 0 rfl) ?_
    refine X0_getF hx hb hts hown hK hO 17 (by decide) rfl (hts _ q183) dX0_day_68 ?_
    refine lv_iadd hx hb dX0_day_71 ?_
    refine X0_putF hx hb hts hown hK hO hS 26 (by decide) rfl (by decide) (by decide) (hts _ q192) rfl (ty := .int) rfl rfl rfl dX0_day_72 (fun H locs z11 ez11 hO hS => ?_)
    have h := pin_to ez11 h
    refine lv_aload_n hx hb dX0_day_75 rfl (lv_at hl 0 rfl) ?_
    refine lv_dup hx hb dX0_day_76 rfl ?_
    refine X0_getF hx hb hts hown hK hO 29 (by decide) rfl (hts _ q195) dX0_day_77 ?_
    refine lv_aload_n hx hb dX0_day_80 rfl (lv_at hl 0 rfl) ?_
    obtain ⟨r12, e13, h⟩ := bn1_e h
    refine clX0_lackBits hf hK hO hA hZ hS (metX0_lackBits l D aC A o la z11 r12 e13) q883 hl.1 (Nat.le_of_ble_eq_true rfl) ⟨Nat.le_of_ble_eq_true rfl, Nat.le_of_ble_eq_true rfl⟩ ⟨Nat.le_of_ble_eq_true rfl, Nat.le_of_ble_eq_true rfl⟩ dX0_day_81 ?_
    refine lv_iload_n hx hb dX0_day_84 rfl (lv_at hl 1 rfl) ?_
    refine lv_iconst (v := (-1)) hx hb dX0_day_85 (by decide) ?_
    refine lv_ixor hx hb dX0_day_86 ?_
    refine lv_iand hx hb dX0_day_87 ?_
    refine clJ13_bitCount hf (metJ13_bitCount l (r12 &&& (r3 ^^^ (-1))) _ rfl) q930 hl.1 (Nat.le_of_ble_eq_true rfl) ⟨Nat.le_of_ble_eq_true rfl, Nat.le_of_ble_eq_true rfl⟩ ⟨Nat.le_of_ble_eq_true rfl, Nat.le_of_ble_eq_true rfl⟩ dX0_day_88 ?_
    refine lv_iadd hx hb dX0_day_91 ?_
    refine X0_putF hx hb hts hown hK hO hS 29 (by decide) rfl (by decide) (by decide) (hts _ q195) rfl (ty := .int) rfl rfl rfl dX0_day_92 (fun H locs z14 ez14 hO hS => ?_)
    have h := pin_to ez14 h
    refine lv_aload_n hx hb dX0_day_95 rfl (lv_at hl 0 rfl) ?_
    obtain ⟨r15, e16, h⟩ := bn1_e h
    refine clX0_lackMany hf hK hO hA hZ hS (metX0_lackMany l D aC A o la z14 r15 e16) q926 hl.1 (Nat.le_of_ble_eq_true rfl) ⟨Nat.le_of_ble_eq_true rfl, Nat.le_of_ble_eq_true rfl⟩ ⟨Nat.le_of_ble_eq_true rfl, Nat.le_of_ble_eq_true rfl⟩ dX0_day_96 ?_
    obtain ⟨e8, rfl⟩ := Prod.mk.inj (Option.some.inj h)
    exact g_retG hx hb hr hlocks e8 hO hS dX0_day_99
  have key22 : ∀ (f : Nat) (v2 : Int32) (z : GS) (H : Heap) (locs : List Loc) (ls : Array Slot), FX0_day_L15 k7 r3 f v2 z = some (r, zq) → OC D aC A o la z H → va_S A s.heap H locs → lv_has ls 3 [(0, .ref o), (1, .int r3), (2, .int v2)] → W p l e ({ frames := 203, cells := 0, slots := 0, locals := 20067 }) s m ([.ref o] : List Value).toArray below meth c H locs 0 0 (MQ below (QG (some (.int r)) (OC D aC A o la zq) A) ([.ref o] : List Value).toArray s 0 0 A) (F0 m 15 ls []) := by
    intro f
    induction f with
    | zero =>
      intro v2 z H locs ls h
      rw [FX0_day_L15] at h
      cases h
    | succ f ih17 =>
      intro v2 z H locs ls h hO hS hl
      rw [FX0_day_L15] at h
      refine lv_iload_n hx hb dX0_day_15 rfl (lv_at hl 2 rfl) ?_
      refine lv_aload_n hx hb dX0_day_16 rfl (lv_at hl 0 rfl) ?_
      refine X0_getF hx hb hts hown hK hO 1 (by decide) rfl (hts _ q165) dX0_day_17 ?_
      refine lv_icmp_ge (tgt := 44) hx hb dX0_day_20 (by decide) (fun c18 => ?_) (fun c18 => ?_)
      · have h := it_t c18 h
        exact hk7 _ _ _ _ h hO hS (lv_sub hl [0, 1] rfl)
      · have h := it_f c18 h
        refine lv_aload_n hx hb dX0_day_23 rfl (lv_at hl 0 rfl) ?_
        refine X0_getA hx hb hts hown hK hO 0 (by decide) (Or.inl rfl) (hts _ q164) dX0_day_24 ?_
        refine lv_iload_n hx hb dX0_day_27 rfl (lv_at hl 2 rfl) ?_
        obtain ⟨g19, h⟩ := grd h
        refine X0_paald hx hb hK hO g19 dX0_day_28 ?_
        refine lv_aload_n hx hb dX0_day_29 rfl (lv_at hl 0 rfl) ?_
        refine X0_getA hx hb hts hown hK hO 11 (by decide) (Or.inl rfl) (hts _ q177) dX0_day_30 ?_
        refine lv_iload_n hx hb dX0_day_33 rfl (lv_at hl 2 rfl) ?_
        obtain ⟨g20, h⟩ := grd h
        refine X0_iaload hx hb hK hO 11 (by decide) rfl rfl g20 dX0_day_34 ?_
        refine X0_putP hx hb hts hown hK hO hS g19 3 (by decide) (hK.nw q328 rfl) rfl rfl dX0_day_35 (fun H locs z21 ez21 hO hS => ?_)
        have h := pin_to ez21 h
        refine lv_iinc (v := (v2 + 1)) (lv' := [(2, .int (v2 + 1)), (0, .ref o), (1, .int r3)]) hx hb dX0_day_38 hl (k := 2) rfl rfl (by decide) rfl (fun ls hl => ?_)
        refine lv_goto (tgt := 15) hx hb dX0_day_41 (by decide) ?_
        exact ih17 _ _ _ _ _ h hO hS (lv_sub hl [1, 2, 0] rfl)
  exact key22 FU _ _ _ _ _ h hO hS (lv_sub hl [2, 1, 0] rfl)
theorem clX0_day {p : Program} {l : Launch} {e : Env} {R : Room} {s : State} {m : MethodId} {args : Array Value} {below : List Frame} {meth : Method} {c : Code} {H : Heap} {locs : List Loc} {cells slots : Nat} {Q : State → Prop} {cc : ByteArray} {pc nL idx fr lo : Nat} {ls : Array Slot} {rest : List Value} {own : String} {D : va_G} {aC : Nat → ClassId} {A : Nat → Prop} {o : Nat} {la : LC} {z : GS} {zq : GS}  {r : Int32} (hf : CallFix p m c cc nL s args lw_all own) (hK : KC D aC s) (hO : OC D aC A o la z H) (hA : ∀ q : Nat, s.heap.size ≤ q → A q) (hZ : ZX A s s.heap) (hS : va_S A s.heap H locs) (hM : Met l yX0_day (ws_ yX0_day cX0_day 3 (some .int)) ({ frames := fr, cells := 0, slots := 0, locals := lo }) (va_Pc [.ref o] (PC D aC A o la z)) (QG (some (.int r)) (OC D aC A o la zq) A) 0 0 A) (hq : Cond.methodLink own idx yX0_day ∈ lw_all) (hs : ls.size = nL) (hr : (rest.map fun v => v.category).sum ≤ 8) (hR : fr + 1 ≤ R.frames ∧ 8 + (3 + 11) + lo ≤ R.locals) (hcs : cells + 0 ≤ R.cells ∧ slots + 0 ≤ R.slots) (hd : decode cc pc = .ok (.invokevirtual idx, 3)) (kk : ∀ (H1 : Heap) (locs1 : List Loc), OC D aC A o la zq H1 → va_S A s.heap H1 locs1 → W p l e R s m args below meth c H1 locs1 cells slots Q (F0 m (pc + 3) ls (.int r :: rest))) : W p l e R s m args below meth c H locs cells slots Q (F0 m pc ls (.ref o :: rest)) :=
  g_callG (W.runV (As := []) (rest := rest) hf hM (cwV 0 hf.2.2.2.2 (lw_V hq q1023 q1024 q90 q1025) rfl rfl rfl (by decide +kernel) hR) ⟨PC.blind, OC.recv hK hO, fun U hU hW => ⟨rfl, PC.at hO hK hA hZ hS hU hW⟩⟩ rfl rfl hs rfl (lv_room hr) hd hcs) hS (fun H1 locs1 hP hS _ _ => kk H1 locs1 hP hS)
theorem metX0_cares (l : Launch) (D : va_G) (aC : Nat → ClassId) (A : Nat → Prop) (o : Nat) (la : LC) (x1 : Int32) (x2 : Int32) (z : GS) (r : Int32) (zq : GS) (h : FX0_cares x1 x2 z = some (r, zq)) : Met l yX0_cares (ws_ yX0_cares cX0_cares 4 (some .int)) ({ frames := 3, cells := 0, slots := 0, locals := 65 }) (va_Pc [.ref o, .int x1, .int x2] (PC D aC A o la z)) (QG (some (.int r)) (OC D aC A o la zq) A) 0 0 A := by
  refine g_ofW (cc := cX0_cares) (maxL := 4) (ret := (some .int)) (own := RX0) (by decide) rfl rfl [.ref o, .int x1, .int x2] (PC D aC A o la z) (Nat.le_of_ble_eq_true rfl) ?_
  intro p e s m below meth c ls hx hb hr hml hts hown hlocks hnm hPre hl
  obtain ⟨hO, hK, hA, hZ⟩ := hPre
  have hf : CallFix p m c cX0_cares 4 s _ lw_all RX0 := ⟨hx, hb, hml, hown, hts⟩
  have hl : lv_has ls 4 [(0, .ref o), (1, .int x1), (2, .int x2)] := hl
  refine g_open (A := A) (OC D aC A o la z) hO (fun H locs hO hS => ?_)
  unfold FX0_cares at h
  refine lv_aload_n hx hb dX0_cares_0 rfl (lv_at hl 0 rfl) ?_
  refine lv_iload_n hx hb dX0_cares_1 rfl (lv_at hl 1 rfl) ?_
  refine clX0_isPerson hf hK hO hA hZ hS (metX0_isPerson l D aC A o la x1 z _ rfl) q502 hl.1 (Nat.le_of_ble_eq_true rfl) ⟨Nat.le_of_ble_eq_true rfl, Nat.le_of_ble_eq_true rfl⟩ ⟨Nat.le_of_ble_eq_true rfl, Nat.le_of_ble_eq_true rfl⟩ dX0_cares_2 ?_
  refine lv_if_eq (tgt := 17) hx hb dX0_cares_5 (by decide) (fun c1 => ?_) (fun c1 => ?_)
  · have h := it_t c1 h
    refine lv_ldc (v := (-2000000000)) hx hb hown (hts _ q544) dX0_cares_17 ?_
    obtain ⟨e8, rfl⟩ := Prod.mk.inj (Option.some.inj h)
    exact g_retG hx hb hr hlocks e8 hO hS dX0_cares_19
  · have h := it_f c1 h
    refine lv_aload_n hx hb dX0_cares_8 rfl (lv_at hl 0 rfl) ?_
    refine lv_iload_n hx hb dX0_cares_9 rfl (lv_at hl 1 rfl) ?_
    refine lv_iload_n hx hb dX0_cares_10 rfl (lv_at hl 2 rfl) ?_
    refine clX0_mayCare hf hK hO hA hZ hS (metX0_mayCare l D aC A o la x1 x2 z _ rfl) q510 hl.1 (Nat.le_of_ble_eq_true rfl) ⟨Nat.le_of_ble_eq_true rfl, Nat.le_of_ble_eq_true rfl⟩ ⟨Nat.le_of_ble_eq_true rfl, Nat.le_of_ble_eq_true rfl⟩ dX0_cares_11 ?_
    refine lv_if_ne (tgt := 20) hx hb dX0_cares_14 (by decide) (fun c2 => ?_) (fun c2 => ?_)
    · have h := it_f c2 h
      refine lv_aload_n hx hb dX0_cares_20 rfl (lv_at hl 0 rfl) ?_
      refine X0_getA hx hb hts hown hK hO 0 (by decide) (Or.inl rfl) (hts _ q164) dX0_cares_21 ?_
      refine lv_iload_n hx hb dX0_cares_24 rfl (lv_at hl 1 rfl) ?_
      obtain ⟨g3, h⟩ := grd h
      refine X0_paald hx hb hK hO g3 dX0_cares_25 ?_
      refine X0_getP hx hb hts hown hK hO g3 4 (by decide) (hK.nw q330 rfl) dX0_cares_26 ?_
      refine lv_topi (fun y4 ey4 => ?_)
      have h := pin_to ey4 h
      refine lv_istore_n (lv' := [(3, .int y4), (0, .ref o), (1, .int x1), (2, .int x2)]) hx hb dX0_cares_29 rfl hl (by decide) rfl (fun ls hl => ?_)
      refine lv_aload_n hx hb dX0_cares_30 rfl (lv_at hl 1 rfl) ?_
      refine X0_getA hx hb hts hown hK hO 0 (by decide) (Or.inl rfl) (hts _ q164) dX0_cares_31 ?_
      refine lv_iload_n hx hb dX0_cares_34 rfl (lv_at hl 2 rfl) ?_
      refine X0_paald hx hb hK hO g3 dX0_cares_35 ?_
      refine lv_iload_n hx hb dX0_cares_36 rfl (lv_at hl 3 rfl) ?_
      refine X0_putP hx hb hts hown hK hO hS g3 4 (by decide) (hK.nw q330 rfl) rfl rfl dX0_cares_37 (fun H locs z5 ez5 hO hS => ?_)
      have h := pin_to ez5 h
      refine lv_aload_n hx hb dX0_cares_40 rfl (lv_at hl 1 rfl) ?_
      refine lv_dup hx hb dX0_cares_41 rfl ?_
      refine X0_getF hx hb hts hown hK hO 27 (by decide) rfl (hts _ q193) dX0_cares_42 ?_
      refine lv_iconst (v := 1) hx hb dX0_cares_45 (by decide) ?_
      refine lv_iadd hx hb dX0_cares_46 ?_
      refine X0_putF hx hb hts hown hK hO hS 27 (by decide) rfl (by decide) (by decide) (hts _ q193) rfl (ty := .int) rfl rfl rfl dX0_cares_47 (fun H locs z6 ez6 hO hS => ?_)
      have h := pin_to ez6 h
      refine lv_iload_n hx hb dX0_cares_50 rfl (lv_at hl 0 rfl) ?_
      obtain ⟨e8, rfl⟩ := Prod.mk.inj (Option.some.inj h)
      exact g_retG hx hb hr hlocks e8 hO hS dX0_cares_51
    · have h := it_t c2 h
      refine lv_ldc (v := (-2000000000)) hx hb hown (hts _ q544) dX0_cares_17 ?_
      obtain ⟨e8, rfl⟩ := Prod.mk.inj (Option.some.inj h)
      exact g_retG hx hb hr hlocks e8 hO hS dX0_cares_19
theorem clX0_cares {p : Program} {l : Launch} {e : Env} {R : Room} {s : State} {m : MethodId} {args : Array Value} {below : List Frame} {meth : Method} {c : Code} {H : Heap} {locs : List Loc} {cells slots : Nat} {Q : State → Prop} {cc : ByteArray} {pc nL idx fr lo : Nat} {ls : Array Slot} {rest : List Value} {own : String} {D : va_G} {aC : Nat → ClassId} {A : Nat → Prop} {o : Nat} {la : LC} {z : GS} {zq : GS} {x1 : Int32} {x2 : Int32} {r : Int32} (hf : CallFix p m c cc nL s args lw_all own) (hK : KC D aC s) (hO : OC D aC A o la z H) (hA : ∀ q : Nat, s.heap.size ≤ q → A q) (hZ : ZX A s s.heap) (hS : va_S A s.heap H locs) (hM : Met l yX0_cares (ws_ yX0_cares cX0_cares 4 (some .int)) ({ frames := fr, cells := 0, slots := 0, locals := lo }) (va_Pc [.ref o, .int x1, .int x2] (PC D aC A o la z)) (QG (some (.int r)) (OC D aC A o la zq) A) 0 0 A) (hq : Cond.methodLink own idx yX0_cares ∈ lw_all) (hs : ls.size = nL) (hr : (rest.map fun v => v.category).sum ≤ 8) (hR : fr + 1 ≤ R.frames ∧ 8 + (4 + 11) + lo ≤ R.locals) (hcs : cells + 0 ≤ R.cells ∧ slots + 0 ≤ R.slots) (hd : decode cc pc = .ok (.invokevirtual idx, 3)) (kk : ∀ (H1 : Heap) (locs1 : List Loc), OC D aC A o la zq H1 → va_S A s.heap H1 locs1 → W p l e R s m args below meth c H1 locs1 cells slots Q (F0 m (pc + 3) ls (.int r :: rest))) : W p l e R s m args below meth c H locs cells slots Q (F0 m pc ls (.int x2 :: .int x1 :: .ref o :: rest)) :=
  g_callG (W.runV (As := [.int x1, .int x2]) (rest := rest) hf hM (cwV 2 hf.2.2.2.2 (lw_V hq q1027 q1028 q90 q1029) rfl rfl rfl (by decide +kernel) hR) ⟨PC.blind, OC.recv hK hO, fun U hU hW => ⟨rfl, PC.at hO hK hA hZ hS hU hW⟩⟩ rfl rfl hs rfl (lv_room hr) hd hcs) hS (fun H1 locs1 hP hS _ _ => kk H1 locs1 hP hS)
theorem metX0_gives (l : Launch) (D : va_G) (aC : Nat → ClassId) (A : Nat → Prop) (o : Nat) (la : LC) (x1 : Int32) (x2 : Int32) (x3 : Int32) (z : GS) (r : Int32) (zq : GS) (h : FX0_gives x1 x2 x3 z = some (r, zq)) : Met l yX0_gives (ws_ yX0_gives cX0_gives 4 (some .int)) ({ frames := 2, cells := 0, slots := 0, locals := 80 }) (va_Pc [.ref o, .int x1, .int x2, .int x3] (PC D aC A o la z)) (QG (some (.int r)) (OC D aC A o la zq) A) 0 0 A := by
  refine g_ofW (cc := cX0_gives) (maxL := 4) (ret := (some .int)) (own := RX0) (by decide) rfl rfl [.ref o, .int x1, .int x2, .int x3] (PC D aC A o la z) (Nat.le_of_ble_eq_true rfl) ?_
  intro p e s m below meth c ls hx hb hr hml hts hown hlocks hnm hPre hl
  obtain ⟨hO, hK, hA, hZ⟩ := hPre
  have hf : CallFix p m c cX0_gives 4 s _ lw_all RX0 := ⟨hx, hb, hml, hown, hts⟩
  have hl : lv_has ls 4 [(0, .ref o), (1, .int x1), (2, .int x2), (3, .int x3)] := hl
  refine g_open (A := A) (OC D aC A o la z) hO (fun H locs hO hS => ?_)
  unfold FX0_gives at h
  refine lv_aload_n hx hb dX0_gives_0 rfl (lv_at hl 0 rfl) ?_
  refine lv_iload_n hx hb dX0_gives_1 rfl (lv_at hl 1 rfl) ?_
  refine clX0_isPerson hf hK hO hA hZ hS (metX0_isPerson l D aC A o la x1 z _ rfl) q502 hl.1 (Nat.le_of_ble_eq_true rfl) ⟨Nat.le_of_ble_eq_true rfl, Nat.le_of_ble_eq_true rfl⟩ ⟨Nat.le_of_ble_eq_true rfl, Nat.le_of_ble_eq_true rfl⟩ dX0_gives_2 ?_
  refine lv_if_eq (tgt := 31) hx hb dX0_gives_5 (by decide) (fun c1 => ?_) (fun c1 => ?_)
  · have h := it_t c1 h
    refine lv_iconst (v := (-1)) hx hb dX0_gives_31 (by decide) ?_
    obtain ⟨e8, rfl⟩ := Prod.mk.inj (Option.some.inj h)
    exact g_retG hx hb hr hlocks e8 hO hS dX0_gives_32
  · have h := it_f c1 h
    refine lv_aload_n hx hb dX0_gives_8 rfl (lv_at hl 0 rfl) ?_
    refine lv_iload_n hx hb dX0_gives_9 rfl (lv_at hl 2 rfl) ?_
    refine clX0_isPerson hf hK hO hA hZ hS (metX0_isPerson l D aC A o la x2 z _ rfl) q502 hl.1 (Nat.le_of_ble_eq_true rfl) ⟨Nat.le_of_ble_eq_true rfl, Nat.le_of_ble_eq_true rfl⟩ ⟨Nat.le_of_ble_eq_true rfl, Nat.le_of_ble_eq_true rfl⟩ dX0_gives_10 ?_
    refine lv_if_eq (tgt := 31) hx hb dX0_gives_13 (by decide) (fun c2 => ?_) (fun c2 => ?_)
    · have h := it_t c2 h
      refine lv_iconst (v := (-1)) hx hb dX0_gives_31 (by decide) ?_
      obtain ⟨e8, rfl⟩ := Prod.mk.inj (Option.some.inj h)
      exact g_retG hx hb hr hlocks e8 hO hS dX0_gives_32
    · have h := it_f c2 h
      refine lv_iload_n hx hb dX0_gives_16 rfl (lv_at hl 1 rfl) ?_
      refine lv_iload_n hx hb dX0_gives_17 rfl (lv_at hl 2 rfl) ?_
      refine lv_icmp_eq (tgt := 31) hx hb dX0_gives_18 (by decide) (fun c3 => ?_) (fun c3 => ?_)
      · have h := it_t c3 h
        refine lv_iconst (v := (-1)) hx hb dX0_gives_31 (by decide) ?_
        obtain ⟨e8, rfl⟩ := Prod.mk.inj (Option.some.inj h)
        exact g_retG hx hb hr hlocks e8 hO hS dX0_gives_32
      · have h := it_f c3 h
        refine lv_iload_n hx hb dX0_gives_21 rfl (lv_at hl 3 rfl) ?_
        refine lv_iconst (v := 1) hx hb dX0_gives_22 (by decide) ?_
        refine lv_bipush (v := 99) hx hb dX0_gives_23 (by decide) ?_
        refine clX0_in hf (metX0_in l x3 1 99 _ rfl) q309 hl.1 (Nat.le_of_ble_eq_true rfl) ⟨Nat.le_of_ble_eq_true rfl, Nat.le_of_ble_eq_true rfl⟩ ⟨Nat.le_of_ble_eq_true rfl, Nat.le_of_ble_eq_true rfl⟩ dX0_gives_25 ?_
        refine lv_if_ne (tgt := 33) hx hb dX0_gives_28 (by decide) (fun c4 => ?_) (fun c4 => ?_)
        · have h := it_f c4 h
          refine lv_aload_n hx hb dX0_gives_33 rfl (lv_at hl 0 rfl) ?_
          refine X0_getA hx hb hts hown hK hO 0 (by decide) (Or.inl rfl) (hts _ q164) dX0_gives_34 ?_
          refine lv_iload_n hx hb dX0_gives_37 rfl (lv_at hl 1 rfl) ?_
          obtain ⟨g5, h⟩ := grd h
          refine X0_paald hx hb hK hO g5 dX0_gives_38 ?_
          refine X0_getP hx hb hts hown hK hO g5 3 (by decide) (hK.nw q328 rfl) dX0_gives_39 ?_
          refine lv_iload_n hx hb dX0_gives_42 rfl (lv_at hl 3 rfl) ?_
          refine lv_icmp_ge (tgt := 49) hx hb dX0_gives_43 (by decide) (fun c6 => ?_) (fun c6 => ?_)
          · have h := it_t c6 h
            refine lv_aload_n hx hb dX0_gives_49 rfl (lv_at hl 0 rfl) ?_
            refine X0_getA hx hb hts hown hK hO 0 (by decide) (Or.inl rfl) (hts _ q164) dX0_gives_50 ?_
            refine lv_iload_n hx hb dX0_gives_53 rfl (lv_at hl 1 rfl) ?_
            refine X0_paald hx hb hK hO g5 dX0_gives_54 ?_
            refine lv_dup hx hb dX0_gives_55 rfl ?_
            refine X0_getP hx hb hts hown hK hO g5 3 (by decide) (hK.nw q328 rfl) dX0_gives_56 ?_
            refine lv_iload_n hx hb dX0_gives_59 rfl (lv_at hl 3 rfl) ?_
            refine lv_isub hx hb dX0_gives_60 ?_
            refine X0_putP hx hb hts hown hK hO hS g5 3 (by decide) (hK.nw q328 rfl) rfl rfl dX0_gives_61 (fun H locs z7 ez7 hO hS => ?_)
            have h := pin_to ez7 h
            refine lv_aload_n hx hb dX0_gives_64 rfl (lv_at hl 0 rfl) ?_
            refine X0_getA hx hb hts hown hK hO 0 (by decide) (Or.inl rfl) (hts _ q164) dX0_gives_65 ?_
            refine lv_iload_n hx hb dX0_gives_68 rfl (lv_at hl 2 rfl) ?_
            obtain ⟨g8, h⟩ := grd h
            refine X0_paald hx hb hK hO g8 dX0_gives_69 ?_
            refine lv_aload_n hx hb dX0_gives_70 rfl (lv_at hl 0 rfl) ?_
            refine X0_getA hx hb hts hown hK hO 0 (by decide) (Or.inl rfl) (hts _ q164) dX0_gives_71 ?_
            refine lv_iload_n hx hb dX0_gives_74 rfl (lv_at hl 2 rfl) ?_
            refine X0_paald hx hb hK hO g8 dX0_gives_75 ?_
            refine X0_getP hx hb hts hown hK hO g8 3 (by decide) (hK.nw q328 rfl) dX0_gives_76 ?_
            refine lv_iload_n hx hb dX0_gives_79 rfl (lv_at hl 3 rfl) ?_
            refine lv_iadd hx hb dX0_gives_80 ?_
            refine clX0_held hf (metX0_held l ((gI z7 103 x2) + x3) _ rfl) q872 hl.1 (Nat.le_of_ble_eq_true rfl) ⟨Nat.le_of_ble_eq_true rfl, Nat.le_of_ble_eq_true rfl⟩ ⟨Nat.le_of_ble_eq_true rfl, Nat.le_of_ble_eq_true rfl⟩ dX0_gives_81 ?_
            refine X0_putP hx hb hts hown hK hO hS g8 3 (by decide) (hK.nw q328 rfl) rfl rfl dX0_gives_84 (fun H locs z9 ez9 hO hS => ?_)
            have h := pin_to ez9 h
            refine lv_aload_n hx hb dX0_gives_87 rfl (lv_at hl 0 rfl) ?_
            refine lv_dup hx hb dX0_gives_88 rfl ?_
            refine X0_getF hx hb hts hown hK hO 28 (by decide) rfl (hts _ q194) dX0_gives_89 ?_
            refine lv_iload_n hx hb dX0_gives_92 rfl (lv_at hl 3 rfl) ?_
            refine lv_iadd hx hb dX0_gives_93 ?_
            refine X0_putF hx hb hts hown hK hO hS 28 (by decide) rfl (by decide) (by decide) (hts _ q194) rfl (ty := .int) rfl rfl rfl dX0_gives_94 (fun H locs z10 ez10 hO hS => ?_)
            have h := pin_to ez10 h
            refine lv_aload_n hx hb dX0_gives_97 rfl (lv_at hl 0 rfl) ?_
            refine X0_getA hx hb hts hown hK hO 0 (by decide) (Or.inl rfl) (hts _ q164) dX0_gives_98 ?_
            refine lv_iload_n hx hb dX0_gives_101 rfl (lv_at hl 1 rfl) ?_
            obtain ⟨g11, h⟩ := grd h
            refine X0_paald hx hb hK hO g11 dX0_gives_102 ?_
            refine X0_getP hx hb hts hown hK hO g11 3 (by decide) (hK.nw q328 rfl) dX0_gives_103 ?_
            obtain ⟨e8, rfl⟩ := Prod.mk.inj (Option.some.inj h)
            exact g_retG hx hb hr hlocks e8 hO hS dX0_gives_106
          · have h := it_f c6 h
            refine lv_bipush (v := (-5)) hx hb dX0_gives_46 (by decide) ?_
            obtain ⟨e8, rfl⟩ := Prod.mk.inj (Option.some.inj h)
            exact g_retG hx hb hr hlocks e8 hO hS dX0_gives_48
        · have h := it_t c4 h
          refine lv_iconst (v := (-1)) hx hb dX0_gives_31 (by decide) ?_
          obtain ⟨e8, rfl⟩ := Prod.mk.inj (Option.some.inj h)
          exact g_retG hx hb hr hlocks e8 hO hS dX0_gives_32
theorem clX0_gives {p : Program} {l : Launch} {e : Env} {R : Room} {s : State} {m : MethodId} {args : Array Value} {below : List Frame} {meth : Method} {c : Code} {H : Heap} {locs : List Loc} {cells slots : Nat} {Q : State → Prop} {cc : ByteArray} {pc nL idx fr lo : Nat} {ls : Array Slot} {rest : List Value} {own : String} {D : va_G} {aC : Nat → ClassId} {A : Nat → Prop} {o : Nat} {la : LC} {z : GS} {zq : GS} {x1 : Int32} {x2 : Int32} {x3 : Int32} {r : Int32} (hf : CallFix p m c cc nL s args lw_all own) (hK : KC D aC s) (hO : OC D aC A o la z H) (hA : ∀ q : Nat, s.heap.size ≤ q → A q) (hZ : ZX A s s.heap) (hS : va_S A s.heap H locs) (hM : Met l yX0_gives (ws_ yX0_gives cX0_gives 4 (some .int)) ({ frames := fr, cells := 0, slots := 0, locals := lo }) (va_Pc [.ref o, .int x1, .int x2, .int x3] (PC D aC A o la z)) (QG (some (.int r)) (OC D aC A o la zq) A) 0 0 A) (hq : Cond.methodLink own idx yX0_gives ∈ lw_all) (hs : ls.size = nL) (hr : (rest.map fun v => v.category).sum ≤ 8) (hR : fr + 1 ≤ R.frames ∧ 8 + (4 + 11) + lo ≤ R.locals) (hcs : cells + 0 ≤ R.cells ∧ slots + 0 ≤ R.slots) (hd : decode cc pc = .ok (.invokevirtual idx, 3)) (kk : ∀ (H1 : Heap) (locs1 : List Loc), OC D aC A o la zq H1 → va_S A s.heap H1 locs1 → W p l e R s m args below meth c H1 locs1 cells slots Q (F0 m (pc + 3) ls (.int r :: rest))) : W p l e R s m args below meth c H locs cells slots Q (F0 m pc ls (.int x3 :: .int x2 :: .int x1 :: .ref o :: rest)) :=
  g_callG (W.runV (As := [.int x1, .int x2, .int x3]) (rest := rest) hf hM (cwV 3 hf.2.2.2.2 (lw_V hq q1031 q1032 q90 q1033) rfl rfl rfl (by decide +kernel) hR) ⟨PC.blind, OC.recv hK hO, fun U hU hW => ⟨rfl, PC.at hO hK hA hZ hS hU hW⟩⟩ rfl rfl hs rfl (lv_room hr) hd hcs) hS (fun H1 locs1 hP hS _ _ => kk H1 locs1 hP hS)
theorem metX0_led (l : Launch) (D : va_G) (aC : Nat → ClassId) (A : Nat → Prop) (o : Nat) (la : LC) (x1 : Int32) (z : GS) (r : Int32) (h : FX0_led x1 z = r) : Met l yX0_led (ws_ yX0_led cX0_led 2 (some .int)) ({ frames := 0, cells := 0, slots := 0, locals := 0 }) (va_Pc [.ref o, .int x1] (PC D aC A o la z)) (QR (some (.int r))) 0 0 (fun _ => False) := by
  refine g_ofW (cc := cX0_led) (maxL := 2) (ret := (some .int)) (own := RX0) (by decide) rfl rfl [.ref o, .int x1] (PC D aC A o la z) (Nat.le_of_ble_eq_true rfl) ?_
  intro p e s m below meth c ls hx hb hr hml hts hown hlocks hnm hPre hl
  obtain ⟨hO, hK, hA, hZ⟩ := hPre
  have hf : CallFix p m c cX0_led 2 s _ lw_all RX0 := ⟨hx, hb, hml, hown, hts⟩
  have hl : lv_has ls 2 [(0, .ref o), (1, .int x1)] := hl
  have hS : va_S A s.heap s.heap [] := va_S.rf
  unfold FX0_led at h
  refine lv_iload_n hx hb dX0_led_0 rfl (lv_at hl 1 rfl) ?_
  by_cases c1 : x1 = 0
  · have h := it_t c1 h
    refine lv_tableIn (off := 35) (tgt := 36) hx hb dX0_led_1 (by rw [c1]; decide) (by rw [c1]; decide) (by rw [c1]; rfl) (by decide) ?_
    refine lv_aload_n hx hb dX0_led_36 rfl (lv_at hl 0 rfl) ?_
    refine X0_getF hx hb hts hown hK hO 25 (by decide) rfl (hts _ q191) dX0_led_37 ?_
    exact g_retR hx hb hr hlocks h dX0_led_40
  have h := it_f c1 h
  by_cases c2 : x1 = 1
  · have h := it_t c2 h
    refine lv_tableIn (off := 40) (tgt := 41) hx hb dX0_led_1 (by rw [c2]; decide) (by rw [c2]; decide) (by rw [c2]; rfl) (by decide) ?_
    refine lv_aload_n hx hb dX0_led_41 rfl (lv_at hl 0 rfl) ?_
    refine X0_getF hx hb hts hown hK hO 26 (by decide) rfl (hts _ q192) dX0_led_42 ?_
    exact g_retR hx hb hr hlocks h dX0_led_45
  have h := it_f c2 h
  by_cases c3 : x1 = 2
  · have h := it_t c3 h
    refine lv_tableIn (off := 45) (tgt := 46) hx hb dX0_led_1 (by rw [c3]; decide) (by rw [c3]; decide) (by rw [c3]; rfl) (by decide) ?_
    refine lv_aload_n hx hb dX0_led_46 rfl (lv_at hl 0 rfl) ?_
    refine X0_getF hx hb hts hown hK hO 27 (by decide) rfl (hts _ q193) dX0_led_47 ?_
    exact g_retR hx hb hr hlocks h dX0_led_50
  have h := it_f c3 h
  by_cases c4 : x1 = 3
  · have h := it_t c4 h
    refine lv_tableIn (off := 50) (tgt := 51) hx hb dX0_led_1 (by rw [c4]; decide) (by rw [c4]; decide) (by rw [c4]; rfl) (by decide) ?_
    refine lv_aload_n hx hb dX0_led_51 rfl (lv_at hl 0 rfl) ?_
    refine X0_getF hx hb hts hown hK hO 28 (by decide) rfl (hts _ q194) dX0_led_52 ?_
    exact g_retR hx hb hr hlocks h dX0_led_55
  have h := it_f c4 h
  by_cases c5 : x1 = 4
  · have h := it_t c5 h
    refine lv_tableIn (off := 55) (tgt := 56) hx hb dX0_led_1 (by rw [c5]; decide) (by rw [c5]; decide) (by rw [c5]; rfl) (by decide) ?_
    refine lv_aload_n hx hb dX0_led_56 rfl (lv_at hl 0 rfl) ?_
    refine X0_getF hx hb hts hown hK hO 29 (by decide) rfl (hts _ q195) dX0_led_57 ?_
    exact g_retR hx hb hr hlocks h dX0_led_60
  have h := it_f c5 h
  have tc1 := lv_neT (a := 0) c1 rfl
  have tc2 := lv_neT (a := 1) c2 rfl
  have tc3 := lv_neT (a := 2) c3 rfl
  have tc4 := lv_neT (a := 3) c4 rfl
  have tc5 := lv_neT (a := 4) c5 rfl
  refine lv_tableOut (tgt := 61) hx hb dX0_led_1 (by omega) (by decide) ?_
  refine lv_iconst (v := (-1)) hx hb dX0_led_61 (by decide) ?_
  exact g_retR hx hb hr hlocks h dX0_led_62
theorem clX0_led {p : Program} {l : Launch} {e : Env} {R : Room} {s : State} {m : MethodId} {args : Array Value} {below : List Frame} {meth : Method} {c : Code} {H : Heap} {locs : List Loc} {cells slots : Nat} {Q : State → Prop} {cc : ByteArray} {pc nL idx fr lo : Nat} {ls : Array Slot} {rest : List Value} {own : String} {D : va_G} {aC : Nat → ClassId} {A : Nat → Prop} {o : Nat} {la : LC} {z : GS} {x1 : Int32} {r : Int32} (hf : CallFix p m c cc nL s args lw_all own) (hK : KC D aC s) (hO : OC D aC A o la z H) (hA : ∀ q : Nat, s.heap.size ≤ q → A q) (hZ : ZX A s s.heap) (hS : va_S A s.heap H locs) (hM : Met l yX0_led (ws_ yX0_led cX0_led 2 (some .int)) ({ frames := fr, cells := 0, slots := 0, locals := lo }) (va_Pc [.ref o, .int x1] (PC D aC A o la z)) (QR (some (.int r))) 0 0 (fun _ => False)) (hq : Cond.methodLink own idx yX0_led ∈ lw_all) (hs : ls.size = nL) (hr : (rest.map fun v => v.category).sum ≤ 8) (hR : fr + 1 ≤ R.frames ∧ 8 + (2 + 11) + lo ≤ R.locals) (hcs : cells + 0 ≤ R.cells ∧ slots + 0 ≤ R.slots) (hd : decode cc pc = .ok (.invokevirtual idx, 3)) (kk : W p l e R s m args below meth c H locs cells slots Q (F0 m (pc + 3) ls (.int r :: rest))) : W p l e R s m args below meth c H locs cells slots Q (F0 m pc ls (.int x1 :: .ref o :: rest)) :=
  g_callR (W.runV (As := [.int x1]) (rest := rest) hf hM (cwV 1 hf.2.2.2.2 (lw_V hq q1035 q1036 q90 q1037) rfl rfl rfl (by decide +kernel) hR) ⟨PC.blind, OC.recv hK hO, fun U hU hW => ⟨rfl, PC.at hO hK hA hZ hS hU hW⟩⟩ rfl rfl hs rfl (lv_room hr) hd hcs) kk
theorem metX0_image (l : Launch) (D : va_G) (aC : Nat → ClassId) (A : Nat → Prop) (o : Nat) (la : LC)  (z : GS) (r : Int32) (zq : GS) (h : FX0_image z = some (r, zq)) : Met l yX0_image (ws_ yX0_image cX0_image 2 (some .int)) ({ frames := 0, cells := 0, slots := 0, locals := 0 }) (va_Pc [.ref o] (PC D aC A o la z)) (QG (some (.int r)) (OC D aC A o la zq) A) 0 0 A := by
  refine g_ofW (cc := cX0_image) (maxL := 2) (ret := (some .int)) (own := RX0) (by decide) rfl rfl [.ref o] (PC D aC A o la z) (Nat.le_of_ble_eq_true rfl) ?_
  intro p e s m below meth c ls hx hb hr hml hts hown hlocks hnm hPre hl
  obtain ⟨hO, hK, hA, hZ⟩ := hPre
  have hf : CallFix p m c cX0_image 2 s _ lw_all RX0 := ⟨hx, hb, hml, hown, hts⟩
  have hl : lv_has ls 2 [(0, .ref o)] := hl
  refine g_open (A := A) (OC D aC A o la z) hO (fun H locs hO hS => ?_)
  unfold FX0_image at h
  refine lv_aload_n hx hb dX0_image_0 rfl (lv_at hl 0 rfl) ?_
  refine lv_iconst (v := 1) hx hb dX0_image_1 (by decide) ?_
  refine X0_putF hx hb hts hown hK hO hS 30 (by decide) rfl (by decide) (by decide) (hts _ q196) rfl (ty := .boolean) rfl rfl rfl dX0_image_2 (fun H locs z1 ez1 hO hS => ?_)
  have h := pin_to ez1 h
  refine lv_iconst (v := 0) hx hb dX0_image_5 (by decide) ?_
  refine lv_istore_n (lv' := [(1, .int 0), (0, .ref o)]) hx hb dX0_image_6 rfl hl (by decide) rfl (fun ls hl => ?_)
  obtain ⟨k2, e20, h⟩ := pin_nm h
  have hk2 : ∀  (z3 : GS) (H : Heap) (locs : List Loc) (ls : Array Slot), k2  z3 = some (r, zq) → OC D aC A o la z3 H → va_S A s.heap H locs → lv_has ls 2 [(0, .ref o)] → W p l e ({ frames := 0, cells := 0, slots := 0, locals := 0 }) s m ([.ref o] : List Value).toArray below meth c H locs 0 0 (MQ below (QG (some (.int r)) (OC D aC A o la zq) A) ([.ref o] : List Value).toArray s 0 0 A) (F0 m 51 ls []) := by
    intro  z3 H locs ls h hO hS hl
    rw [e20] at h
    refine lv_aload_n hx hb dX0_image_51 rfl (lv_at hl 0 rfl) ?_
    refine lv_aload_n hx hb dX0_image_52 rfl (lv_at hl 0 rfl) ?_
    refine X0_getF hx hb hts hown hK hO 1 (by decide) rfl (hts _ q165) dX0_image_53 ?_
    refine X0_putF hx hb hts hown hK hO hS 33 (by decide) rfl (by decide) (by decide) (hts _ q199) rfl (ty := .int) rfl rfl rfl dX0_image_56 (fun H locs z4 ez4 hO hS => ?_)
    have h := pin_to ez4 h
    refine lv_aload_n hx hb dX0_image_59 rfl (lv_at hl 0 rfl) ?_
    refine lv_aload_n hx hb dX0_image_60 rfl (lv_at hl 0 rfl) ?_
    refine X0_getF hx hb hts hown hK hO 3 (by decide) rfl (hts _ q167) dX0_image_61 ?_
    refine X0_putF hx hb hts hown hK hO hS 34 (by decide) rfl (by decide) (by decide) (hts _ q200) rfl (ty := .int) rfl rfl rfl dX0_image_64 (fun H locs z5 ez5 hO hS => ?_)
    have h := pin_to ez5 h
    refine lv_aload_n hx hb dX0_image_67 rfl (lv_at hl 0 rfl) ?_
    refine lv_aload_n hx hb dX0_image_68 rfl (lv_at hl 0 rfl) ?_
    refine X0_getF hx hb hts hown hK hO 25 (by decide) rfl (hts _ q191) dX0_image_69 ?_
    refine X0_putF hx hb hts hown hK hO hS 35 (by decide) rfl (by decide) (by decide) (hts _ q201) rfl (ty := .int) rfl rfl rfl dX0_image_72 (fun H locs z6 ez6 hO hS => ?_)
    have h := pin_to ez6 h
    refine lv_aload_n hx hb dX0_image_75 rfl (lv_at hl 0 rfl) ?_
    refine lv_aload_n hx hb dX0_image_76 rfl (lv_at hl 0 rfl) ?_
    refine X0_getF hx hb hts hown hK hO 26 (by decide) rfl (hts _ q192) dX0_image_77 ?_
    refine X0_putF hx hb hts hown hK hO hS 36 (by decide) rfl (by decide) (by decide) (hts _ q202) rfl (ty := .int) rfl rfl rfl dX0_image_80 (fun H locs z7 ez7 hO hS => ?_)
    have h := pin_to ez7 h
    refine lv_aload_n hx hb dX0_image_83 rfl (lv_at hl 0 rfl) ?_
    refine lv_aload_n hx hb dX0_image_84 rfl (lv_at hl 0 rfl) ?_
    refine X0_getF hx hb hts hown hK hO 27 (by decide) rfl (hts _ q193) dX0_image_85 ?_
    refine X0_putF hx hb hts hown hK hO hS 37 (by decide) rfl (by decide) (by decide) (hts _ q203) rfl (ty := .int) rfl rfl rfl dX0_image_88 (fun H locs z8 ez8 hO hS => ?_)
    have h := pin_to ez8 h
    refine lv_aload_n hx hb dX0_image_91 rfl (lv_at hl 0 rfl) ?_
    refine lv_aload_n hx hb dX0_image_92 rfl (lv_at hl 0 rfl) ?_
    refine X0_getF hx hb hts hown hK hO 28 (by decide) rfl (hts _ q194) dX0_image_93 ?_
    refine X0_putF hx hb hts hown hK hO hS 38 (by decide) rfl (by decide) (by decide) (hts _ q204) rfl (ty := .int) rfl rfl rfl dX0_image_96 (fun H locs z9 ez9 hO hS => ?_)
    have h := pin_to ez9 h
    refine lv_aload_n hx hb dX0_image_99 rfl (lv_at hl 0 rfl) ?_
    refine lv_aload_n hx hb dX0_image_100 rfl (lv_at hl 0 rfl) ?_
    refine X0_getF hx hb hts hown hK hO 29 (by decide) rfl (hts _ q195) dX0_image_101 ?_
    refine X0_putF hx hb hts hown hK hO hS 39 (by decide) rfl (by decide) (by decide) (hts _ q205) rfl (ty := .int) rfl rfl rfl dX0_image_104 (fun H locs z10 ez10 hO hS => ?_)
    have h := pin_to ez10 h
    refine lv_aload_n hx hb dX0_image_107 rfl (lv_at hl 0 rfl) ?_
    refine X0_getF hx hb hts hown hK hO 25 (by decide) rfl (hts _ q191) dX0_image_108 ?_
    obtain ⟨e8, rfl⟩ := Prod.mk.inj (Option.some.inj h)
    exact g_retG hx hb hr hlocks e8 hO hS dX0_image_111
  have key19 : ∀ (f : Nat) (v1 : Int32) (z : GS) (H : Heap) (locs : List Loc) (ls : Array Slot), FX0_image_L7 k2 f v1 z = some (r, zq) → OC D aC A o la z H → va_S A s.heap H locs → lv_has ls 2 [(0, .ref o), (1, .int v1)] → W p l e ({ frames := 0, cells := 0, slots := 0, locals := 0 }) s m ([.ref o] : List Value).toArray below meth c H locs 0 0 (MQ below (QG (some (.int r)) (OC D aC A o la zq) A) ([.ref o] : List Value).toArray s 0 0 A) (F0 m 7 ls []) := by
    intro f
    induction f with
    | zero =>
      intro v1 z H locs ls h
      rw [FX0_image_L7] at h
      cases h
    | succ f ih11 =>
      intro v1 z H locs ls h hO hS hl
      rw [FX0_image_L7] at h
      refine lv_iload_n hx hb dX0_image_7 rfl (lv_at hl 1 rfl) ?_
      refine lv_aload_n hx hb dX0_image_8 rfl (lv_at hl 0 rfl) ?_
      refine X0_getF hx hb hts hown hK hO 1 (by decide) rfl (hts _ q165) dX0_image_9 ?_
      refine lv_icmp_ge (tgt := 51) hx hb dX0_image_12 (by decide) (fun c12 => ?_) (fun c12 => ?_)
      · have h := it_t c12 h
        exact hk2 _ _ _ _ h hO hS (lv_sub hl [0] rfl)
      · have h := it_f c12 h
        refine lv_aload_n hx hb dX0_image_15 rfl (lv_at hl 0 rfl) ?_
        refine X0_getA hx hb hts hown hK hO 31 (by decide) (Or.inl rfl) (hts _ q197) dX0_image_16 ?_
        refine lv_iload_n hx hb dX0_image_19 rfl (lv_at hl 1 rfl) ?_
        refine lv_aload_n hx hb dX0_image_20 rfl (lv_at hl 0 rfl) ?_
        refine X0_getA hx hb hts hown hK hO 0 (by decide) (Or.inl rfl) (hts _ q164) dX0_image_21 ?_
        refine lv_iload_n hx hb dX0_image_24 rfl (lv_at hl 1 rfl) ?_
        obtain ⟨g13, h⟩ := grd h
        refine X0_paald hx hb hK hO g13 dX0_image_25 ?_
        refine X0_getP hx hb hts hown hK hO g13 3 (by decide) (hK.nw q328 rfl) dX0_image_26 ?_
        obtain ⟨g14, h⟩ := grd h
        refine X0_iastore hx hb hK hO hS 31 (by decide) rfl rfl g14 dX0_image_29 (fun H locs z15 ez15 hO hS => ?_)
        have h := pin_to ez15 h
        refine lv_aload_n hx hb dX0_image_30 rfl (lv_at hl 0 rfl) ?_
        refine X0_getA hx hb hts hown hK hO 32 (by decide) (Or.inl rfl) (hts _ q198) dX0_image_31 ?_
        refine lv_iload_n hx hb dX0_image_34 rfl (lv_at hl 1 rfl) ?_
        refine lv_aload_n hx hb dX0_image_35 rfl (lv_at hl 0 rfl) ?_
        refine X0_getA hx hb hts hown hK hO 0 (by decide) (Or.inl rfl) (hts _ q164) dX0_image_36 ?_
        refine lv_iload_n hx hb dX0_image_39 rfl (lv_at hl 1 rfl) ?_
        obtain ⟨g16, h⟩ := grd h
        refine X0_paald hx hb hK hO g16 dX0_image_40 ?_
        refine X0_getP hx hb hts hown hK hO g16 4 (by decide) (hK.nw q330 rfl) dX0_image_41 ?_
        obtain ⟨g17, h⟩ := grd h
        refine X0_iastore hx hb hK hO hS 32 (by decide) rfl rfl g17 dX0_image_44 (fun H locs z18 ez18 hO hS => ?_)
        have h := pin_to ez18 h
        refine lv_iinc (v := (v1 + 1)) (lv' := [(1, .int (v1 + 1)), (0, .ref o)]) hx hb dX0_image_45 hl (k := 1) rfl rfl (by decide) rfl (fun ls hl => ?_)
        refine lv_goto (tgt := 7) hx hb dX0_image_48 (by decide) ?_
        exact ih11 _ _ _ _ _ h hO hS (lv_sub hl [1, 0] rfl)
  exact key19 FU _ _ _ _ _ h hO hS (lv_sub hl [1, 0] rfl)
theorem clX0_image {p : Program} {l : Launch} {e : Env} {R : Room} {s : State} {m : MethodId} {args : Array Value} {below : List Frame} {meth : Method} {c : Code} {H : Heap} {locs : List Loc} {cells slots : Nat} {Q : State → Prop} {cc : ByteArray} {pc nL idx fr lo : Nat} {ls : Array Slot} {rest : List Value} {own : String} {D : va_G} {aC : Nat → ClassId} {A : Nat → Prop} {o : Nat} {la : LC} {z : GS} {zq : GS}  {r : Int32} (hf : CallFix p m c cc nL s args lw_all own) (hK : KC D aC s) (hO : OC D aC A o la z H) (hA : ∀ q : Nat, s.heap.size ≤ q → A q) (hZ : ZX A s s.heap) (hS : va_S A s.heap H locs) (hM : Met l yX0_image (ws_ yX0_image cX0_image 2 (some .int)) ({ frames := fr, cells := 0, slots := 0, locals := lo }) (va_Pc [.ref o] (PC D aC A o la z)) (QG (some (.int r)) (OC D aC A o la zq) A) 0 0 A) (hq : Cond.methodLink own idx yX0_image ∈ lw_all) (hs : ls.size = nL) (hr : (rest.map fun v => v.category).sum ≤ 8) (hR : fr + 1 ≤ R.frames ∧ 8 + (2 + 11) + lo ≤ R.locals) (hcs : cells + 0 ≤ R.cells ∧ slots + 0 ≤ R.slots) (hd : decode cc pc = .ok (.invokevirtual idx, 3)) (kk : ∀ (H1 : Heap) (locs1 : List Loc), OC D aC A o la zq H1 → va_S A s.heap H1 locs1 → W p l e R s m args below meth c H1 locs1 cells slots Q (F0 m (pc + 3) ls (.int r :: rest))) : W p l e R s m args below meth c H locs cells slots Q (F0 m pc ls (.ref o :: rest)) :=
  g_callG (W.runV (As := []) (rest := rest) hf hM (cwV 0 hf.2.2.2.2 (lw_V hq q1039 q1040 q90 q1041) rfl rfl rfl (by decide +kernel) hR) ⟨PC.blind, OC.recv hK hO, fun U hU hW => ⟨rfl, PC.at hO hK hA hZ hS hU hW⟩⟩ rfl rfl hs rfl (lv_room hr) hd hcs) hS (fun H1 locs1 hP hS _ _ => kk H1 locs1 hP hS)
theorem metX0_back (l : Launch) (D : va_G) (aC : Nat → ClassId) (A : Nat → Prop) (o : Nat) (la : LC)  (z : GS) (r : Int32) (zq : GS) (h : FX0_back z = some (r, zq)) : Met l yX0_back (ws_ yX0_back cX0_back 2 (some .int)) ({ frames := 0, cells := 0, slots := 0, locals := 0 }) (va_Pc [.ref o] (PC D aC A o la z)) (QG (some (.int r)) (OC D aC A o la zq) A) 0 0 A := by
  refine g_ofW (cc := cX0_back) (maxL := 2) (ret := (some .int)) (own := RX0) (by decide) rfl rfl [.ref o] (PC D aC A o la z) (Nat.le_of_ble_eq_true rfl) ?_
  intro p e s m below meth c ls hx hb hr hml hts hown hlocks hnm hPre hl
  obtain ⟨hO, hK, hA, hZ⟩ := hPre
  have hf : CallFix p m c cX0_back 2 s _ lw_all RX0 := ⟨hx, hb, hml, hown, hts⟩
  have hl : lv_has ls 2 [(0, .ref o)] := hl
  refine g_open (A := A) (OC D aC A o la z) hO (fun H locs hO hS => ?_)
  unfold FX0_back at h
  refine lv_aload_n hx hb dX0_back_0 rfl (lv_at hl 0 rfl) ?_
  refine X0_getF hx hb hts hown hK hO 30 (by decide) rfl (hts _ q196) dX0_back_1 ?_
  refine lv_if_ne (tgt := 10) hx hb dX0_back_4 (by decide) (fun c1 => ?_) (fun c1 => ?_)
  · have h := it_f c1 h
    refine lv_iconst (v := 0) hx hb dX0_back_10 (by decide) ?_
    refine lv_istore_n (lv' := [(1, .int 0), (0, .ref o)]) hx hb dX0_back_11 rfl hl (by decide) rfl (fun ls hl => ?_)
    obtain ⟨k2, e19, h⟩ := pin_nm h
    have hk2 : ∀  (z3 : GS) (H : Heap) (locs : List Loc) (ls : Array Slot), k2  z3 = some (r, zq) → OC D aC A o la z3 H → va_S A s.heap H locs → lv_has ls 2 [(0, .ref o)] → W p l e ({ frames := 0, cells := 0, slots := 0, locals := 0 }) s m ([.ref o] : List Value).toArray below meth c H locs 0 0 (MQ below (QG (some (.int r)) (OC D aC A o la zq) A) ([.ref o] : List Value).toArray s 0 0 A) (F0 m 56 ls []) := by
      intro  z3 H locs ls h hO hS hl
      rw [e19] at h
      refine lv_aload_n hx hb dX0_back_56 rfl (lv_at hl 0 rfl) ?_
      refine lv_aload_n hx hb dX0_back_57 rfl (lv_at hl 0 rfl) ?_
      refine X0_getF hx hb hts hown hK hO 34 (by decide) rfl (hts _ q200) dX0_back_58 ?_
      refine X0_putF hx hb hts hown hK hO hS 3 (by decide) rfl (by decide) (by decide) (hts _ q167) rfl (ty := .int) rfl rfl rfl dX0_back_61 (fun H locs z4 ez4 hO hS => ?_)
      have h := pin_to ez4 h
      refine lv_aload_n hx hb dX0_back_64 rfl (lv_at hl 0 rfl) ?_
      refine lv_aload_n hx hb dX0_back_65 rfl (lv_at hl 0 rfl) ?_
      refine X0_getF hx hb hts hown hK hO 35 (by decide) rfl (hts _ q201) dX0_back_66 ?_
      refine X0_putF hx hb hts hown hK hO hS 25 (by decide) rfl (by decide) (by decide) (hts _ q191) rfl (ty := .int) rfl rfl rfl dX0_back_69 (fun H locs z5 ez5 hO hS => ?_)
      have h := pin_to ez5 h
      refine lv_aload_n hx hb dX0_back_72 rfl (lv_at hl 0 rfl) ?_
      refine lv_aload_n hx hb dX0_back_73 rfl (lv_at hl 0 rfl) ?_
      refine X0_getF hx hb hts hown hK hO 36 (by decide) rfl (hts _ q202) dX0_back_74 ?_
      refine X0_putF hx hb hts hown hK hO hS 26 (by decide) rfl (by decide) (by decide) (hts _ q192) rfl (ty := .int) rfl rfl rfl dX0_back_77 (fun H locs z6 ez6 hO hS => ?_)
      have h := pin_to ez6 h
      refine lv_aload_n hx hb dX0_back_80 rfl (lv_at hl 0 rfl) ?_
      refine lv_aload_n hx hb dX0_back_81 rfl (lv_at hl 0 rfl) ?_
      refine X0_getF hx hb hts hown hK hO 37 (by decide) rfl (hts _ q203) dX0_back_82 ?_
      refine X0_putF hx hb hts hown hK hO hS 27 (by decide) rfl (by decide) (by decide) (hts _ q193) rfl (ty := .int) rfl rfl rfl dX0_back_85 (fun H locs z7 ez7 hO hS => ?_)
      have h := pin_to ez7 h
      refine lv_aload_n hx hb dX0_back_88 rfl (lv_at hl 0 rfl) ?_
      refine lv_aload_n hx hb dX0_back_89 rfl (lv_at hl 0 rfl) ?_
      refine X0_getF hx hb hts hown hK hO 38 (by decide) rfl (hts _ q204) dX0_back_90 ?_
      refine X0_putF hx hb hts hown hK hO hS 28 (by decide) rfl (by decide) (by decide) (hts _ q194) rfl (ty := .int) rfl rfl rfl dX0_back_93 (fun H locs z8 ez8 hO hS => ?_)
      have h := pin_to ez8 h
      refine lv_aload_n hx hb dX0_back_96 rfl (lv_at hl 0 rfl) ?_
      refine lv_aload_n hx hb dX0_back_97 rfl (lv_at hl 0 rfl) ?_
      refine X0_getF hx hb hts hown hK hO 39 (by decide) rfl (hts _ q205) dX0_back_98 ?_
      refine X0_putF hx hb hts hown hK hO hS 29 (by decide) rfl (by decide) (by decide) (hts _ q195) rfl (ty := .int) rfl rfl rfl dX0_back_101 (fun H locs z9 ez9 hO hS => ?_)
      have h := pin_to ez9 h
      refine lv_aload_n hx hb dX0_back_104 rfl (lv_at hl 0 rfl) ?_
      refine X0_getF hx hb hts hown hK hO 25 (by decide) rfl (hts _ q191) dX0_back_105 ?_
      obtain ⟨e8, rfl⟩ := Prod.mk.inj (Option.some.inj h)
      exact g_retG hx hb hr hlocks e8 hO hS dX0_back_108
    have key18 : ∀ (f : Nat) (v1 : Int32) (z : GS) (H : Heap) (locs : List Loc) (ls : Array Slot), FX0_back_L12 k2 f v1 z = some (r, zq) → OC D aC A o la z H → va_S A s.heap H locs → lv_has ls 2 [(0, .ref o), (1, .int v1)] → W p l e ({ frames := 0, cells := 0, slots := 0, locals := 0 }) s m ([.ref o] : List Value).toArray below meth c H locs 0 0 (MQ below (QG (some (.int r)) (OC D aC A o la zq) A) ([.ref o] : List Value).toArray s 0 0 A) (F0 m 12 ls []) := by
      intro f
      induction f with
      | zero =>
        intro v1 z H locs ls h
        rw [FX0_back_L12] at h
        cases h
      | succ f ih10 =>
        intro v1 z H locs ls h hO hS hl
        rw [FX0_back_L12] at h
        refine lv_iload_n hx hb dX0_back_12 rfl (lv_at hl 1 rfl) ?_
        refine lv_aload_n hx hb dX0_back_13 rfl (lv_at hl 0 rfl) ?_
        refine X0_getF hx hb hts hown hK hO 33 (by decide) rfl (hts _ q199) dX0_back_14 ?_
        refine lv_icmp_ge (tgt := 56) hx hb dX0_back_17 (by decide) (fun c11 => ?_) (fun c11 => ?_)
        · have h := it_t c11 h
          exact hk2 _ _ _ _ h hO hS (lv_sub hl [0] rfl)
        · have h := it_f c11 h
          refine lv_aload_n hx hb dX0_back_20 rfl (lv_at hl 0 rfl) ?_
          refine X0_getA hx hb hts hown hK hO 0 (by decide) (Or.inl rfl) (hts _ q164) dX0_back_21 ?_
          refine lv_iload_n hx hb dX0_back_24 rfl (lv_at hl 1 rfl) ?_
          obtain ⟨g12, h⟩ := grd h
          refine X0_paald hx hb hK hO g12 dX0_back_25 ?_
          refine lv_aload_n hx hb dX0_back_26 rfl (lv_at hl 0 rfl) ?_
          refine X0_getA hx hb hts hown hK hO 31 (by decide) (Or.inl rfl) (hts _ q197) dX0_back_27 ?_
          refine lv_iload_n hx hb dX0_back_30 rfl (lv_at hl 1 rfl) ?_
          obtain ⟨g13, h⟩ := grd h
          refine X0_iaload hx hb hK hO 31 (by decide) rfl rfl g13 dX0_back_31 ?_
          refine X0_putP hx hb hts hown hK hO hS g12 3 (by decide) (hK.nw q328 rfl) rfl rfl dX0_back_32 (fun H locs z14 ez14 hO hS => ?_)
          have h := pin_to ez14 h
          refine lv_aload_n hx hb dX0_back_35 rfl (lv_at hl 0 rfl) ?_
          refine X0_getA hx hb hts hown hK hO 0 (by decide) (Or.inl rfl) (hts _ q164) dX0_back_36 ?_
          refine lv_iload_n hx hb dX0_back_39 rfl (lv_at hl 1 rfl) ?_
          obtain ⟨g15, h⟩ := grd h
          refine X0_paald hx hb hK hO g15 dX0_back_40 ?_
          refine lv_aload_n hx hb dX0_back_41 rfl (lv_at hl 0 rfl) ?_
          refine X0_getA hx hb hts hown hK hO 32 (by decide) (Or.inl rfl) (hts _ q198) dX0_back_42 ?_
          refine lv_iload_n hx hb dX0_back_45 rfl (lv_at hl 1 rfl) ?_
          obtain ⟨g16, h⟩ := grd h
          refine X0_iaload hx hb hK hO 32 (by decide) rfl rfl g16 dX0_back_46 ?_
          refine X0_putP hx hb hts hown hK hO hS g15 4 (by decide) (hK.nw q330 rfl) rfl rfl dX0_back_47 (fun H locs z17 ez17 hO hS => ?_)
          have h := pin_to ez17 h
          refine lv_iinc (v := (v1 + 1)) (lv' := [(1, .int (v1 + 1)), (0, .ref o)]) hx hb dX0_back_50 hl (k := 1) rfl rfl (by decide) rfl (fun ls hl => ?_)
          refine lv_goto (tgt := 12) hx hb dX0_back_53 (by decide) ?_
          exact ih10 _ _ _ _ _ h hO hS (lv_sub hl [1, 0] rfl)
    exact key18 FU _ _ _ _ _ h hO hS (lv_sub hl [1, 0] rfl)
  · have h := it_t c1 h
    refine lv_bipush (v := (-5)) hx hb dX0_back_7 (by decide) ?_
    obtain ⟨e8, rfl⟩ := Prod.mk.inj (Option.some.inj h)
    exact g_retG hx hb hr hlocks e8 hO hS dX0_back_9
theorem clX0_back {p : Program} {l : Launch} {e : Env} {R : Room} {s : State} {m : MethodId} {args : Array Value} {below : List Frame} {meth : Method} {c : Code} {H : Heap} {locs : List Loc} {cells slots : Nat} {Q : State → Prop} {cc : ByteArray} {pc nL idx fr lo : Nat} {ls : Array Slot} {rest : List Value} {own : String} {D : va_G} {aC : Nat → ClassId} {A : Nat → Prop} {o : Nat} {la : LC} {z : GS} {zq : GS}  {r : Int32} (hf : CallFix p m c cc nL s args lw_all own) (hK : KC D aC s) (hO : OC D aC A o la z H) (hA : ∀ q : Nat, s.heap.size ≤ q → A q) (hZ : ZX A s s.heap) (hS : va_S A s.heap H locs) (hM : Met l yX0_back (ws_ yX0_back cX0_back 2 (some .int)) ({ frames := fr, cells := 0, slots := 0, locals := lo }) (va_Pc [.ref o] (PC D aC A o la z)) (QG (some (.int r)) (OC D aC A o la zq) A) 0 0 A) (hq : Cond.methodLink own idx yX0_back ∈ lw_all) (hs : ls.size = nL) (hr : (rest.map fun v => v.category).sum ≤ 8) (hR : fr + 1 ≤ R.frames ∧ 8 + (2 + 11) + lo ≤ R.locals) (hcs : cells + 0 ≤ R.cells ∧ slots + 0 ≤ R.slots) (hd : decode cc pc = .ok (.invokevirtual idx, 3)) (kk : ∀ (H1 : Heap) (locs1 : List Loc), OC D aC A o la zq H1 → va_S A s.heap H1 locs1 → W p l e R s m args below meth c H1 locs1 cells slots Q (F0 m (pc + 3) ls (.int r :: rest))) : W p l e R s m args below meth c H locs cells slots Q (F0 m pc ls (.ref o :: rest)) :=
  g_callG (W.runV (As := []) (rest := rest) hf hM (cwV 0 hf.2.2.2.2 (lw_V hq q1043 q1044 q90 q1045) rfl rfl rfl (by decide +kernel) hR) ⟨PC.blind, OC.recv hK hO, fun U hU hW => ⟨rfl, PC.at hO hK hA hZ hS hU hW⟩⟩ rfl rfl hs rfl (lv_room hr) hd hcs) hS (fun H1 locs1 hP hS _ _ => kk H1 locs1 hP hS)
theorem metX0_isBody (l : Launch) (D : va_G) (aC : Nat → ClassId) (A : Nat → Prop) (o : Nat) (la : LC) (x1 : Int32) (z : GS) (r : Int32) (h : FX0_isBody x1 z = r) : Met l yX0_isBody (ws_ yX0_isBody cX0_isBody 2 (some .boolean)) ({ frames := 1, cells := 0, slots := 0, locals := 22 }) (va_Pc [.ref o, .int x1] (PC D aC A o la z)) (QR (some (.int r))) 0 0 (fun _ => False) := by
  refine g_ofW (cc := cX0_isBody) (maxL := 2) (ret := (some .boolean)) (own := RX0) (by decide) rfl rfl [.ref o, .int x1] (PC D aC A o la z) (Nat.le_of_ble_eq_true rfl) ?_
  intro p e s m below meth c ls hx hb hr hml hts hown hlocks hnm hPre hl
  obtain ⟨hO, hK, hA, hZ⟩ := hPre
  have hf : CallFix p m c cX0_isBody 2 s _ lw_all RX0 := ⟨hx, hb, hml, hown, hts⟩
  have hl : lv_has ls 2 [(0, .ref o), (1, .int x1)] := hl
  have hS : va_S A s.heap s.heap [] := va_S.rf
  unfold FX0_isBody at h
  refine lv_iload_n hx hb dX0_isBody_0 rfl (lv_at hl 1 rfl) ?_
  refine lv_iconst (v := 0) hx hb dX0_isBody_1 (by decide) ?_
  refine lv_aload_n hx hb dX0_isBody_2 rfl (lv_at hl 0 rfl) ?_
  refine X0_getF hx hb hts hown hK hO 43 (by decide) rfl (hts _ q209) dX0_isBody_3 ?_
  refine lv_iconst (v := 1) hx hb dX0_isBody_6 (by decide) ?_
  refine lv_isub hx hb dX0_isBody_7 ?_
  refine clX0_in hf (metX0_in l x1 0 ((gF z 43) - 1) _ rfl) q309 hl.1 (Nat.le_of_ble_eq_true rfl) ⟨Nat.le_of_ble_eq_true rfl, Nat.le_of_ble_eq_true rfl⟩ ⟨Nat.le_of_ble_eq_true rfl, Nat.le_of_ble_eq_true rfl⟩ dX0_isBody_8 ?_
  exact g_retRz hx hb hr hlocks (bzX0_in ..) h dX0_isBody_11
theorem bzX0_isBody (x1 : Int32) (z : GS) : okZ (FX0_isBody x1 z) := by
  unfold FX0_isBody
  repeat' split
  all_goals first | exact Or.inl rfl | exact Or.inr rfl | exact bzX0_in ..
theorem clX0_isBody {p : Program} {l : Launch} {e : Env} {R : Room} {s : State} {m : MethodId} {args : Array Value} {below : List Frame} {meth : Method} {c : Code} {H : Heap} {locs : List Loc} {cells slots : Nat} {Q : State → Prop} {cc : ByteArray} {pc nL idx fr lo : Nat} {ls : Array Slot} {rest : List Value} {own : String} {D : va_G} {aC : Nat → ClassId} {A : Nat → Prop} {o : Nat} {la : LC} {z : GS} {x1 : Int32} {r : Int32} (hf : CallFix p m c cc nL s args lw_all own) (hK : KC D aC s) (hO : OC D aC A o la z H) (hA : ∀ q : Nat, s.heap.size ≤ q → A q) (hZ : ZX A s s.heap) (hS : va_S A s.heap H locs) (hM : Met l yX0_isBody (ws_ yX0_isBody cX0_isBody 2 (some .boolean)) ({ frames := fr, cells := 0, slots := 0, locals := lo }) (va_Pc [.ref o, .int x1] (PC D aC A o la z)) (QR (some (.int r))) 0 0 (fun _ => False)) (hq : Cond.methodLink own idx yX0_isBody ∈ lw_all) (hs : ls.size = nL) (hr : (rest.map fun v => v.category).sum ≤ 8) (hR : fr + 1 ≤ R.frames ∧ 8 + (2 + 11) + lo ≤ R.locals) (hcs : cells + 0 ≤ R.cells ∧ slots + 0 ≤ R.slots) (hd : decode cc pc = .ok (.invokevirtual idx, 3)) (kk : W p l e R s m args below meth c H locs cells slots Q (F0 m (pc + 3) ls (.int r :: rest))) : W p l e R s m args below meth c H locs cells slots Q (F0 m pc ls (.int x1 :: .ref o :: rest)) :=
  g_callR (W.runV (As := [.int x1]) (rest := rest) hf hM (cwV 1 hf.2.2.2.2 (lw_V hq q1165 qs47 q90 q1166) rfl rfl rfl (by decide +kernel) hR) ⟨PC.blind, OC.recv hK hO, fun U hU hW => ⟨rfl, PC.at hO hK hA hZ hS hU hW⟩⟩ rfl rfl hs rfl (lv_room hr) hd hcs) kk
theorem metX0_ran (l : Launch) (D : va_G) (aC : Nat → ClassId) (A : Nat → Prop) (o : Nat) (la : LC) (x1 : Int32) (z : GS)  (zq : GS) (h : FX0_ran x1 z = some zq) : Met l yX0_ran (ws_ yX0_ran cX0_ran 2 none) ({ frames := 0, cells := 0, slots := 0, locals := 0 }) (va_Pc [.ref o, .int x1] (PC D aC A o la z)) (QG none (OC D aC A o la zq) A) 0 0 A := by
  refine g_ofW (cc := cX0_ran) (maxL := 2) (ret := none) (own := RX0) (by decide) rfl rfl [.ref o, .int x1] (PC D aC A o la z) (Nat.le_of_ble_eq_true rfl) ?_
  intro p e s m below meth c ls hx hb hr hml hts hown hlocks hnm hPre hl
  obtain ⟨hO, hK, hA, hZ⟩ := hPre
  have hf : CallFix p m c cX0_ran 2 s _ lw_all RX0 := ⟨hx, hb, hml, hown, hts⟩
  have hl : lv_has ls 2 [(0, .ref o), (1, .int x1)] := hl
  refine g_open (A := A) (OC D aC A o la z) hO (fun H locs hO hS => ?_)
  unfold FX0_ran at h
  refine lv_aload_n hx hb dX0_ran_0 rfl (lv_at hl 0 rfl) ?_
  refine X0_getF hx hb hts hown hK hO 40 (by decide) rfl (hts _ q206) dX0_ran_1 ?_
  refine lv_bipush (v := 24) hx hb dX0_ran_4 (by decide) ?_
  obtain ⟨k1, e7, h⟩ := pin_nm h
  have hk1 : ∀  (z2 : GS) (H : Heap) (locs : List Loc) (ls : Array Slot), k1  z2 = some zq → OC D aC A o la z2 H → va_S A s.heap H locs → lv_has ls 2 [(0, .ref o)] → W p l e ({ frames := 0, cells := 0, slots := 0, locals := 0 }) s m ([.ref o, .int x1] : List Value).toArray below meth c H locs 0 0 (MQ below (QG none (OC D aC A o la zq) A) ([.ref o, .int x1] : List Value).toArray s 0 0 A) (F0 m 20 ls []) := by
    intro  z2 H locs ls h hO hS hl
    rw [e7] at h
    refine lv_aload_n hx hb dX0_ran_20 rfl (lv_at hl 0 rfl) ?_
    refine lv_dup hx hb dX0_ran_21 rfl ?_
    refine X0_getF hx hb hts hown hK hO 40 (by decide) rfl (hts _ q206) dX0_ran_22 ?_
    refine lv_iconst (v := 1) hx hb dX0_ran_25 (by decide) ?_
    refine lv_iadd hx hb dX0_ran_26 ?_
    refine X0_putF hx hb hts hown hK hO hS 40 (by decide) rfl (by decide) (by decide) (hts _ q206) rfl (ty := .int) rfl rfl rfl dX0_ran_27 (fun H locs z3 ez3 hO hS => ?_)
    have h := pin_to ez3 h
    cases Option.some.inj h
    exact g_retGv hx hb hr hlocks hO hS dX0_ran_30
  refine lv_icmp_ge (tgt := 20) hx hb dX0_ran_6 (by decide) (fun c4 => ?_) (fun c4 => ?_)
  · have h := it_t c4 h
    exact hk1 _ _ _ _ h hO hS (lv_sub hl [0] rfl)
  · have h := it_f c4 h
    refine lv_aload_n hx hb dX0_ran_9 rfl (lv_at hl 0 rfl) ?_
    refine X0_getA hx hb hts hown hK hO 41 (by decide) (Or.inl rfl) (hts _ q207) dX0_ran_10 ?_
    refine lv_aload_n hx hb dX0_ran_13 rfl (lv_at hl 0 rfl) ?_
    refine X0_getF hx hb hts hown hK hO 40 (by decide) rfl (hts _ q206) dX0_ran_14 ?_
    refine lv_iload_n hx hb dX0_ran_17 rfl (lv_at hl 1 rfl) ?_
    refine lv_i2b (v := (x1.toInt8.toInt32)) hx hb dX0_ran_18 rfl ?_
    obtain ⟨g5, h⟩ := grd h
    refine X0_bastore hx hb hK hO hS 41 (by decide) rfl rfl g5 dX0_ran_19 (fun H locs z6 ez6 hO hS => ?_)
    have h := pin_to ez6 h
    exact hk1 _ _ _ _ h hO hS (lv_sub hl [0] rfl)
theorem clX0_ran {p : Program} {l : Launch} {e : Env} {R : Room} {s : State} {m : MethodId} {args : Array Value} {below : List Frame} {meth : Method} {c : Code} {H : Heap} {locs : List Loc} {cells slots : Nat} {Q : State → Prop} {cc : ByteArray} {pc nL idx fr lo : Nat} {ls : Array Slot} {rest : List Value} {own : String} {D : va_G} {aC : Nat → ClassId} {A : Nat → Prop} {o : Nat} {la : LC} {z : GS} {zq : GS} {x1 : Int32}  (hf : CallFix p m c cc nL s args lw_all own) (hK : KC D aC s) (hO : OC D aC A o la z H) (hA : ∀ q : Nat, s.heap.size ≤ q → A q) (hZ : ZX A s s.heap) (hS : va_S A s.heap H locs) (hM : Met l yX0_ran (ws_ yX0_ran cX0_ran 2 none) ({ frames := fr, cells := 0, slots := 0, locals := lo }) (va_Pc [.ref o, .int x1] (PC D aC A o la z)) (QG none (OC D aC A o la zq) A) 0 0 A) (hq : Cond.methodLink own idx yX0_ran ∈ lw_all) (hs : ls.size = nL) (hr : (rest.map fun v => v.category).sum ≤ 8) (hR : fr + 1 ≤ R.frames ∧ 8 + (2 + 11) + lo ≤ R.locals) (hcs : cells + 0 ≤ R.cells ∧ slots + 0 ≤ R.slots) (hd : decode cc pc = .ok (.invokevirtual idx, 3)) (kk : ∀ (H1 : Heap) (locs1 : List Loc), OC D aC A o la zq H1 → va_S A s.heap H1 locs1 → W p l e R s m args below meth c H1 locs1 cells slots Q (F0 m (pc + 3) ls (rest))) : W p l e R s m args below meth c H locs cells slots Q (F0 m pc ls (.int x1 :: .ref o :: rest)) :=
  g_callG (W.runV (As := [.int x1]) (rest := rest) hf hM (cwV 1 hf.2.2.2.2 (lw_V hq q1179 qs48 q90 q1180) rfl rfl rfl (by decide +kernel) hR) ⟨PC.blind, OC.recv hK hO, fun U hU hW => ⟨rfl, PC.at hO hK hA hZ hS hU hW⟩⟩ rfl rfl hs rfl (lv_room hr) hd hcs) hS (fun H1 locs1 hP hS _ _ => kk H1 locs1 hP hS)
theorem metX0_trace (l : Launch) (D : va_G) (aC : Nat → ClassId) (A : Nat → Prop) (o : Nat) (la : LC) (x1 : Int32) (z : GS) (r : Int32) (h : FX0_trace x1 z = some r) : Met l yX0_trace (ws_ yX0_trace cX0_trace 2 (some .int)) ({ frames := 0, cells := 0, slots := 0, locals := 0 }) (va_Pc [.ref o, .int x1] (PC D aC A o la z)) (QR (some (.int r))) 0 0 (fun _ => False) := by
  refine g_ofW (cc := cX0_trace) (maxL := 2) (ret := (some .int)) (own := RX0) (by decide) rfl rfl [.ref o, .int x1] (PC D aC A o la z) (Nat.le_of_ble_eq_true rfl) ?_
  intro p e s m below meth c ls hx hb hr hml hts hown hlocks hnm hPre hl
  obtain ⟨hO, hK, hA, hZ⟩ := hPre
  have hf : CallFix p m c cX0_trace 2 s _ lw_all RX0 := ⟨hx, hb, hml, hown, hts⟩
  have hl : lv_has ls 2 [(0, .ref o), (1, .int x1)] := hl
  have hS : va_S A s.heap s.heap [] := va_S.rf
  unfold FX0_trace at h
  refine lv_iload_n hx hb dX0_trace_0 rfl (lv_at hl 1 rfl) ?_
  refine lv_if_lt (tgt := 27) hx hb dX0_trace_1 (by decide) (fun c1 => ?_) (fun c1 => ?_)
  · have h := it_t c1 h
    refine lv_iconst (v := (-1)) hx hb dX0_trace_27 (by decide) ?_
    exact g_retR hx hb hr hlocks (Option.some.inj h) dX0_trace_28
  · have h := it_f c1 h
    refine lv_iload_n hx hb dX0_trace_4 rfl (lv_at hl 1 rfl) ?_
    refine lv_aload_n hx hb dX0_trace_5 rfl (lv_at hl 0 rfl) ?_
    refine X0_getF hx hb hts hown hK hO 40 (by decide) rfl (hts _ q206) dX0_trace_6 ?_
    refine lv_icmp_ge (tgt := 27) hx hb dX0_trace_9 (by decide) (fun c2 => ?_) (fun c2 => ?_)
    · have h := it_t c2 h
      refine lv_iconst (v := (-1)) hx hb dX0_trace_27 (by decide) ?_
      exact g_retR hx hb hr hlocks (Option.some.inj h) dX0_trace_28
    · have h := it_f c2 h
      refine lv_iload_n hx hb dX0_trace_12 rfl (lv_at hl 1 rfl) ?_
      refine lv_bipush (v := 24) hx hb dX0_trace_13 (by decide) ?_
      refine lv_icmp_ge (tgt := 27) hx hb dX0_trace_15 (by decide) (fun c3 => ?_) (fun c3 => ?_)
      · have h := it_t c3 h
        refine lv_iconst (v := (-1)) hx hb dX0_trace_27 (by decide) ?_
        exact g_retR hx hb hr hlocks (Option.some.inj h) dX0_trace_28
      · have h := it_f c3 h
        refine lv_aload_n hx hb dX0_trace_18 rfl (lv_at hl 0 rfl) ?_
        refine X0_getA hx hb hts hown hK hO 41 (by decide) (Or.inl rfl) (hts _ q207) dX0_trace_19 ?_
        refine lv_iload_n hx hb dX0_trace_22 rfl (lv_at hl 1 rfl) ?_
        obtain ⟨g4, h⟩ := grd h
        refine X0_baload hx hb hK hO 41 (by decide) rfl rfl g4 dX0_trace_23 ?_
        refine lv_goto (tgt := 28) hx hb dX0_trace_24 (by decide) ?_
        exact g_retR hx hb hr hlocks (Option.some.inj h) dX0_trace_28
theorem clX0_trace {p : Program} {l : Launch} {e : Env} {R : Room} {s : State} {m : MethodId} {args : Array Value} {below : List Frame} {meth : Method} {c : Code} {H : Heap} {locs : List Loc} {cells slots : Nat} {Q : State → Prop} {cc : ByteArray} {pc nL idx fr lo : Nat} {ls : Array Slot} {rest : List Value} {own : String} {D : va_G} {aC : Nat → ClassId} {A : Nat → Prop} {o : Nat} {la : LC} {z : GS} {x1 : Int32} {r : Int32} (hf : CallFix p m c cc nL s args lw_all own) (hK : KC D aC s) (hO : OC D aC A o la z H) (hA : ∀ q : Nat, s.heap.size ≤ q → A q) (hZ : ZX A s s.heap) (hS : va_S A s.heap H locs) (hM : Met l yX0_trace (ws_ yX0_trace cX0_trace 2 (some .int)) ({ frames := fr, cells := 0, slots := 0, locals := lo }) (va_Pc [.ref o, .int x1] (PC D aC A o la z)) (QR (some (.int r))) 0 0 (fun _ => False)) (hq : Cond.methodLink own idx yX0_trace ∈ lw_all) (hs : ls.size = nL) (hr : (rest.map fun v => v.category).sum ≤ 8) (hR : fr + 1 ≤ R.frames ∧ 8 + (2 + 11) + lo ≤ R.locals) (hcs : cells + 0 ≤ R.cells ∧ slots + 0 ≤ R.slots) (hd : decode cc pc = .ok (.invokevirtual idx, 3)) (kk : W p l e R s m args below meth c H locs cells slots Q (F0 m (pc + 3) ls (.int r :: rest))) : W p l e R s m args below meth c H locs cells slots Q (F0 m pc ls (.int x1 :: .ref o :: rest)) :=
  g_callR (W.runV (As := [.int x1]) (rest := rest) hf hM (cwV 1 hf.2.2.2.2 (lw_V hq q1307 q1308 q90 q1309) rfl rfl rfl (by decide +kernel) hR) ⟨PC.blind, OC.recv hK hO, fun U hU hW => ⟨rfl, PC.at hO hK hA hZ hS hU hW⟩⟩ rfl rfl hs rfl (lv_room hr) hd hcs) kk
theorem metX0_lackNow (l : Launch) (D : va_G) (aC : Nat → ClassId) (A : Nat → Prop) (o : Nat) (la : LC)  (z : GS) (r : Int32) (zq : GS) (h : FX0_lackNow z = some (r, zq)) : Met l yX0_lackNow (ws_ yX0_lackNow cX0_lackNow 1 (some .int)) ({ frames := 3, cells := 0, slots := 0, locals := 63 }) (va_Pc [.ref o] (PC D aC A o la z)) (QG (some (.int r)) (OC D aC A o la zq) A) 0 0 A := by
  refine g_ofW (cc := cX0_lackNow) (maxL := 1) (ret := (some .int)) (own := RX0) (by decide) rfl rfl [.ref o] (PC D aC A o la z) (Nat.le_of_ble_eq_true rfl) ?_
  intro p e s m below meth c ls hx hb hr hml hts hown hlocks hnm hPre hl
  obtain ⟨hO, hK, hA, hZ⟩ := hPre
  have hf : CallFix p m c cX0_lackNow 1 s _ lw_all RX0 := ⟨hx, hb, hml, hown, hts⟩
  have hl : lv_has ls 1 [(0, .ref o)] := hl
  refine g_open (A := A) (OC D aC A o la z) hO (fun H locs hO hS => ?_)
  unfold FX0_lackNow at h
  refine lv_aload_n hx hb dX0_lackNow_0 rfl (lv_at hl 0 rfl) ?_
  obtain ⟨z1, e2, h⟩ := bn1_e h
  refine clX0_layNow hf hK hO hA hZ hS (metX0_layNow l D aC A o la z z1 e2) q802 hl.1 (Nat.le_of_ble_eq_true rfl) ⟨Nat.le_of_ble_eq_true rfl, Nat.le_of_ble_eq_true rfl⟩ ⟨Nat.le_of_ble_eq_true rfl, Nat.le_of_ble_eq_true rfl⟩ dX0_lackNow_1 (fun H locs hO hS => ?_)
  refine lv_aload_n hx hb dX0_lackNow_4 rfl (lv_at hl 0 rfl) ?_
  obtain ⟨r3, e4, h⟩ := bn1_e h
  refine clX0_lackMany hf hK hO hA hZ hS (metX0_lackMany l D aC A o la z1 r3 e4) q926 hl.1 (Nat.le_of_ble_eq_true rfl) ⟨Nat.le_of_ble_eq_true rfl, Nat.le_of_ble_eq_true rfl⟩ ⟨Nat.le_of_ble_eq_true rfl, Nat.le_of_ble_eq_true rfl⟩ dX0_lackNow_5 ?_
  obtain ⟨e8, rfl⟩ := Prod.mk.inj (Option.some.inj h)
  exact g_retG hx hb hr hlocks e8 hO hS dX0_lackNow_8
theorem clX0_lackNow {p : Program} {l : Launch} {e : Env} {R : Room} {s : State} {m : MethodId} {args : Array Value} {below : List Frame} {meth : Method} {c : Code} {H : Heap} {locs : List Loc} {cells slots : Nat} {Q : State → Prop} {cc : ByteArray} {pc nL idx fr lo : Nat} {ls : Array Slot} {rest : List Value} {own : String} {D : va_G} {aC : Nat → ClassId} {A : Nat → Prop} {o : Nat} {la : LC} {z : GS} {zq : GS}  {r : Int32} (hf : CallFix p m c cc nL s args lw_all own) (hK : KC D aC s) (hO : OC D aC A o la z H) (hA : ∀ q : Nat, s.heap.size ≤ q → A q) (hZ : ZX A s s.heap) (hS : va_S A s.heap H locs) (hM : Met l yX0_lackNow (ws_ yX0_lackNow cX0_lackNow 1 (some .int)) ({ frames := fr, cells := 0, slots := 0, locals := lo }) (va_Pc [.ref o] (PC D aC A o la z)) (QG (some (.int r)) (OC D aC A o la zq) A) 0 0 A) (hq : Cond.methodLink own idx yX0_lackNow ∈ lw_all) (hs : ls.size = nL) (hr : (rest.map fun v => v.category).sum ≤ 8) (hR : fr + 1 ≤ R.frames ∧ 8 + (1 + 11) + lo ≤ R.locals) (hcs : cells + 0 ≤ R.cells ∧ slots + 0 ≤ R.slots) (hd : decode cc pc = .ok (.invokevirtual idx, 3)) (kk : ∀ (H1 : Heap) (locs1 : List Loc), OC D aC A o la zq H1 → va_S A s.heap H1 locs1 → W p l e R s m args below meth c H1 locs1 cells slots Q (F0 m (pc + 3) ls (.int r :: rest))) : W p l e R s m args below meth c H locs cells slots Q (F0 m pc ls (.ref o :: rest)) :=
  g_callG (W.runV (As := []) (rest := rest) hf hM (cwV 0 hf.2.2.2.2 (lw_V hq q1526 qs49 q90 q1527) rfl rfl rfl (by decide +kernel) hR) ⟨PC.blind, OC.recv hK hO, fun U hU hW => ⟨rfl, PC.at hO hK hA hZ hS hU hW⟩⟩ rfl rfl hs rfl (lv_room hr) hd hcs) hS (fun H1 locs1 hP hS _ _ => kk H1 locs1 hP hS)
theorem metX0_count (l : Launch) (D : va_G) (aC : Nat → ClassId) (A : Nat → Prop) (o : Nat) (la : LC) (x1 : Int32) (z : GS) (r : Int32) (zq : GS) (h : FX0_count x1 z = some (r, zq)) : Met l yX0_count (ws_ yX0_count cX0_count 2 (some .int)) ({ frames := 4, cells := 0, slots := 0, locals := 83 }) (va_Pc [.ref o, .int x1] (PC D aC A o la z)) (QG (some (.int r)) (OC D aC A o la zq) A) 0 0 A := by
  refine g_ofW (cc := cX0_count) (maxL := 2) (ret := (some .int)) (own := RX0) (by decide) rfl rfl [.ref o, .int x1] (PC D aC A o la z) (Nat.le_of_ble_eq_true rfl) ?_
  intro p e s m below meth c ls hx hb hr hml hts hown hlocks hnm hPre hl
  obtain ⟨hO, hK, hA, hZ⟩ := hPre
  have hf : CallFix p m c cX0_count 2 s _ lw_all RX0 := ⟨hx, hb, hml, hown, hts⟩
  have hl : lv_has ls 2 [(0, .ref o), (1, .int x1)] := hl
  refine g_open (A := A) (OC D aC A o la z) hO (fun H locs hO hS => ?_)
  unfold FX0_count at h
  refine lv_iload_n hx hb dX0_count_0 rfl (lv_at hl 1 rfl) ?_
  by_cases c1 : x1 = 0
  · have h := it_t c1 h
    refine lv_tableIn (off := 39) (tgt := 40) hx hb dX0_count_1 (by rw [c1]; decide) (by rw [c1]; decide) (by rw [c1]; rfl) (by decide) ?_
    refine lv_aload_n hx hb dX0_count_40 rfl (lv_at hl 0 rfl) ?_
    refine X0_getF hx hb hts hown hK hO 1 (by decide) rfl (hts _ q165) dX0_count_41 ?_
    obtain ⟨e8, rfl⟩ := Prod.mk.inj (Option.some.inj h)
    exact g_retG hx hb hr hlocks e8 hO hS dX0_count_44
  have h := it_f c1 h
  by_cases c2 : x1 = 1
  · have h := it_t c2 h
    refine lv_tableIn (off := 44) (tgt := 45) hx hb dX0_count_1 (by rw [c2]; decide) (by rw [c2]; decide) (by rw [c2]; rfl) (by decide) ?_
    refine lv_aload_n hx hb dX0_count_45 rfl (lv_at hl 0 rfl) ?_
    obtain ⟨r3, z4, e5, h⟩ := bnd_e h
    refine clX0_lackNow hf hK hO hA hZ hS (metX0_lackNow l D aC A o la z r3 z4 e5) q1524 hl.1 (Nat.le_of_ble_eq_true rfl) ⟨Nat.le_of_ble_eq_true rfl, Nat.le_of_ble_eq_true rfl⟩ ⟨Nat.le_of_ble_eq_true rfl, Nat.le_of_ble_eq_true rfl⟩ dX0_count_46 (fun H locs hO hS => ?_)
    obtain ⟨e8, rfl⟩ := Prod.mk.inj (Option.some.inj h)
    exact g_retG hx hb hr hlocks e8 hO hS dX0_count_49
  have h := it_f c2 h
  by_cases c6 : x1 = 2
  · have h := it_t c6 h
    refine lv_tableIn (off := 49) (tgt := 50) hx hb dX0_count_1 (by rw [c6]; decide) (by rw [c6]; decide) (by rw [c6]; rfl) (by decide) ?_
    refine lv_aload_n hx hb dX0_count_50 rfl (lv_at hl 0 rfl) ?_
    refine X0_getF hx hb hts hown hK hO 8 (by decide) rfl (hts _ q174) dX0_count_51 ?_
    obtain ⟨e8, rfl⟩ := Prod.mk.inj (Option.some.inj h)
    exact g_retG hx hb hr hlocks e8 hO hS dX0_count_54
  have h := it_f c6 h
  by_cases c7 : x1 = 3
  · have h := it_t c7 h
    refine lv_tableIn (off := 54) (tgt := 55) hx hb dX0_count_1 (by rw [c7]; decide) (by rw [c7]; decide) (by rw [c7]; rfl) (by decide) ?_
    refine lv_aload_n hx hb dX0_count_55 rfl (lv_at hl 0 rfl) ?_
    refine X0_getF hx hb hts hown hK hO 5 (by decide) rfl (hts _ q169) dX0_count_56 ?_
    obtain ⟨e8, rfl⟩ := Prod.mk.inj (Option.some.inj h)
    exact g_retG hx hb hr hlocks e8 hO hS dX0_count_59
  have h := it_f c7 h
  by_cases c8 : x1 = 4
  · have h := it_t c8 h
    refine lv_tableIn (off := 59) (tgt := 60) hx hb dX0_count_1 (by rw [c8]; decide) (by rw [c8]; decide) (by rw [c8]; rfl) (by decide) ?_
    refine lv_aload_n hx hb dX0_count_60 rfl (lv_at hl 0 rfl) ?_
    refine X0_getF hx hb hts hown hK hO 43 (by decide) rfl (hts _ q209) dX0_count_61 ?_
    obtain ⟨e8, rfl⟩ := Prod.mk.inj (Option.some.inj h)
    exact g_retG hx hb hr hlocks e8 hO hS dX0_count_64
  have h := it_f c8 h
  by_cases c9 : x1 = 5
  · have h := it_t c9 h
    refine lv_tableIn (off := 64) (tgt := 65) hx hb dX0_count_1 (by rw [c9]; decide) (by rw [c9]; decide) (by rw [c9]; rfl) (by decide) ?_
    refine lv_aload_n hx hb dX0_count_65 rfl (lv_at hl 0 rfl) ?_
    refine X0_getF hx hb hts hown hK hO 40 (by decide) rfl (hts _ q206) dX0_count_66 ?_
    obtain ⟨e8, rfl⟩ := Prod.mk.inj (Option.some.inj h)
    exact g_retG hx hb hr hlocks e8 hO hS dX0_count_69
  have h := it_f c9 h
  have tc1 := lv_neT (a := 0) c1 rfl
  have tc2 := lv_neT (a := 1) c2 rfl
  have tc6 := lv_neT (a := 2) c6 rfl
  have tc7 := lv_neT (a := 3) c7 rfl
  have tc8 := lv_neT (a := 4) c8 rfl
  have tc9 := lv_neT (a := 5) c9 rfl
  refine lv_tableOut (tgt := 70) hx hb dX0_count_1 (by omega) (by decide) ?_
  refine lv_iconst (v := (-1)) hx hb dX0_count_70 (by decide) ?_
  obtain ⟨e8, rfl⟩ := Prod.mk.inj (Option.some.inj h)
  exact g_retG hx hb hr hlocks e8 hO hS dX0_count_71
theorem clX0_count {p : Program} {l : Launch} {e : Env} {R : Room} {s : State} {m : MethodId} {args : Array Value} {below : List Frame} {meth : Method} {c : Code} {H : Heap} {locs : List Loc} {cells slots : Nat} {Q : State → Prop} {cc : ByteArray} {pc nL idx fr lo : Nat} {ls : Array Slot} {rest : List Value} {own : String} {D : va_G} {aC : Nat → ClassId} {A : Nat → Prop} {o : Nat} {la : LC} {z : GS} {zq : GS} {x1 : Int32} {r : Int32} (hf : CallFix p m c cc nL s args lw_all own) (hK : KC D aC s) (hO : OC D aC A o la z H) (hA : ∀ q : Nat, s.heap.size ≤ q → A q) (hZ : ZX A s s.heap) (hS : va_S A s.heap H locs) (hM : Met l yX0_count (ws_ yX0_count cX0_count 2 (some .int)) ({ frames := fr, cells := 0, slots := 0, locals := lo }) (va_Pc [.ref o, .int x1] (PC D aC A o la z)) (QG (some (.int r)) (OC D aC A o la zq) A) 0 0 A) (hq : Cond.methodLink own idx yX0_count ∈ lw_all) (hs : ls.size = nL) (hr : (rest.map fun v => v.category).sum ≤ 8) (hR : fr + 1 ≤ R.frames ∧ 8 + (2 + 11) + lo ≤ R.locals) (hcs : cells + 0 ≤ R.cells ∧ slots + 0 ≤ R.slots) (hd : decode cc pc = .ok (.invokevirtual idx, 3)) (kk : ∀ (H1 : Heap) (locs1 : List Loc), OC D aC A o la zq H1 → va_S A s.heap H1 locs1 → W p l e R s m args below meth c H1 locs1 cells slots Q (F0 m (pc + 3) ls (.int r :: rest))) : W p l e R s m args below meth c H locs cells slots Q (F0 m pc ls (.int x1 :: .ref o :: rest)) :=
  g_callG (W.runV (As := [.int x1]) (rest := rest) hf hM (cwV 1 hf.2.2.2.2 (lw_V hq q1521 q1522 q90 q1523) rfl rfl rfl (by decide +kernel) hR) ⟨PC.blind, OC.recv hK hO, fun U hU hW => ⟨rfl, PC.at hO hK hA hZ hS hU hW⟩⟩ rfl rfl hs rfl (lv_room hr) hd hcs) hS (fun H1 locs1 hP hS _ _ => kk H1 locs1 hP hS)
