set_option maxRecDepth 100000
/-! printed by gen.py: the walks -/
theorem metJ13_numberOfTrailingZeros (l : Launch) (x1 : Int32)  (r : Int32) (h : FJ13_numberOfTrailingZeros x1 = r) : Met l yJ13_numberOfTrailingZeros (ws_ yJ13_numberOfTrailingZeros cJ13_numberOfTrailingZeros 2 (some .int)) ({ frames := 0, cells := 0, slots := 0, locals := 0 }) (va_Pc [.int x1] (fun _ => True)) (QR (some (.int r))) 0 0 (fun _ => False) := by
  refine g_ofW (cc := cJ13_numberOfTrailingZeros) (maxL := 2) (ret := (some .int)) (own := RJ13) (by decide) rfl rfl [.int x1] (fun _ => True) (Nat.le_of_ble_eq_true rfl) ?_
  intro p e s m below meth c ls hx hb hr hml hts hown hlocks hnm hPre hl
  have hf : CallFix p m c cJ13_numberOfTrailingZeros 2 s _ lw_all RJ13 := ⟨hx, hb, hml, hown, hts⟩
  have hl : lv_has ls 2 [(0, .int x1)] := hl
  unfold FJ13_numberOfTrailingZeros at h
  refine lv_iload_n hx hb dJ13_numberOfTrailingZeros_0 rfl (lv_at hl 0 rfl) ?_
  refine lv_iconst (v := (-1)) hx hb dJ13_numberOfTrailingZeros_1 (by decide) ?_
  refine lv_ixor hx hb dJ13_numberOfTrailingZeros_2 ?_
  refine lv_iload_n hx hb dJ13_numberOfTrailingZeros_3 rfl (lv_at hl 0 rfl) ?_
  refine lv_iconst (v := 1) hx hb dJ13_numberOfTrailingZeros_4 (by decide) ?_
  refine lv_isub hx hb dJ13_numberOfTrailingZeros_5 ?_
  refine lv_iand hx hb dJ13_numberOfTrailingZeros_6 ?_
  refine lv_topi (fun y1 ey1 => ?_)
  have h := pin_to ey1 h
  refine lv_istore_n (lv' := [(0, .int y1)]) hx hb dJ13_numberOfTrailingZeros_7 rfl hl (by decide) rfl (fun ls hl => ?_)
  refine lv_iload_n hx hb dJ13_numberOfTrailingZeros_8 rfl (lv_at hl 0 rfl) ?_
  refine lv_if_gt (tgt := 17) hx hb dJ13_numberOfTrailingZeros_9 (by decide) (fun c2 => ?_) (fun c2 => ?_)
  · have h := it_t c2 h
    refine lv_iconst (v := 1) hx hb dJ13_numberOfTrailingZeros_17 (by decide) ?_
    refine lv_istore_n (lv' := [(1, .int 1), (0, .int y1)]) hx hb dJ13_numberOfTrailingZeros_18 rfl hl (by decide) rfl (fun ls hl => ?_)
    refine lv_iload_n hx hb dJ13_numberOfTrailingZeros_19 rfl (lv_at hl 1 rfl) ?_
    refine lv_ldcw (v := 65536) hx hb hown (hts _ q894) dJ13_numberOfTrailingZeros_20 ?_
    obtain ⟨k3, e26, h⟩ := pin_nm h
    have hk3 : ∀ (v4 : Int32) (v5 : Int32) (ls : Array Slot), k3 v4 v5 = r → lv_has ls 2 [(0, .int v4), (1, .int v5)] → W p l e ({ frames := 0, cells := 0, slots := 0, locals := 0 }) s m ([.int x1] : List Value).toArray below meth c s.heap [] 0 0 (MQ below (QR (some (.int r))) ([.int x1] : List Value).toArray s 0 0 (fun _ => False)) (F0 m 34 ls []) := by
      intro v4 v5 ls h hl
      rw [e26] at h
      refine lv_iload_n hx hb dJ13_numberOfTrailingZeros_34 rfl (lv_at hl 0 rfl) ?_
      refine lv_sipush (v := 256) hx hb dJ13_numberOfTrailingZeros_35 (by decide) ?_
      obtain ⟨k6, e23, h⟩ := pin_nm h
      have hk6 : ∀ (v7 : Int32) (v8 : Int32) (ls : Array Slot), k6 v7 v8 = r → lv_has ls 2 [(0, .int v7), (1, .int v8)] → W p l e ({ frames := 0, cells := 0, slots := 0, locals := 0 }) s m ([.int x1] : List Value).toArray below meth c s.heap [] 0 0 (MQ below (QR (some (.int r))) ([.int x1] : List Value).toArray s 0 0 (fun _ => False)) (F0 m 49 ls []) := by
        intro v7 v8 ls h hl
        rw [e23] at h
        refine lv_iload_n hx hb dJ13_numberOfTrailingZeros_49 rfl (lv_at hl 0 rfl) ?_
        refine lv_bipush (v := 16) hx hb dJ13_numberOfTrailingZeros_50 (by decide) ?_
        obtain ⟨k9, e20, h⟩ := pin_nm h
        have hk9 : ∀ (v10 : Int32) (v11 : Int32) (ls : Array Slot), k9 v10 v11 = r → lv_has ls 2 [(0, .int v10), (1, .int v11)] → W p l e ({ frames := 0, cells := 0, slots := 0, locals := 0 }) s m ([.int x1] : List Value).toArray below meth c s.heap [] 0 0 (MQ below (QR (some (.int r))) ([.int x1] : List Value).toArray s 0 0 (fun _ => False)) (F0 m 62 ls []) := by
          intro v10 v11 ls h hl
          rw [e20] at h
          refine lv_iload_n hx hb dJ13_numberOfTrailingZeros_62 rfl (lv_at hl 0 rfl) ?_
          refine lv_iconst (v := 4) hx hb dJ13_numberOfTrailingZeros_63 (by decide) ?_
          obtain ⟨k12, e17, h⟩ := pin_nm h
          have hk12 : ∀ (v13 : Int32) (v14 : Int32) (ls : Array Slot), k12 v13 v14 = r → lv_has ls 2 [(0, .int v13), (1, .int v14)] → W p l e ({ frames := 0, cells := 0, slots := 0, locals := 0 }) s m ([.int x1] : List Value).toArray below meth c s.heap [] 0 0 (MQ below (QR (some (.int r))) ([.int x1] : List Value).toArray s 0 0 (fun _ => False)) (F0 m 74 ls []) := by
            intro v13 v14 ls h hl
            rw [e17] at h
            refine lv_iload_n hx hb dJ13_numberOfTrailingZeros_74 rfl (lv_at hl 1 rfl) ?_
            refine lv_iload_n hx hb dJ13_numberOfTrailingZeros_75 rfl (lv_at hl 0 rfl) ?_
            refine lv_iconst (v := 1) hx hb dJ13_numberOfTrailingZeros_76 (by decide) ?_
            refine g_iushr hx hb dJ13_numberOfTrailingZeros_77 ?_
            refine lv_iadd hx hb dJ13_numberOfTrailingZeros_78 ?_
            exact g_retR hx hb hr hlocks h dJ13_numberOfTrailingZeros_79
          refine lv_icmp_le (tgt := 74) hx hb dJ13_numberOfTrailingZeros_64 (by decide) (fun c15 => ?_) (fun c15 => ?_)
          · have h := it_t c15 h
            exact hk12 _ _ _ h (lv_sub hl [0, 1] rfl)
          · have h := it_f c15 h
            refine lv_iinc (v := (v11 + 2)) (lv' := [(1, .int (v11 + 2)), (0, .int v10)]) hx hb dJ13_numberOfTrailingZeros_67 hl (k := 1) rfl rfl (by decide) rfl (fun ls hl => ?_)
            refine lv_iload_n hx hb dJ13_numberOfTrailingZeros_70 rfl (lv_at hl 1 rfl) ?_
            refine lv_iconst (v := 2) hx hb dJ13_numberOfTrailingZeros_71 (by decide) ?_
            refine g_iushr hx hb dJ13_numberOfTrailingZeros_72 ?_
            refine lv_topi (fun y16 ey16 => ?_)
            have h := pin_to ey16 h
            refine lv_istore_n (lv' := [(0, .int y16), (1, .int (v11 + 2))]) hx hb dJ13_numberOfTrailingZeros_73 rfl hl (by decide) rfl (fun ls hl => ?_)
            exact hk12 _ _ _ h (lv_sub hl [0, 1] rfl)
        refine lv_icmp_le (tgt := 62) hx hb dJ13_numberOfTrailingZeros_52 (by decide) (fun c18 => ?_) (fun c18 => ?_)
        · have h := it_t c18 h
          exact hk9 _ _ _ h (lv_sub hl [0, 1] rfl)
        · have h := it_f c18 h
          refine lv_iinc (v := (v8 + 4)) (lv' := [(1, .int (v8 + 4)), (0, .int v7)]) hx hb dJ13_numberOfTrailingZeros_55 hl (k := 1) rfl rfl (by decide) rfl (fun ls hl => ?_)
          refine lv_iload_n hx hb dJ13_numberOfTrailingZeros_58 rfl (lv_at hl 1 rfl) ?_
          refine lv_iconst (v := 4) hx hb dJ13_numberOfTrailingZeros_59 (by decide) ?_
          refine g_iushr hx hb dJ13_numberOfTrailingZeros_60 ?_
          refine lv_topi (fun y19 ey19 => ?_)
          have h := pin_to ey19 h
          refine lv_istore_n (lv' := [(0, .int y19), (1, .int (v8 + 4))]) hx hb dJ13_numberOfTrailingZeros_61 rfl hl (by decide) rfl (fun ls hl => ?_)
          exact hk9 _ _ _ h (lv_sub hl [0, 1] rfl)
      refine lv_icmp_le (tgt := 49) hx hb dJ13_numberOfTrailingZeros_38 (by decide) (fun c21 => ?_) (fun c21 => ?_)
      · have h := it_t c21 h
        exact hk6 _ _ _ h (lv_sub hl [0, 1] rfl)
      · have h := it_f c21 h
        refine lv_iinc (v := (v5 + 8)) (lv' := [(1, .int (v5 + 8)), (0, .int v4)]) hx hb dJ13_numberOfTrailingZeros_41 hl (k := 1) rfl rfl (by decide) rfl (fun ls hl => ?_)
        refine lv_iload_n hx hb dJ13_numberOfTrailingZeros_44 rfl (lv_at hl 1 rfl) ?_
        refine lv_bipush (v := 8) hx hb dJ13_numberOfTrailingZeros_45 (by decide) ?_
        refine g_iushr hx hb dJ13_numberOfTrailingZeros_47 ?_
        refine lv_topi (fun y22 ey22 => ?_)
        have h := pin_to ey22 h
        refine lv_istore_n (lv' := [(0, .int y22), (1, .int (v5 + 8))]) hx hb dJ13_numberOfTrailingZeros_48 rfl hl (by decide) rfl (fun ls hl => ?_)
        exact hk6 _ _ _ h (lv_sub hl [0, 1] rfl)
    refine lv_icmp_le (tgt := 34) hx hb dJ13_numberOfTrailingZeros_23 (by decide) (fun c24 => ?_) (fun c24 => ?_)
    · have h := it_t c24 h
      exact hk3 _ _ _ h (lv_sub hl [1, 0] rfl)
    · have h := it_f c24 h
      refine lv_iinc (v := (1 + 16)) (lv' := [(1, .int (1 + 16)), (0, .int y1)]) hx hb dJ13_numberOfTrailingZeros_26 hl (k := 0) rfl rfl (by decide) rfl (fun ls hl => ?_)
      refine lv_iload_n hx hb dJ13_numberOfTrailingZeros_29 rfl (lv_at hl 1 rfl) ?_
      refine lv_bipush (v := 16) hx hb dJ13_numberOfTrailingZeros_30 (by decide) ?_
      refine g_iushr hx hb dJ13_numberOfTrailingZeros_32 ?_
      refine lv_topi (fun y25 ey25 => ?_)
      have h := pin_to ey25 h
      refine lv_istore_n (lv' := [(0, .int y25), (1, .int (1 + 16))]) hx hb dJ13_numberOfTrailingZeros_33 rfl hl (by decide) rfl (fun ls hl => ?_)
      exact hk3 _ _ _ h (lv_sub hl [0, 1] rfl)
  · have h := it_f c2 h
    refine lv_iload_n hx hb dJ13_numberOfTrailingZeros_12 rfl (lv_at hl 0 rfl) ?_
    refine lv_bipush (v := 32) hx hb dJ13_numberOfTrailingZeros_13 (by decide) ?_
    refine lv_iand hx hb dJ13_numberOfTrailingZeros_15 ?_
    exact g_retR hx hb hr hlocks h dJ13_numberOfTrailingZeros_16
theorem clJ13_numberOfTrailingZeros {p : Program} {l : Launch} {e : Env} {R : Room} {s : State} {m : MethodId} {args : Array Value} {below : List Frame} {meth : Method} {c : Code} {H : Heap} {locs : List Loc} {cells slots : Nat} {Q : State → Prop} {cc : ByteArray} {pc nL idx fr lo : Nat} {ls : Array Slot} {rest : List Value} {own : String}  {x1 : Int32} {r : Int32} (hf : CallFix p m c cc nL s args lw_all own) (hM : Met l yJ13_numberOfTrailingZeros (ws_ yJ13_numberOfTrailingZeros cJ13_numberOfTrailingZeros 2 (some .int)) ({ frames := fr, cells := 0, slots := 0, locals := lo }) (va_Pc [.int x1] (fun _ => True)) (QR (some (.int r))) 0 0 (fun _ => False)) (hq : Cond.methodLink own idx yJ13_numberOfTrailingZeros ∈ lw_all) (hs : ls.size = nL) (hr : (rest.map fun v => v.category).sum ≤ 8) (hR : fr + 1 ≤ R.frames ∧ 8 + (2 + 11) + lo ≤ R.locals) (hcs : cells + 0 ≤ R.cells ∧ slots + 0 ≤ R.slots) (hd : decode cc pc = .ok (.invokestatic idx, 3)) (kk : W p l e R s m args below meth c H locs cells slots Q (F0 m (pc + 3) ls (.int r :: rest))) : W p l e R s m args below meth c H locs cells slots Q (F0 m pc ls (.int x1 :: rest)) :=
  g_callR (W.runS (As := [.int x1]) (rest := rest) hf hM (va_cwS 1 hf.2.2.2.2 (lw_S hq q892 q116 q893) rfl rfl rfl (by decide +kernel) hR) ⟨fun a U g mk q => q, fun U hU hW => ⟨rfl, trivial⟩⟩ rfl rfl hs rfl (lv_room hr) hd hcs) kk
theorem metJ13_bitCount (l : Launch) (x1 : Int32)  (r : Int32) (h : FJ13_bitCount x1 = r) : Met l yJ13_bitCount (ws_ yJ13_bitCount cJ13_bitCount 1 (some .int)) ({ frames := 0, cells := 0, slots := 0, locals := 0 }) (va_Pc [.int x1] (fun _ => True)) (QR (some (.int r))) 0 0 (fun _ => False) := by
  refine g_ofW (cc := cJ13_bitCount) (maxL := 1) (ret := (some .int)) (own := RJ13) (by decide) rfl rfl [.int x1] (fun _ => True) (Nat.le_of_ble_eq_true rfl) ?_
  intro p e s m below meth c ls hx hb hr hml hts hown hlocks hnm hPre hl
  have hf : CallFix p m c cJ13_bitCount 1 s _ lw_all RJ13 := ⟨hx, hb, hml, hown, hts⟩
  have hl : lv_has ls 1 [(0, .int x1)] := hl
  unfold FJ13_bitCount at h
  refine lv_iload_n hx hb dJ13_bitCount_0 rfl (lv_at hl 0 rfl) ?_
  refine lv_iload_n hx hb dJ13_bitCount_1 rfl (lv_at hl 0 rfl) ?_
  refine lv_iconst (v := 1) hx hb dJ13_bitCount_2 (by decide) ?_
  refine g_iushr hx hb dJ13_bitCount_3 ?_
  refine lv_ldcw (v := 1431655765) hx hb hown (hts _ q933) dJ13_bitCount_4 ?_
  refine lv_iand hx hb dJ13_bitCount_7 ?_
  refine lv_isub hx hb dJ13_bitCount_8 ?_
  refine lv_topi (fun y1 ey1 => ?_)
  have h := pin_to ey1 h
  refine lv_istore_n (lv' := [(0, .int y1)]) hx hb dJ13_bitCount_9 rfl hl (by decide) rfl (fun ls hl => ?_)
  refine lv_iload_n hx hb dJ13_bitCount_10 rfl (lv_at hl 0 rfl) ?_
  refine lv_ldcw (v := 858993459) hx hb hown (hts _ q934) dJ13_bitCount_11 ?_
  refine lv_iand hx hb dJ13_bitCount_14 ?_
  refine lv_iload_n hx hb dJ13_bitCount_15 rfl (lv_at hl 0 rfl) ?_
  refine lv_iconst (v := 2) hx hb dJ13_bitCount_16 (by decide) ?_
  refine g_iushr hx hb dJ13_bitCount_17 ?_
  refine lv_ldcw (v := 858993459) hx hb hown (hts _ q934) dJ13_bitCount_18 ?_
  refine lv_iand hx hb dJ13_bitCount_21 ?_
  refine lv_iadd hx hb dJ13_bitCount_22 ?_
  refine lv_topi (fun y2 ey2 => ?_)
  have h := pin_to ey2 h
  refine lv_istore_n (lv' := [(0, .int y2)]) hx hb dJ13_bitCount_23 rfl hl (by decide) rfl (fun ls hl => ?_)
  refine lv_iload_n hx hb dJ13_bitCount_24 rfl (lv_at hl 0 rfl) ?_
  refine lv_iload_n hx hb dJ13_bitCount_25 rfl (lv_at hl 0 rfl) ?_
  refine lv_iconst (v := 4) hx hb dJ13_bitCount_26 (by decide) ?_
  refine g_iushr hx hb dJ13_bitCount_27 ?_
  refine lv_iadd hx hb dJ13_bitCount_28 ?_
  refine lv_ldcw (v := 252645135) hx hb hown (hts _ q935) dJ13_bitCount_29 ?_
  refine lv_iand hx hb dJ13_bitCount_32 ?_
  refine lv_topi (fun y3 ey3 => ?_)
  have h := pin_to ey3 h
  refine lv_istore_n (lv' := [(0, .int y3)]) hx hb dJ13_bitCount_33 rfl hl (by decide) rfl (fun ls hl => ?_)
  refine lv_iload_n hx hb dJ13_bitCount_34 rfl (lv_at hl 0 rfl) ?_
  refine lv_iload_n hx hb dJ13_bitCount_35 rfl (lv_at hl 0 rfl) ?_
  refine lv_bipush (v := 8) hx hb dJ13_bitCount_36 (by decide) ?_
  refine g_iushr hx hb dJ13_bitCount_38 ?_
  refine lv_iadd hx hb dJ13_bitCount_39 ?_
  refine lv_topi (fun y4 ey4 => ?_)
  have h := pin_to ey4 h
  refine lv_istore_n (lv' := [(0, .int y4)]) hx hb dJ13_bitCount_40 rfl hl (by decide) rfl (fun ls hl => ?_)
  refine lv_iload_n hx hb dJ13_bitCount_41 rfl (lv_at hl 0 rfl) ?_
  refine lv_iload_n hx hb dJ13_bitCount_42 rfl (lv_at hl 0 rfl) ?_
  refine lv_bipush (v := 16) hx hb dJ13_bitCount_43 (by decide) ?_
  refine g_iushr hx hb dJ13_bitCount_45 ?_
  refine lv_iadd hx hb dJ13_bitCount_46 ?_
  refine lv_topi (fun y5 ey5 => ?_)
  have h := pin_to ey5 h
  refine lv_istore_n (lv' := [(0, .int y5)]) hx hb dJ13_bitCount_47 rfl hl (by decide) rfl (fun ls hl => ?_)
  refine lv_iload_n hx hb dJ13_bitCount_48 rfl (lv_at hl 0 rfl) ?_
  refine lv_bipush (v := 63) hx hb dJ13_bitCount_49 (by decide) ?_
  refine lv_iand hx hb dJ13_bitCount_51 ?_
  exact g_retR hx hb hr hlocks h dJ13_bitCount_52
theorem clJ13_bitCount {p : Program} {l : Launch} {e : Env} {R : Room} {s : State} {m : MethodId} {args : Array Value} {below : List Frame} {meth : Method} {c : Code} {H : Heap} {locs : List Loc} {cells slots : Nat} {Q : State → Prop} {cc : ByteArray} {pc nL idx fr lo : Nat} {ls : Array Slot} {rest : List Value} {own : String}  {x1 : Int32} {r : Int32} (hf : CallFix p m c cc nL s args lw_all own) (hM : Met l yJ13_bitCount (ws_ yJ13_bitCount cJ13_bitCount 1 (some .int)) ({ frames := fr, cells := 0, slots := 0, locals := lo }) (va_Pc [.int x1] (fun _ => True)) (QR (some (.int r))) 0 0 (fun _ => False)) (hq : Cond.methodLink own idx yJ13_bitCount ∈ lw_all) (hs : ls.size = nL) (hr : (rest.map fun v => v.category).sum ≤ 8) (hR : fr + 1 ≤ R.frames ∧ 8 + (1 + 11) + lo ≤ R.locals) (hcs : cells + 0 ≤ R.cells ∧ slots + 0 ≤ R.slots) (hd : decode cc pc = .ok (.invokestatic idx, 3)) (kk : W p l e R s m args below meth c H locs cells slots Q (F0 m (pc + 3) ls (.int r :: rest))) : W p l e R s m args below meth c H locs cells slots Q (F0 m pc ls (.int x1 :: rest)) :=
  g_callR (W.runS (As := [.int x1]) (rest := rest) hf hM (va_cwS 1 hf.2.2.2.2 (lw_S hq q931 q116 q932) rfl rfl rfl (by decide +kernel) hR) ⟨fun a U g mk q => q, fun U hU hW => ⟨rfl, trivial⟩⟩ rfl rfl hs rfl (lv_room hr) hd hcs) kk
theorem metX2_isIn (l : Launch) (x1 : Int32) (x2 : Int32) (x3 : Int32)  (r : Int32) (h : FX2_isIn x1 x2 x3 = r) : Met l yX2_isIn (ws_ yX2_isIn cX2_isIn 3 (some .boolean)) ({ frames := 0, cells := 0, slots := 0, locals := 0 }) (va_Pc [.int x1, .int x2, .int x3] (fun _ => True)) (QR (some (.int r))) 0 0 (fun _ => False) := by
  refine g_ofW (cc := cX2_isIn) (maxL := 3) (ret := (some .boolean)) (own := RX2) (by decide) rfl rfl [.int x1, .int x2, .int x3] (fun _ => True) (Nat.le_of_ble_eq_true rfl) ?_
  intro p e s m below meth c ls hx hb hr hml hts hown hlocks hnm hPre hl
  have hf : CallFix p m c cX2_isIn 3 s _ lw_all RX2 := ⟨hx, hb, hml, hown, hts⟩
  have hl : lv_has ls 3 [(0, .int x1), (1, .int x2), (2, .int x3)] := hl
  unfold FX2_isIn at h
  refine lv_iload_n hx hb dX2_isIn_0 rfl (lv_at hl 0 rfl) ?_
  refine lv_iload_n hx hb dX2_isIn_1 rfl (lv_at hl 1 rfl) ?_
  refine lv_icmp_lt (tgt := 14) hx hb dX2_isIn_2 (by decide) (fun c1 => ?_) (fun c1 => ?_)
  · have h := it_t c1 h
    refine lv_iconst (v := 0) hx hb dX2_isIn_14 (by decide) ?_
    exact g_retRz hx hb hr hlocks (Or.inl rfl) h dX2_isIn_15
  · have h := it_f c1 h
    refine lv_iload_n hx hb dX2_isIn_5 rfl (lv_at hl 0 rfl) ?_
    refine lv_iload_n hx hb dX2_isIn_6 rfl (lv_at hl 2 rfl) ?_
    refine lv_icmp_gt (tgt := 14) hx hb dX2_isIn_7 (by decide) (fun c2 => ?_) (fun c2 => ?_)
    · have h := it_t c2 h
      refine lv_iconst (v := 0) hx hb dX2_isIn_14 (by decide) ?_
      exact g_retRz hx hb hr hlocks (Or.inl rfl) h dX2_isIn_15
    · have h := it_f c2 h
      refine lv_iconst (v := 1) hx hb dX2_isIn_10 (by decide) ?_
      refine lv_goto (tgt := 15) hx hb dX2_isIn_11 (by decide) ?_
      exact g_retRz hx hb hr hlocks (Or.inr rfl) h dX2_isIn_15
theorem bzX2_isIn (x1 : Int32) (x2 : Int32) (x3 : Int32)  : okZ (FX2_isIn x1 x2 x3) := by
  unfold FX2_isIn
  repeat' split
  all_goals first | exact Or.inl rfl | exact Or.inr rfl
theorem clX2_isIn {p : Program} {l : Launch} {e : Env} {R : Room} {s : State} {m : MethodId} {args : Array Value} {below : List Frame} {meth : Method} {c : Code} {H : Heap} {locs : List Loc} {cells slots : Nat} {Q : State → Prop} {cc : ByteArray} {pc nL idx fr lo : Nat} {ls : Array Slot} {rest : List Value} {own : String}  {x1 : Int32} {x2 : Int32} {x3 : Int32} {r : Int32} (hf : CallFix p m c cc nL s args lw_all own) (hM : Met l yX2_isIn (ws_ yX2_isIn cX2_isIn 3 (some .boolean)) ({ frames := fr, cells := 0, slots := 0, locals := lo }) (va_Pc [.int x1, .int x2, .int x3] (fun _ => True)) (QR (some (.int r))) 0 0 (fun _ => False)) (hq : Cond.methodLink own idx yX2_isIn ∈ lw_all) (hs : ls.size = nL) (hr : (rest.map fun v => v.category).sum ≤ 8) (hR : fr + 1 ≤ R.frames ∧ 8 + (3 + 11) + lo ≤ R.locals) (hcs : cells + 0 ≤ R.cells ∧ slots + 0 ≤ R.slots) (hd : decode cc pc = .ok (.invokestatic idx, 3)) (kk : W p l e R s m args below meth c H locs cells slots Q (F0 m (pc + 3) ls (.int r :: rest))) : W p l e R s m args below meth c H locs cells slots Q (F0 m pc ls (.int x3 :: .int x2 :: .int x1 :: rest)) :=
  g_callR (W.runS (As := [.int x1, .int x2, .int x3]) (rest := rest) hf hM (va_cwS 3 hf.2.2.2.2 (lw_S hq q1676 q92 q1677) rfl rfl rfl (by decide +kernel) hR) ⟨fun a U g mk q => q, fun U hU hW => ⟨rfl, trivial⟩⟩ rfl rfl hs rfl (lv_room hr) hd hcs) kk
theorem metX2_change (l : Launch) (D : va_G) (aC : Nat → ClassId) (o : Nat) (ad : Nat → Nat) (A : Nat → Prop) (hD : OD A 44 kdM o ad) (x1 : Int32) (x2 : Int32) (x3 : Int32) (z : GS)  (zq : GS) (h : FX2_change x1 x2 x3 z = some zq) : Met l yX2_change (ws_ yX2_change cX2_change 4 none) ({ frames := 0, cells := 0, slots := 0, locals := 0 }) (va_Pc [.ref o, .int x1, .int x2, .int x3] (PM D aC o ad z)) (QG none (OM D aC o ad zq) A) 0 0 A := by
  refine g_ofW (cc := cX2_change) (maxL := 4) (ret := none) (own := RX2) (by decide) rfl rfl [.ref o, .int x1, .int x2, .int x3] (PM D aC o ad z) (Nat.le_of_ble_eq_true rfl) ?_
  intro p e s m below meth c ls hx hb hr hml hts hown hlocks hnm hPre hl
  obtain ⟨hO, hK⟩ := hPre
  have hf : CallFix p m c cX2_change 4 s _ lw_all RX2 := ⟨hx, hb, hml, hown, hts⟩
  have hl : lv_has ls 4 [(0, .ref o), (1, .int x1), (2, .int x2), (3, .int x3)] := hl
  refine g_open (A := A) (OM D aC o ad z) hO (fun H locs hO hS => ?_)
  unfold FX2_change at h
  refine lv_aload_n hx hb dX2_change_0 rfl (lv_at hl 0 rfl) ?_
  refine X2_getA hx hb hts hown hK hO 0 (by decide) rfl (hts _ q1537) dX2_change_1 ?_
  refine lv_iconst (v := 5) hx hb dX2_change_4 (by decide) ?_
  refine lv_iload_n hx hb dX2_change_5 rfl (lv_at hl 1 rfl) ?_
  refine lv_imul hx hb dX2_change_6 ?_
  refine lv_iload_n hx hb dX2_change_7 rfl (lv_at hl 2 rfl) ?_
  refine lv_iadd hx hb dX2_change_8 ?_
  refine lv_iload_n hx hb dX2_change_9 rfl (lv_at hl 3 rfl) ?_
  obtain ⟨g1, h⟩ := grd h
  refine X2_iastore hx hb hK hO hD hS 0 (by decide) rfl rfl g1 dX2_change_10 (fun H locs z2 ez2 hO hS => ?_)
  have h := pin_to ez2 h
  cases Option.some.inj h
  exact g_retGv hx hb hr hlocks hO hS dX2_change_11
theorem clX2_change {p : Program} {l : Launch} {e : Env} {R : Room} {s : State} {m : MethodId} {args : Array Value} {below : List Frame} {meth : Method} {c : Code} {H : Heap} {locs : List Loc} {cells slots : Nat} {Q : State → Prop} {cc : ByteArray} {pc nL idx fr lo : Nat} {ls : Array Slot} {rest : List Value} {own : String} {D : va_G} {aC : Nat → ClassId} {o : Nat} {ad : Nat → Nat} {z : GS} {zq : GS} {A : Nat → Prop} {x1 : Int32} {x2 : Int32} {x3 : Int32}  (hf : CallFix p m c cc nL s args lw_all own) (hK : va_K D vwCl (tysG aC) s) (hO : OM D aC o ad z H) (hS : va_S A s.heap H locs) (hM : Met l yX2_change (ws_ yX2_change cX2_change 4 none) ({ frames := fr, cells := 0, slots := 0, locals := lo }) (va_Pc [.ref o, .int x1, .int x2, .int x3] (PM D aC o ad z)) (QG none (OM D aC o ad zq) A) 0 0 A) (hq : Cond.methodLink own idx yX2_change ∈ lw_all) (hs : ls.size = nL) (hr : (rest.map fun v => v.category).sum ≤ 8) (hR : fr + 1 ≤ R.frames ∧ 8 + (4 + 11) + lo ≤ R.locals) (hcs : cells + 0 ≤ R.cells ∧ slots + 0 ≤ R.slots) (hd : decode cc pc = .ok (.invokevirtual idx, 3)) (kk : ∀ (H1 : Heap) (locs1 : List Loc), OM D aC o ad zq H1 → va_S A s.heap H1 locs1 → W p l e R s m args below meth c H1 locs1 cells slots Q (F0 m (pc + 3) ls (rest))) : W p l e R s m args below meth c H locs cells slots Q (F0 m pc ls (.int x3 :: .int x2 :: .int x1 :: .ref o :: rest)) :=
  g_callG (W.runV (As := [.int x1, .int x2, .int x3]) (rest := rest) hf hM (cwV 3 hf.2.2.2.2 (lw_V hq q1684 qs51 q92 q1685) rfl rfl rfl (by decide +kernel) hR) ⟨fun a U g mk q => ⟨q.1, q.2.1, va_K.moved (u := U) (U := U.calling g mk a) (Vm.Alike.refl U.vm) q.2.2⟩, OA.recv hK hO rfl, fun U hU hW => ⟨rfl, by rw [hU]; exact hO, va_K.moved hW.alike hK⟩⟩ rfl rfl hs rfl (lv_room hr) hd hcs) hS (fun H1 locs1 hP hS _ _ => kk H1 locs1 hP hS)
theorem metX2_add (l : Launch) (D : va_G) (aC : Nat → ClassId) (o : Nat) (ad : Nat → Nat) (A : Nat → Prop) (hD : OD A 44 kdM o ad) (x1 : Int32) (x2 : Int32) (x3 : Int32) (z : GS) (r : Int32) (zq : GS) (h : FX2_add x1 x2 x3 z = some (r, zq)) : Met l yX2_add (ws_ yX2_add cX2_add 5 (some .int)) ({ frames := 1, cells := 0, slots := 0, locals := 23 }) (va_Pc [.ref o, .int x1, .int x2, .int x3] (PM D aC o ad z)) (QG (some (.int r)) (OM D aC o ad zq) A) 0 0 A := by
  refine g_ofW (cc := cX2_add) (maxL := 5) (ret := (some .int)) (own := RX2) (by decide) rfl rfl [.ref o, .int x1, .int x2, .int x3] (PM D aC o ad z) (Nat.le_of_ble_eq_true rfl) ?_
  intro p e s m below meth c ls hx hb hr hml hts hown hlocks hnm hPre hl
  obtain ⟨hO, hK⟩ := hPre
  have hf : CallFix p m c cX2_add 5 s _ lw_all RX2 := ⟨hx, hb, hml, hown, hts⟩
  have hl : lv_has ls 5 [(0, .ref o), (1, .int x1), (2, .int x2), (3, .int x3)] := hl
  refine g_open (A := A) (OM D aC o ad z) hO (fun H locs hO hS => ?_)
  unfold FX2_add at h
  refine lv_aload_n hx hb dX2_add_0 rfl (lv_at hl 0 rfl) ?_
  refine X2_getF hx hb hts hown hK hO 2 (by decide) rfl (hts _ q1539) dX2_add_1 ?_
  refine lv_istore (lv' := [(4, .int (gF z 2)), (0, .ref o), (1, .int x1), (2, .int x2), (3, .int x3)]) hx hb dX2_add_4 hl (by decide) rfl (fun ls hl => ?_)
  refine lv_aload_n hx hb dX2_add_6 rfl (lv_at hl 1 rfl) ?_
  refine lv_iload hx hb dX2_add_7 (lv_at hl 0 rfl) ?_
  refine lv_iconst (v := 0) hx hb dX2_add_9 (by decide) ?_
  refine lv_iload_n hx hb dX2_add_10 rfl (lv_at hl 2 rfl) ?_
  obtain ⟨z1, e2, h⟩ := bn1_e h
  refine clX2_change hf hK hO hS (metX2_change l D aC o ad A hD (gF z 2) 0 x1 z z1 e2) q1682 hl.1 (Nat.le_of_ble_eq_true rfl) ⟨Nat.le_of_ble_eq_true rfl, Nat.le_of_ble_eq_true rfl⟩ ⟨Nat.le_of_ble_eq_true rfl, Nat.le_of_ble_eq_true rfl⟩ dX2_add_11 (fun H locs hO hS => ?_)
  refine lv_aload_n hx hb dX2_add_14 rfl (lv_at hl 1 rfl) ?_
  refine lv_iload hx hb dX2_add_15 (lv_at hl 0 rfl) ?_
  refine lv_iconst (v := 1) hx hb dX2_add_17 (by decide) ?_
  refine lv_iload_n hx hb dX2_add_18 rfl (lv_at hl 3 rfl) ?_
  obtain ⟨z3, e4, h⟩ := bn1_e h
  refine clX2_change hf hK hO hS (metX2_change l D aC o ad A hD (gF z 2) 1 x2 z1 z3 e4) q1682 hl.1 (Nat.le_of_ble_eq_true rfl) ⟨Nat.le_of_ble_eq_true rfl, Nat.le_of_ble_eq_true rfl⟩ ⟨Nat.le_of_ble_eq_true rfl, Nat.le_of_ble_eq_true rfl⟩ dX2_add_19 (fun H locs hO hS => ?_)
  refine lv_aload_n hx hb dX2_add_22 rfl (lv_at hl 1 rfl) ?_
  refine lv_iload hx hb dX2_add_23 (lv_at hl 0 rfl) ?_
  refine lv_iconst (v := 2) hx hb dX2_add_25 (by decide) ?_
  refine lv_iload_n hx hb dX2_add_26 rfl (lv_at hl 4 rfl) ?_
  obtain ⟨z5, e6, h⟩ := bn1_e h
  refine clX2_change hf hK hO hS (metX2_change l D aC o ad A hD (gF z 2) 2 x3 z3 z5 e6) q1682 hl.1 (Nat.le_of_ble_eq_true rfl) ⟨Nat.le_of_ble_eq_true rfl, Nat.le_of_ble_eq_true rfl⟩ ⟨Nat.le_of_ble_eq_true rfl, Nat.le_of_ble_eq_true rfl⟩ dX2_add_27 (fun H locs hO hS => ?_)
  refine lv_aload_n hx hb dX2_add_30 rfl (lv_at hl 1 rfl) ?_
  refine lv_iload hx hb dX2_add_31 (lv_at hl 0 rfl) ?_
  refine lv_iconst (v := 3) hx hb dX2_add_33 (by decide) ?_
  refine lv_bipush (v := 20) hx hb dX2_add_34 (by decide) ?_
  obtain ⟨z7, e8, h⟩ := bn1_e h
  refine clX2_change hf hK hO hS (metX2_change l D aC o ad A hD (gF z 2) 3 20 z5 z7 e8) q1682 hl.1 (Nat.le_of_ble_eq_true rfl) ⟨Nat.le_of_ble_eq_true rfl, Nat.le_of_ble_eq_true rfl⟩ ⟨Nat.le_of_ble_eq_true rfl, Nat.le_of_ble_eq_true rfl⟩ dX2_add_36 (fun H locs hO hS => ?_)
  refine lv_aload_n hx hb dX2_add_39 rfl (lv_at hl 1 rfl) ?_
  refine lv_iload hx hb dX2_add_40 (lv_at hl 0 rfl) ?_
  refine lv_iconst (v := 4) hx hb dX2_add_42 (by decide) ?_
  refine lv_iconst (v := (-1)) hx hb dX2_add_43 (by decide) ?_
  obtain ⟨z9, e10, h⟩ := bn1_e h
  refine clX2_change hf hK hO hS (metX2_change l D aC o ad A hD (gF z 2) 4 (-1) z7 z9 e10) q1682 hl.1 (Nat.le_of_ble_eq_true rfl) ⟨Nat.le_of_ble_eq_true rfl, Nat.le_of_ble_eq_true rfl⟩ ⟨Nat.le_of_ble_eq_true rfl, Nat.le_of_ble_eq_true rfl⟩ dX2_add_44 (fun H locs hO hS => ?_)
  refine lv_aload_n hx hb dX2_add_47 rfl (lv_at hl 1 rfl) ?_
  refine lv_dup hx hb dX2_add_48 rfl ?_
  refine X2_getF hx hb hts hown hK hO 2 (by decide) rfl (hts _ q1539) dX2_add_49 ?_
  refine lv_iconst (v := 1) hx hb dX2_add_52 (by decide) ?_
  refine lv_iadd hx hb dX2_add_53 ?_
  refine X2_putF hx hb hts hown hK hO hD hS 2 (by decide) rfl (hts _ q1539) rfl (ty := .int) rfl rfl rfl dX2_add_54 (fun H locs z11 ez11 hO hS => ?_)
  have h := pin_to ez11 h
  refine lv_iload hx hb dX2_add_57 (lv_at hl 0 rfl) ?_
  obtain ⟨e8, rfl⟩ := Prod.mk.inj (Option.some.inj h)
  exact g_retG hx hb hr hlocks e8 hO hS dX2_add_59
theorem clX2_add {p : Program} {l : Launch} {e : Env} {R : Room} {s : State} {m : MethodId} {args : Array Value} {below : List Frame} {meth : Method} {c : Code} {H : Heap} {locs : List Loc} {cells slots : Nat} {Q : State → Prop} {cc : ByteArray} {pc nL idx fr lo : Nat} {ls : Array Slot} {rest : List Value} {own : String} {D : va_G} {aC : Nat → ClassId} {o : Nat} {ad : Nat → Nat} {z : GS} {zq : GS} {A : Nat → Prop} {x1 : Int32} {x2 : Int32} {x3 : Int32} {r : Int32} (hf : CallFix p m c cc nL s args lw_all own) (hK : va_K D vwCl (tysG aC) s) (hO : OM D aC o ad z H) (hS : va_S A s.heap H locs) (hM : Met l yX2_add (ws_ yX2_add cX2_add 5 (some .int)) ({ frames := fr, cells := 0, slots := 0, locals := lo }) (va_Pc [.ref o, .int x1, .int x2, .int x3] (PM D aC o ad z)) (QG (some (.int r)) (OM D aC o ad zq) A) 0 0 A) (hq : Cond.methodLink own idx yX2_add ∈ lw_all) (hs : ls.size = nL) (hr : (rest.map fun v => v.category).sum ≤ 8) (hR : fr + 1 ≤ R.frames ∧ 8 + (5 + 11) + lo ≤ R.locals) (hcs : cells + 0 ≤ R.cells ∧ slots + 0 ≤ R.slots) (hd : decode cc pc = .ok (.invokevirtual idx, 3)) (kk : ∀ (H1 : Heap) (locs1 : List Loc), OM D aC o ad zq H1 → va_S A s.heap H1 locs1 → W p l e R s m args below meth c H1 locs1 cells slots Q (F0 m (pc + 3) ls (.int r :: rest))) : W p l e R s m args below meth c H locs cells slots Q (F0 m pc ls (.int x3 :: .int x2 :: .int x1 :: .ref o :: rest)) :=
  g_callG (W.runV (As := [.int x1, .int x2, .int x3]) (rest := rest) hf hM (cwV 3 hf.2.2.2.2 (lw_V hq q1680 qs50 q92 q1681) rfl rfl rfl (by decide +kernel) hR) ⟨fun a U g mk q => ⟨q.1, q.2.1, va_K.moved (u := U) (U := U.calling g mk a) (Vm.Alike.refl U.vm) q.2.2⟩, OA.recv hK hO rfl, fun U hU hW => ⟨rfl, by rw [hU]; exact hO, va_K.moved hW.alike hK⟩⟩ rfl rfl hs rfl (lv_room hr) hd hcs) hS (fun H1 locs1 hP hS _ _ => kk H1 locs1 hP hS)
theorem metX2_person (l : Launch) (D : va_G) (aC : Nat → ClassId) (o : Nat) (ad : Nat → Nat) (A : Nat → Prop) (hD : OD A 44 kdM o ad) (x1 : Int32) (z : GS) (r : Int32) (zq : GS) (h : FX2_person x1 z = some (r, zq)) : Met l yX2_person (ws_ yX2_person cX2_person 2 (some .int)) ({ frames := 2, cells := 0, slots := 0, locals := 47 }) (va_Pc [.ref o, .int x1] (PM D aC o ad z)) (QG (some (.int r)) (OM D aC o ad zq) A) 0 0 A := by
  refine g_ofW (cc := cX2_person) (maxL := 2) (ret := (some .int)) (own := RX2) (by decide) rfl rfl [.ref o, .int x1] (PM D aC o ad z) (Nat.le_of_ble_eq_true rfl) ?_
  intro p e s m below meth c ls hx hb hr hml hts hown hlocks hnm hPre hl
  obtain ⟨hO, hK⟩ := hPre
  have hf : CallFix p m c cX2_person 2 s _ lw_all RX2 := ⟨hx, hb, hml, hown, hts⟩
  have hl : lv_has ls 2 [(0, .ref o), (1, .int x1)] := hl
  refine g_open (A := A) (OM D aC o ad z) hO (fun H locs hO hS => ?_)
  unfold FX2_person at h
  refine lv_iload_n hx hb dX2_person_0 rfl (lv_at hl 1 rfl) ?_
  refine lv_iconst (v := 0) hx hb dX2_person_1 (by decide) ?_
  refine lv_bipush (v := 35) hx hb dX2_person_2 (by decide) ?_
  refine clX2_isIn hf (metX2_isIn l x1 0 35 _ rfl) q1675 hl.1 (Nat.le_of_ble_eq_true rfl) ⟨Nat.le_of_ble_eq_true rfl, Nat.le_of_ble_eq_true rfl⟩ ⟨Nat.le_of_ble_eq_true rfl, Nat.le_of_ble_eq_true rfl⟩ dX2_person_4 ?_
  refine lv_if_ne (tgt := 12) hx hb dX2_person_7 (by decide) (fun c1 => ?_) (fun c1 => ?_)
  · have h := it_f c1 h
    refine lv_aload_n hx hb dX2_person_12 rfl (lv_at hl 0 rfl) ?_
    refine X2_getF hx hb hts hown hK hO 2 (by decide) rfl (hts _ q1539) dX2_person_13 ?_
    refine lv_bipush (v := 8) hx hb dX2_person_16 (by decide) ?_
    refine lv_icmp_ne (tgt := 26) hx hb dX2_person_18 (by decide) (fun c2 => ?_) (fun c2 => ?_)
    · have h := it_f c2 h
      refine lv_aload_n hx hb dX2_person_26 rfl (lv_at hl 0 rfl) ?_
      refine lv_iload_n hx hb dX2_person_27 rfl (lv_at hl 1 rfl) ?_
      refine lv_iconst (v := 4) hx hb dX2_person_28 (by decide) ?_
      refine lv_iconst (v := 3) hx hb dX2_person_29 (by decide) ?_
      obtain ⟨r3, z4, e5, h⟩ := bnd_e h
      refine clX2_add hf hK hO hS (metX2_add l D aC o ad A hD x1 4 3 z r3 z4 e5) q1678 hl.1 (Nat.le_of_ble_eq_true rfl) ⟨Nat.le_of_ble_eq_true rfl, Nat.le_of_ble_eq_true rfl⟩ ⟨Nat.le_of_ble_eq_true rfl, Nat.le_of_ble_eq_true rfl⟩ dX2_person_30 (fun H locs hO hS => ?_)
      obtain ⟨e8, rfl⟩ := Prod.mk.inj (Option.some.inj h)
      exact g_retG hx hb hr hlocks e8 hO hS dX2_person_33
    · have h := it_t c2 h
      refine lv_bipush (v := (-3)) hx hb dX2_person_21 (by decide) ?_
      refine lv_goto (tgt := 33) hx hb dX2_person_23 (by decide) ?_
      obtain ⟨e8, rfl⟩ := Prod.mk.inj (Option.some.inj h)
      exact g_retG hx hb hr hlocks e8 hO hS dX2_person_33
  · have h := it_t c1 h
    refine lv_iconst (v := (-1)) hx hb dX2_person_10 (by decide) ?_
    obtain ⟨e8, rfl⟩ := Prod.mk.inj (Option.some.inj h)
    exact g_retG hx hb hr hlocks e8 hO hS dX2_person_11
theorem clX2_person {p : Program} {l : Launch} {e : Env} {R : Room} {s : State} {m : MethodId} {args : Array Value} {below : List Frame} {meth : Method} {c : Code} {H : Heap} {locs : List Loc} {cells slots : Nat} {Q : State → Prop} {cc : ByteArray} {pc nL idx fr lo : Nat} {ls : Array Slot} {rest : List Value} {own : String} {D : va_G} {aC : Nat → ClassId} {o : Nat} {ad : Nat → Nat} {z : GS} {zq : GS} {A : Nat → Prop} {x1 : Int32} {r : Int32} (hf : CallFix p m c cc nL s args lw_all own) (hK : va_K D vwCl (tysG aC) s) (hO : OM D aC o ad z H) (hS : va_S A s.heap H locs) (hM : Met l yX2_person (ws_ yX2_person cX2_person 2 (some .int)) ({ frames := fr, cells := 0, slots := 0, locals := lo }) (va_Pc [.ref o, .int x1] (PM D aC o ad z)) (QG (some (.int r)) (OM D aC o ad zq) A) 0 0 A) (hq : Cond.methodLink own idx yX2_person ∈ lw_all) (hs : ls.size = nL) (hr : (rest.map fun v => v.category).sum ≤ 8) (hR : fr + 1 ≤ R.frames ∧ 8 + (2 + 11) + lo ≤ R.locals) (hcs : cells + 0 ≤ R.cells ∧ slots + 0 ≤ R.slots) (hd : decode cc pc = .ok (.invokevirtual idx, 3)) (kk : ∀ (H1 : Heap) (locs1 : List Loc), OM D aC o ad zq H1 → va_S A s.heap H1 locs1 → W p l e R s m args below meth c H1 locs1 cells slots Q (F0 m (pc + 3) ls (.int r :: rest))) : W p l e R s m args below meth c H locs cells slots Q (F0 m pc ls (.int x1 :: .ref o :: rest)) :=
  g_callG (W.runV (As := [.int x1]) (rest := rest) hf hM (cwV 1 hf.2.2.2.2 (lw_V hq q1672 q1673 q92 q1674) rfl rfl rfl (by decide +kernel) hR) ⟨fun a U g mk q => ⟨q.1, q.2.1, va_K.moved (u := U) (U := U.calling g mk a) (Vm.Alike.refl U.vm) q.2.2⟩, OA.recv hK hO rfl, fun U hU hW => ⟨rfl, by rw [hU]; exact hO, va_K.moved hW.alike hK⟩⟩ rfl rfl hs rfl (lv_room hr) hd hcs) hS (fun H1 locs1 hP hS _ _ => kk H1 locs1 hP hS)
theorem metX2_isOne (l : Launch) (D : va_G) (aC : Nat → ClassId) (o : Nat) (ad : Nat → Nat) (x1 : Int32) (z : GS) (r : Int32) (h : FX2_isOne x1 z = r) : Met l yX2_isOne (ws_ yX2_isOne cX2_isOne 2 (some .boolean)) ({ frames := 1, cells := 0, slots := 0, locals := 22 }) (va_Pc [.ref o, .int x1] (PM D aC o ad z)) (QR (some (.int r))) 0 0 (fun _ => False) := by
  refine g_ofW (cc := cX2_isOne) (maxL := 2) (ret := (some .boolean)) (own := RX2) (by decide) rfl rfl [.ref o, .int x1] (PM D aC o ad z) (Nat.le_of_ble_eq_true rfl) ?_
  intro p e s m below meth c ls hx hb hr hml hts hown hlocks hnm hPre hl
  obtain ⟨hO, hK⟩ := hPre
  have hf : CallFix p m c cX2_isOne 2 s _ lw_all RX2 := ⟨hx, hb, hml, hown, hts⟩
  have hl : lv_has ls 2 [(0, .ref o), (1, .int x1)] := hl
  unfold FX2_isOne at h
  refine lv_iload_n hx hb dX2_isOne_0 rfl (lv_at hl 1 rfl) ?_
  refine lv_iconst (v := 0) hx hb dX2_isOne_1 (by decide) ?_
  refine lv_aload_n hx hb dX2_isOne_2 rfl (lv_at hl 0 rfl) ?_
  refine X2_getF hx hb hts hown hK hO 2 (by decide) rfl (hts _ q1539) dX2_isOne_3 ?_
  refine lv_iconst (v := 1) hx hb dX2_isOne_6 (by decide) ?_
  refine lv_isub hx hb dX2_isOne_7 ?_
  refine clX2_isIn hf (metX2_isIn l x1 0 ((gF z 2) - 1) _ rfl) q1675 hl.1 (Nat.le_of_ble_eq_true rfl) ⟨Nat.le_of_ble_eq_true rfl, Nat.le_of_ble_eq_true rfl⟩ ⟨Nat.le_of_ble_eq_true rfl, Nat.le_of_ble_eq_true rfl⟩ dX2_isOne_8 ?_
  exact g_retRz hx hb hr hlocks (bzX2_isIn ..) h dX2_isOne_11
theorem bzX2_isOne (x1 : Int32) (z : GS) : okZ (FX2_isOne x1 z) := by
  unfold FX2_isOne
  repeat' split
  all_goals first | exact Or.inl rfl | exact Or.inr rfl | exact bzX2_isIn ..
theorem clX2_isOne {p : Program} {l : Launch} {e : Env} {R : Room} {s : State} {m : MethodId} {args : Array Value} {below : List Frame} {meth : Method} {c : Code} {H : Heap} {locs : List Loc} {cells slots : Nat} {Q : State → Prop} {cc : ByteArray} {pc nL idx fr lo : Nat} {ls : Array Slot} {rest : List Value} {own : String} {D : va_G} {aC : Nat → ClassId} {o : Nat} {ad : Nat → Nat} {z : GS} {x1 : Int32} {r : Int32} (hf : CallFix p m c cc nL s args lw_all own) (hK : va_K D vwCl (tysG aC) s) (hO : OM D aC o ad z H) (hM : Met l yX2_isOne (ws_ yX2_isOne cX2_isOne 2 (some .boolean)) ({ frames := fr, cells := 0, slots := 0, locals := lo }) (va_Pc [.ref o, .int x1] (PM D aC o ad z)) (QR (some (.int r))) 0 0 (fun _ => False)) (hq : Cond.methodLink own idx yX2_isOne ∈ lw_all) (hs : ls.size = nL) (hr : (rest.map fun v => v.category).sum ≤ 8) (hR : fr + 1 ≤ R.frames ∧ 8 + (2 + 11) + lo ≤ R.locals) (hcs : cells + 0 ≤ R.cells ∧ slots + 0 ≤ R.slots) (hd : decode cc pc = .ok (.invokevirtual idx, 3)) (kk : W p l e R s m args below meth c H locs cells slots Q (F0 m (pc + 3) ls (.int r :: rest))) : W p l e R s m args below meth c H locs cells slots Q (F0 m pc ls (.int x1 :: .ref o :: rest)) :=
  g_callR (W.runV (As := [.int x1]) (rest := rest) hf hM (cwV 1 hf.2.2.2.2 (lw_V hq q1696 qs53 q92 q1697) rfl rfl rfl (by decide +kernel) hR) ⟨fun a U g mk q => ⟨q.1, q.2.1, va_K.moved (u := U) (U := U.calling g mk a) (Vm.Alike.refl U.vm) q.2.2⟩, OA.recv hK hO rfl, fun U hU hW => ⟨rfl, by rw [hU]; exact hO, va_K.moved hW.alike hK⟩⟩ rfl rfl hs rfl (lv_room hr) hd hcs) kk
theorem metX2_place (l : Launch) (D : va_G) (aC : Nat → ClassId) (o : Nat) (ad : Nat → Nat) (x1 : Int32) (x2 : Int32) (z : GS) (r : Int32) (h : FX2_place x1 x2 z = r) : Met l yX2_place (ws_ yX2_place cX2_place 3 (some .int)) ({ frames := 2, cells := 0, slots := 0, locals := 43 }) (va_Pc [.ref o, .int x1, .int x2] (PM D aC o ad z)) (QR (some (.int r))) 0 0 (fun _ => False) := by
  refine g_ofW (cc := cX2_place) (maxL := 3) (ret := (some .int)) (own := RX2) (by decide) rfl rfl [.ref o, .int x1, .int x2] (PM D aC o ad z) (Nat.le_of_ble_eq_true rfl) ?_
  intro p e s m below meth c ls hx hb hr hml hts hown hlocks hnm hPre hl
  obtain ⟨hO, hK⟩ := hPre
  have hf : CallFix p m c cX2_place 3 s _ lw_all RX2 := ⟨hx, hb, hml, hown, hts⟩
  have hl : lv_has ls 3 [(0, .ref o), (1, .int x1), (2, .int x2)] := hl
  unfold FX2_place at h
  refine lv_iload_n hx hb dX2_place_0 rfl (lv_at hl 2 rfl) ?_
  refine lv_iconst (v := 5) hx hb dX2_place_1 (by decide) ?_
  obtain ⟨k1, e7, h⟩ := pin_nm h
  have hk1 : ∀  (ls : Array Slot), k1  = r → lv_has ls 3 [(0, .ref o), (1, .int x1), (2, .int x2)] → W p l e ({ frames := 2, cells := 0, slots := 0, locals := 43 }) s m ([.ref o, .int x1, .int x2] : List Value).toArray below meth c s.heap [] 0 0 (MQ below (QR (some (.int r))) ([.ref o, .int x1, .int x2] : List Value).toArray s 0 0 (fun _ => False)) (F0 m 11 ls []) := by
    intro  ls h hl
    rw [e7] at h
    refine lv_iload_n hx hb dX2_place_11 rfl (lv_at hl 1 rfl) ?_
    refine lv_if_ne (tgt := 24) hx hb dX2_place_12 (by decide) (fun c2 => ?_) (fun c2 => ?_)
    · have h := it_f c2 h
      refine lv_iconst (v := (-1)) hx hb dX2_place_24 (by decide) ?_
      exact g_retR hx hb hr hlocks h dX2_place_25
    · have h := it_t c2 h
      refine lv_bipush (v := 40) hx hb dX2_place_15 (by decide) ?_
      refine lv_iload_n hx hb dX2_place_17 rfl (lv_at hl 2 rfl) ?_
      refine lv_iadd hx hb dX2_place_18 ?_
      refine lv_iconst (v := 5) hx hb dX2_place_19 (by decide) ?_
      refine lv_isub hx hb dX2_place_20 ?_
      refine lv_goto (tgt := 25) hx hb dX2_place_21 (by decide) ?_
      exact g_retR hx hb hr hlocks h dX2_place_25
  refine lv_icmp_eq (tgt := 11) hx hb dX2_place_2 (by decide) (fun c3 => ?_) (fun c3 => ?_)
  · have h := it_t c3 h
    exact hk1 _ h (lv_sub hl [0, 1, 2] rfl)
  · have h := it_f c3 h
    refine lv_iload_n hx hb dX2_place_5 rfl (lv_at hl 2 rfl) ?_
    refine lv_bipush (v := 6) hx hb dX2_place_6 (by decide) ?_
    refine lv_icmp_ne (tgt := 26) hx hb dX2_place_8 (by decide) (fun c4 => ?_) (fun c4 => ?_)
    · have h := it_f c4 h
      refine lv_iload_n hx hb dX2_place_26 rfl (lv_at hl 2 rfl) ?_
      refine lv_iconst (v := 0) hx hb dX2_place_27 (by decide) ?_
      refine lv_iconst (v := 4) hx hb dX2_place_28 (by decide) ?_
      refine clX2_isIn hf (metX2_isIn l x2 0 4 _ rfl) q1675 hl.1 (Nat.le_of_ble_eq_true rfl) ⟨Nat.le_of_ble_eq_true rfl, Nat.le_of_ble_eq_true rfl⟩ ⟨Nat.le_of_ble_eq_true rfl, Nat.le_of_ble_eq_true rfl⟩ dX2_place_29 ?_
      refine lv_if_eq (tgt := 51) hx hb dX2_place_32 (by decide) (fun c5 => ?_) (fun c5 => ?_)
      · have h := it_t c5 h
        refine lv_iconst (v := (-1)) hx hb dX2_place_51 (by decide) ?_
        exact g_retR hx hb hr hlocks h dX2_place_52
      · have h := it_f c5 h
        refine lv_aload_n hx hb dX2_place_35 rfl (lv_at hl 0 rfl) ?_
        refine lv_iload_n hx hb dX2_place_36 rfl (lv_at hl 1 rfl) ?_
        refine clX2_isOne hf hK hO (metX2_isOne l D aC o ad x1 z _ rfl) q1694 hl.1 (Nat.le_of_ble_eq_true rfl) ⟨Nat.le_of_ble_eq_true rfl, Nat.le_of_ble_eq_true rfl⟩ ⟨Nat.le_of_ble_eq_true rfl, Nat.le_of_ble_eq_true rfl⟩ dX2_place_37 ?_
        refine lv_if_eq (tgt := 51) hx hb dX2_place_40 (by decide) (fun c6 => ?_) (fun c6 => ?_)
        · have h := it_t c6 h
          refine lv_iconst (v := (-1)) hx hb dX2_place_51 (by decide) ?_
          exact g_retR hx hb hr hlocks h dX2_place_52
        · have h := it_f c6 h
          refine lv_iconst (v := 5) hx hb dX2_place_43 (by decide) ?_
          refine lv_iload_n hx hb dX2_place_44 rfl (lv_at hl 1 rfl) ?_
          refine lv_imul hx hb dX2_place_45 ?_
          refine lv_iload_n hx hb dX2_place_46 rfl (lv_at hl 2 rfl) ?_
          refine lv_iadd hx hb dX2_place_47 ?_
          refine lv_goto (tgt := 52) hx hb dX2_place_48 (by decide) ?_
          exact g_retR hx hb hr hlocks h dX2_place_52
    · have h := it_t c4 h
      exact hk1 _ h (lv_sub hl [0, 1, 2] rfl)
theorem clX2_place {p : Program} {l : Launch} {e : Env} {R : Room} {s : State} {m : MethodId} {args : Array Value} {below : List Frame} {meth : Method} {c : Code} {H : Heap} {locs : List Loc} {cells slots : Nat} {Q : State → Prop} {cc : ByteArray} {pc nL idx fr lo : Nat} {ls : Array Slot} {rest : List Value} {own : String} {D : va_G} {aC : Nat → ClassId} {o : Nat} {ad : Nat → Nat} {z : GS} {x1 : Int32} {x2 : Int32} {r : Int32} (hf : CallFix p m c cc nL s args lw_all own) (hK : va_K D vwCl (tysG aC) s) (hO : OM D aC o ad z H) (hM : Met l yX2_place (ws_ yX2_place cX2_place 3 (some .int)) ({ frames := fr, cells := 0, slots := 0, locals := lo }) (va_Pc [.ref o, .int x1, .int x2] (PM D aC o ad z)) (QR (some (.int r))) 0 0 (fun _ => False)) (hq : Cond.methodLink own idx yX2_place ∈ lw_all) (hs : ls.size = nL) (hr : (rest.map fun v => v.category).sum ≤ 8) (hR : fr + 1 ≤ R.frames ∧ 8 + (3 + 11) + lo ≤ R.locals) (hcs : cells + 0 ≤ R.cells ∧ slots + 0 ≤ R.slots) (hd : decode cc pc = .ok (.invokevirtual idx, 3)) (kk : W p l e R s m args below meth c H locs cells slots Q (F0 m (pc + 3) ls (.int r :: rest))) : W p l e R s m args below meth c H locs cells slots Q (F0 m pc ls (.int x2 :: .int x1 :: .ref o :: rest)) :=
  g_callR (W.runV (As := [.int x1, .int x2]) (rest := rest) hf hM (cwV 2 hf.2.2.2.2 (lw_V hq q1692 qs52 q92 q1693) rfl rfl rfl (by decide +kernel) hR) ⟨fun a U g mk q => ⟨q.1, q.2.1, va_K.moved (u := U) (U := U.calling g mk a) (Vm.Alike.refl U.vm) q.2.2⟩, OA.recv hK hO rfl, fun U hU hW => ⟨rfl, by rw [hU]; exact hO, va_K.moved hW.alike hK⟩⟩ rfl rfl hs rfl (lv_room hr) hd hcs) kk
theorem metX2_mend (l : Launch) (D : va_G) (aC : Nat → ClassId) (o : Nat) (ad : Nat → Nat) (A : Nat → Prop) (hD : OD A 44 kdM o ad) (x1 : Int32) (x2 : Int32) (x3 : Int32) (z : GS) (r : Int32) (zq : GS) (h : FX2_mend x1 x2 x3 z = some (r, zq)) : Met l yX2_mend (ws_ yX2_mend cX2_mend 8 (some .int)) ({ frames := 3, cells := 0, slots := 0, locals := 65 }) (va_Pc [.ref o, .int x1, .int x2, .int x3] (PM D aC o ad z)) (QG (some (.int r)) (OM D aC o ad zq) A) 0 0 A := by
  refine g_ofW (cc := cX2_mend) (maxL := 8) (ret := (some .int)) (own := RX2) (by decide) rfl rfl [.ref o, .int x1, .int x2, .int x3] (PM D aC o ad z) (Nat.le_of_ble_eq_true rfl) ?_
  intro p e s m below meth c ls hx hb hr hml hts hown hlocks hnm hPre hl
  obtain ⟨hO, hK⟩ := hPre
  have hf : CallFix p m c cX2_mend 8 s _ lw_all RX2 := ⟨hx, hb, hml, hown, hts⟩
  have hl : lv_has ls 8 [(0, .ref o), (1, .int x1), (2, .int x2), (3, .int x3)] := hl
  refine g_open (A := A) (OM D aC o ad z) hO (fun H locs hO hS => ?_)
  unfold FX2_mend at h
  refine lv_aload_n hx hb dX2_mend_0 rfl (lv_at hl 0 rfl) ?_
  refine lv_iload_n hx hb dX2_mend_1 rfl (lv_at hl 1 rfl) ?_
  refine lv_iload_n hx hb dX2_mend_2 rfl (lv_at hl 2 rfl) ?_
  refine clX2_place hf hK hO (metX2_place l D aC o ad x1 x2 z _ rfl) q1690 hl.1 (Nat.le_of_ble_eq_true rfl) ⟨Nat.le_of_ble_eq_true rfl, Nat.le_of_ble_eq_true rfl⟩ ⟨Nat.le_of_ble_eq_true rfl, Nat.le_of_ble_eq_true rfl⟩ dX2_mend_3 ?_
  refine lv_topi (fun y1 ey1 => ?_)
  have h := pin_to ey1 h
  refine lv_istore (lv' := [(4, .int y1), (0, .ref o), (1, .int x1), (2, .int x2), (3, .int x3)]) hx hb dX2_mend_6 hl (by decide) rfl (fun ls hl => ?_)
  refine lv_iload_n hx hb dX2_mend_8 rfl (lv_at hl 3 rfl) ?_
  obtain ⟨k3, e47, h⟩ := pin_nm2 h
  have hk3 : ∀ (u2 : Int32) (ls : Array Slot), k3 u2 = some (r, zq) → lv_has ls 8 [(0, .ref o), (1, .int x1), (2, .int x2), (3, .int x3), (4, .int y1)] → W p l e ({ frames := 3, cells := 0, slots := 0, locals := 65 }) s m ([.ref o, .int x1, .int x2, .int x3] : List Value).toArray below meth c H locs 0 0 (MQ below (QG (some (.int r)) (OM D aC o ad zq) A) ([.ref o, .int x1, .int x2, .int x3] : List Value).toArray s 0 0 A) (F0 m 49 ls [.int u2]) := by
    intro u2 ls h hl
    rw [e47] at h
    refine lv_istore (lv' := [(5, .int u2), (0, .ref o), (1, .int x1), (2, .int x2), (3, .int x3), (4, .int y1)]) hx hb dX2_mend_49 hl (by decide) rfl (fun ls hl => ?_)
    refine lv_iload hx hb dX2_mend_51 (lv_at hl 5 rfl) ?_
    refine lv_iconst (v := (-1)) hx hb dX2_mend_53 (by decide) ?_
    refine lv_icmp_eq (tgt := 86) hx hb dX2_mend_54 (by decide) (fun c4 => ?_) (fun c4 => ?_)
    · have h := it_t c4 h
      refine lv_ldc (v := (-2000000000)) hx hb hown (hts _ q1698) dX2_mend_86 ?_
      obtain ⟨e8, rfl⟩ := Prod.mk.inj (Option.some.inj h)
      exact g_retG hx hb hr hlocks e8 hO hS dX2_mend_88
    · have h := it_f c4 h
      refine lv_iload_n hx hb dX2_mend_57 rfl (lv_at hl 4 rfl) ?_
      refine lv_iload_n hx hb dX2_mend_58 rfl (lv_at hl 3 rfl) ?_
      refine lv_iconst (v := 4) hx hb dX2_mend_59 (by decide) ?_
      obtain ⟨k6, e45, h⟩ := pin_nm2 h
      have hk6 : ∀ (u5 : Int32) (ls : Array Slot), k6 u5 = some (r, zq) → lv_has ls 8 [(0, .ref o), (1, .int x1), (2, .int x2), (3, .int x3), (4, .int y1), (5, .int u2)] → W p l e ({ frames := 3, cells := 0, slots := 0, locals := 65 }) s m ([.ref o, .int x1, .int x2, .int x3] : List Value).toArray below meth c H locs 0 0 (MQ below (QG (some (.int r)) (OM D aC o ad zq) A) ([.ref o, .int x1, .int x2, .int x3] : List Value).toArray s 0 0 A) (F0 m 68 ls [.int u5, .int x3]) := by
        intro u5 ls h hl
        rw [e45] at h
        refine lv_iload hx hb dX2_mend_68 (lv_at hl 5 rfl) ?_
        refine clX2_isIn hf (metX2_isIn l x3 u5 u2 _ rfl) q1675 hl.1 (Nat.le_of_ble_eq_true rfl) ⟨Nat.le_of_ble_eq_true rfl, Nat.le_of_ble_eq_true rfl⟩ ⟨Nat.le_of_ble_eq_true rfl, Nat.le_of_ble_eq_true rfl⟩ dX2_mend_70 ?_
        refine lv_if_eq (tgt := 86) hx hb dX2_mend_73 (by decide) (fun c7 => ?_) (fun c7 => ?_)
        · have h := it_t c7 h
          refine lv_ldc (v := (-2000000000)) hx hb hown (hts _ q1698) dX2_mend_86 ?_
          obtain ⟨e8, rfl⟩ := Prod.mk.inj (Option.some.inj h)
          exact g_retG hx hb hr hlocks e8 hO hS dX2_mend_88
        · have h := it_f c7 h
          refine lv_iload_n hx hb dX2_mend_76 rfl (lv_at hl 2 rfl) ?_
          refine lv_iconst (v := 4) hx hb dX2_mend_77 (by decide) ?_
          obtain ⟨k8, e44, h⟩ := pin_nm h
          have hk8 : ∀  (ls : Array Slot), k8  = some (r, zq) → lv_has ls 8 [(0, .ref o), (3, .int x3), (4, .int y1)] → W p l e ({ frames := 3, cells := 0, slots := 0, locals := 65 }) s m ([.ref o, .int x1, .int x2, .int x3] : List Value).toArray below meth c H locs 0 0 (MQ below (QG (some (.int r)) (OM D aC o ad zq) A) ([.ref o, .int x1, .int x2, .int x3] : List Value).toArray s 0 0 A) (F0 m 89 ls []) := by
            intro  ls h hl
            rw [e44] at h
            refine lv_aload_n hx hb dX2_mend_89 rfl (lv_at hl 0 rfl) ?_
            refine X2_getA hx hb hts hown hK hO 0 (by decide) rfl (hts _ q1537) dX2_mend_90 ?_
            refine lv_iload hx hb dX2_mend_93 (lv_at hl 2 rfl) ?_
            obtain ⟨g9, h⟩ := grd h
            refine X2_iaload hx hb hK hO 0 (by decide) rfl rfl g9 dX2_mend_95 ?_
            refine lv_topi (fun y10 ey10 => ?_)
            have h := pin_to ey10 h
            refine lv_istore (lv' := [(6, .int y10), (0, .ref o), (3, .int x3), (4, .int y1)]) hx hb dX2_mend_96 hl (by decide) rfl (fun ls hl => ?_)
            refine lv_iload hx hb dX2_mend_98 (lv_at hl 0 rfl) ?_
            refine lv_iload_n hx hb dX2_mend_100 rfl (lv_at hl 2 rfl) ?_
            refine lv_icmp_eq (tgt := 245) hx hb dX2_mend_101 (by decide) (fun c11 => ?_) (fun c11 => ?_)
            · have h := it_t c11 h
              refine lv_iload hx hb dX2_mend_245 (lv_at hl 0 rfl) ?_
              obtain ⟨e8, rfl⟩ := Prod.mk.inj (Option.some.inj h)
              exact g_retG hx hb hr hlocks e8 hO hS dX2_mend_247
            · have h := it_f c11 h
              refine lv_aload_n hx hb dX2_mend_104 rfl (lv_at hl 1 rfl) ?_
              refine X2_getA hx hb hts hown hK hO 0 (by decide) rfl (hts _ q1537) dX2_mend_105 ?_
              refine lv_iload hx hb dX2_mend_108 (lv_at hl 3 rfl) ?_
              refine lv_iload_n hx hb dX2_mend_110 rfl (lv_at hl 2 rfl) ?_
              obtain ⟨g12, h⟩ := grd h
              refine X2_iastore hx hb hK hO hD hS 0 (by decide) rfl rfl g12 dX2_mend_111 (fun H locs z13 ez13 hO hS => ?_)
              have h := pin_to ez13 h
              refine lv_aload_n hx hb dX2_mend_112 rfl (lv_at hl 1 rfl) ?_
              refine X2_getF hx hb hts hown hK hO 6 (by decide) rfl (hts _ q1543) dX2_mend_113 ?_
              refine lv_bipush (v := 40) hx hb dX2_mend_116 (by decide) ?_
              obtain ⟨k14, e41, h⟩ := pin_nm h
              have hk14 : ∀  (z15 : GS) (H : Heap) (locs : List Loc) (ls : Array Slot), k14  z15 = some (r, zq) → OM D aC o ad z15 H → va_S A s.heap H locs → lv_has ls 8 [(0, .ref o), (3, .int x3), (4, .int y1), (6, .int y10)] → W p l e ({ frames := 3, cells := 0, slots := 0, locals := 65 }) s m ([.ref o, .int x1, .int x2, .int x3] : List Value).toArray below meth c H locs 0 0 (MQ below (QG (some (.int r)) (OM D aC o ad zq) A) ([.ref o, .int x1, .int x2, .int x3] : List Value).toArray s 0 0 A) (F0 m 195 ls []) := by
                intro  z15 H locs ls h hO hS hl
                rw [e41] at h
                refine lv_aload_n hx hb dX2_mend_195 rfl (lv_at hl 0 rfl) ?_
                refine X2_getA hx hb hts hown hK hO 3 (by decide) rfl (hts _ q1540) dX2_mend_196 ?_
                refine lv_aload_n hx hb dX2_mend_199 rfl (lv_at hl 0 rfl) ?_
                refine X2_getF hx hb hts hown hK hO 6 (by decide) rfl (hts _ q1543) dX2_mend_200 ?_
                refine lv_iload hx hb dX2_mend_203 (lv_at hl 2 rfl) ?_
                obtain ⟨g16, h⟩ := grd h
                refine X2_iastore hx hb hK hO hD hS 3 (by decide) rfl rfl g16 dX2_mend_205 (fun H locs z17 ez17 hO hS => ?_)
                have h := pin_to ez17 h
                refine lv_aload_n hx hb dX2_mend_206 rfl (lv_at hl 0 rfl) ?_
                refine X2_getA hx hb hts hown hK hO 4 (by decide) rfl (hts _ q1541) dX2_mend_207 ?_
                refine lv_aload_n hx hb dX2_mend_210 rfl (lv_at hl 0 rfl) ?_
                refine X2_getF hx hb hts hown hK hO 6 (by decide) rfl (hts _ q1543) dX2_mend_211 ?_
                refine lv_iload hx hb dX2_mend_214 (lv_at hl 3 rfl) ?_
                obtain ⟨g18, h⟩ := grd h
                refine X2_iastore hx hb hK hO hD hS 4 (by decide) rfl rfl g18 dX2_mend_216 (fun H locs z19 ez19 hO hS => ?_)
                have h := pin_to ez19 h
                refine lv_aload_n hx hb dX2_mend_217 rfl (lv_at hl 0 rfl) ?_
                refine X2_getA hx hb hts hown hK hO 5 (by decide) rfl (hts _ q1542) dX2_mend_218 ?_
                refine lv_aload_n hx hb dX2_mend_221 rfl (lv_at hl 0 rfl) ?_
                refine X2_getF hx hb hts hown hK hO 6 (by decide) rfl (hts _ q1543) dX2_mend_222 ?_
                refine lv_iload_n hx hb dX2_mend_225 rfl (lv_at hl 1 rfl) ?_
                obtain ⟨g20, h⟩ := grd h
                refine X2_iastore hx hb hK hO hD hS 5 (by decide) rfl rfl g20 dX2_mend_226 (fun H locs z21 ez21 hO hS => ?_)
                have h := pin_to ez21 h
                refine lv_aload_n hx hb dX2_mend_227 rfl (lv_at hl 0 rfl) ?_
                refine lv_dup hx hb dX2_mend_228 rfl ?_
                refine X2_getF hx hb hts hown hK hO 6 (by decide) rfl (hts _ q1543) dX2_mend_229 ?_
                refine lv_iconst (v := 1) hx hb dX2_mend_232 (by decide) ?_
                refine lv_iadd hx hb dX2_mend_233 ?_
                refine X2_putF hx hb hts hown hK hO hD hS 6 (by decide) rfl (hts _ q1543) rfl (ty := .int) rfl rfl rfl dX2_mend_234 (fun H locs z22 ez22 hO hS => ?_)
                have h := pin_to ez22 h
                refine lv_aload_n hx hb dX2_mend_237 rfl (lv_at hl 0 rfl) ?_
                refine lv_aload_n hx hb dX2_mend_238 rfl (lv_at hl 0 rfl) ?_
                refine X2_getF hx hb hts hown hK hO 6 (by decide) rfl (hts _ q1543) dX2_mend_239 ?_
                refine X2_putF hx hb hts hown hK hO hD hS 7 (by decide) rfl (hts _ q1544) rfl (ty := .int) rfl rfl rfl dX2_mend_242 (fun H locs z23 ez23 hO hS => ?_)
                have h := pin_to ez23 h
                refine lv_iload hx hb dX2_mend_245 (lv_at hl 3 rfl) ?_
                obtain ⟨e8, rfl⟩ := Prod.mk.inj (Option.some.inj h)
                exact g_retG hx hb hr hlocks e8 hO hS dX2_mend_247
              refine lv_icmp_ne (tgt := 195) hx hb dX2_mend_118 (by decide) (fun c24 => ?_) (fun c24 => ?_)
              · have h := it_f c24 h
                exact hk14 _ _ _ _ h hO hS (lv_sub hl [1, 2, 3, 0] rfl)
              · have h := it_t c24 h
                refine lv_iconst (v := 1) hx hb dX2_mend_121 (by decide) ?_
                refine lv_istore (lv' := [(7, .int 1), (6, .int y10), (0, .ref o), (3, .int x3), (4, .int y1)]) hx hb dX2_mend_122 hl (by decide) rfl (fun ls hl => ?_)
                obtain ⟨k25, e40, h⟩ := pin_nm h
                have hk25 : ∀  (z26 : GS) (H : Heap) (locs : List Loc) (ls : Array Slot), k25  z26 = some (r, zq) → OM D aC o ad z26 H → va_S A s.heap H locs → lv_has ls 8 [(0, .ref o), (3, .int x3), (4, .int y1), (6, .int y10)] → W p l e ({ frames := 3, cells := 0, slots := 0, locals := 65 }) s m ([.ref o, .int x1, .int x2, .int x3] : List Value).toArray below meth c H locs 0 0 (MQ below (QG (some (.int r)) (OM D aC o ad zq) A) ([.ref o, .int x1, .int x2, .int x3] : List Value).toArray s 0 0 A) (F0 m 185 ls []) := by
                  intro  z26 H locs ls h hO hS hl
                  rw [e40] at h
                  refine lv_aload_n hx hb dX2_mend_185 rfl (lv_at hl 0 rfl) ?_
                  refine lv_dup hx hb dX2_mend_186 rfl ?_
                  refine X2_getF hx hb hts hown hK hO 6 (by decide) rfl (hts _ q1543) dX2_mend_187 ?_
                  refine lv_iconst (v := 1) hx hb dX2_mend_190 (by decide) ?_
                  refine lv_isub hx hb dX2_mend_191 ?_
                  refine X2_putF hx hb hts hown hK hO hD hS 6 (by decide) rfl (hts _ q1543) rfl (ty := .int) rfl rfl rfl dX2_mend_192 (fun H locs z27 ez27 hO hS => ?_)
                  have h := pin_to ez27 h
                  exact hk14 _ _ _ _ h hO hS (lv_sub hl [0, 1, 2, 3] rfl)
                have key39 : ∀ (f : Nat) (v7 : Int32) (z : GS) (H : Heap) (locs : List Loc) (ls : Array Slot), FX2_mend_L124 k25 x3 y1 y10 f v7 z = some (r, zq) → OM D aC o ad z H → va_S A s.heap H locs → lv_has ls 8 [(0, .ref o), (3, .int x3), (4, .int y1), (6, .int y10), (7, .int v7)] → W p l e ({ frames := 3, cells := 0, slots := 0, locals := 65 }) s m ([.ref o, .int x1, .int x2, .int x3] : List Value).toArray below meth c H locs 0 0 (MQ below (QG (some (.int r)) (OM D aC o ad zq) A) ([.ref o, .int x1, .int x2, .int x3] : List Value).toArray s 0 0 A) (F0 m 124 ls []) := by
                  intro f
                  induction f with
                  | zero =>
                    intro v7 z H locs ls h
                    rw [FX2_mend_L124] at h
                    cases h
                  | succ f ih28 =>
                    intro v7 z H locs ls h hO hS hl
                    rw [FX2_mend_L124] at h
                    refine lv_iload hx hb dX2_mend_124 (lv_at hl 4 rfl) ?_
                    refine lv_bipush (v := 40) hx hb dX2_mend_126 (by decide) ?_
                    refine lv_icmp_ge (tgt := 185) hx hb dX2_mend_128 (by decide) (fun c29 => ?_) (fun c29 => ?_)
                    · have h := it_t c29 h
                      exact hk25 _ _ _ _ h hO hS (lv_sub hl [0, 1, 2, 3] rfl)
                    · have h := it_f c29 h
                      refine lv_aload_n hx hb dX2_mend_131 rfl (lv_at hl 0 rfl) ?_
                      refine X2_getA hx hb hts hown hK hO 3 (by decide) rfl (hts _ q1540) dX2_mend_132 ?_
                      refine lv_iload hx hb dX2_mend_135 (lv_at hl 4 rfl) ?_
                      refine lv_iconst (v := 1) hx hb dX2_mend_137 (by decide) ?_
                      refine lv_isub hx hb dX2_mend_138 ?_
                      refine lv_aload_n hx hb dX2_mend_139 rfl (lv_at hl 0 rfl) ?_
                      refine X2_getA hx hb hts hown hK hO 3 (by decide) rfl (hts _ q1540) dX2_mend_140 ?_
                      refine lv_iload hx hb dX2_mend_143 (lv_at hl 4 rfl) ?_
                      obtain ⟨g30, h⟩ := grd h
                      refine X2_iaload hx hb hK hO 3 (by decide) rfl rfl g30 dX2_mend_145 ?_
                      obtain ⟨g31, h⟩ := grd h
                      refine X2_iastore hx hb hK hO hD hS 3 (by decide) rfl rfl g31 dX2_mend_146 (fun H locs z32 ez32 hO hS => ?_)
                      have h := pin_to ez32 h
                      refine lv_aload_n hx hb dX2_mend_147 rfl (lv_at hl 0 rfl) ?_
                      refine X2_getA hx hb hts hown hK hO 4 (by decide) rfl (hts _ q1541) dX2_mend_148 ?_
                      refine lv_iload hx hb dX2_mend_151 (lv_at hl 4 rfl) ?_
                      refine lv_iconst (v := 1) hx hb dX2_mend_153 (by decide) ?_
                      refine lv_isub hx hb dX2_mend_154 ?_
                      refine lv_aload_n hx hb dX2_mend_155 rfl (lv_at hl 0 rfl) ?_
                      refine X2_getA hx hb hts hown hK hO 4 (by decide) rfl (hts _ q1541) dX2_mend_156 ?_
                      refine lv_iload hx hb dX2_mend_159 (lv_at hl 4 rfl) ?_
                      obtain ⟨g33, h⟩ := grd h
                      refine X2_iaload hx hb hK hO 4 (by decide) rfl rfl g33 dX2_mend_161 ?_
                      obtain ⟨g34, h⟩ := grd h
                      refine X2_iastore hx hb hK hO hD hS 4 (by decide) rfl rfl g34 dX2_mend_162 (fun H locs z35 ez35 hO hS => ?_)
                      have h := pin_to ez35 h
                      refine lv_aload_n hx hb dX2_mend_163 rfl (lv_at hl 0 rfl) ?_
                      refine X2_getA hx hb hts hown hK hO 5 (by decide) rfl (hts _ q1542) dX2_mend_164 ?_
                      refine lv_iload hx hb dX2_mend_167 (lv_at hl 4 rfl) ?_
                      refine lv_iconst (v := 1) hx hb dX2_mend_169 (by decide) ?_
                      refine lv_isub hx hb dX2_mend_170 ?_
                      refine lv_aload_n hx hb dX2_mend_171 rfl (lv_at hl 0 rfl) ?_
                      refine X2_getA hx hb hts hown hK hO 5 (by decide) rfl (hts _ q1542) dX2_mend_172 ?_
                      refine lv_iload hx hb dX2_mend_175 (lv_at hl 4 rfl) ?_
                      obtain ⟨g36, h⟩ := grd h
                      refine X2_iaload hx hb hK hO 5 (by decide) rfl rfl g36 dX2_mend_177 ?_
                      obtain ⟨g37, h⟩ := grd h
                      refine X2_iastore hx hb hK hO hD hS 5 (by decide) rfl rfl g37 dX2_mend_178 (fun H locs z38 ez38 hO hS => ?_)
                      have h := pin_to ez38 h
                      refine lv_iinc (v := (v7 + 1)) (lv' := [(7, .int (v7 + 1)), (0, .ref o), (3, .int x3), (4, .int y1), (6, .int y10)]) hx hb dX2_mend_179 hl (k := 4) rfl rfl (by decide) rfl (fun ls hl => ?_)
                      refine lv_goto (tgt := 124) hx hb dX2_mend_182 (by decide) ?_
                      exact ih28 _ _ _ _ _ h hO hS (lv_sub hl [1, 2, 3, 4, 0] rfl)
                exact key39 FU _ _ _ _ _ h hO hS (lv_sub hl [2, 3, 4, 1, 0] rfl)
          refine lv_icmp_ne (tgt := 89) hx hb dX2_mend_78 (by decide) (fun c42 => ?_) (fun c42 => ?_)
          · have h := it_f c42 h
            exact hk8 _ h (lv_sub hl [0, 3, 4] rfl)
          · have h := it_t c42 h
            refine lv_iload_n hx hb dX2_mend_81 rfl (lv_at hl 3 rfl) ?_
            refine lv_iload_n hx hb dX2_mend_82 rfl (lv_at hl 1 rfl) ?_
            refine lv_icmp_ne (tgt := 89) hx hb dX2_mend_83 (by decide) (fun c43 => ?_) (fun c43 => ?_)
            · have h := it_f c43 h
              exact hk8 _ h (lv_sub hl [0, 3, 4] rfl)
            · have h := it_t c43 h
              refine lv_ldc (v := (-2000000000)) hx hb hown (hts _ q1698) dX2_mend_86 ?_
              obtain ⟨e8, rfl⟩ := Prod.mk.inj (Option.some.inj h)
              exact g_retG hx hb hr hlocks e8 hO hS dX2_mend_88
      refine lv_icmp_ne (tgt := 67) hx hb dX2_mend_60 (by decide) (fun c46 => ?_) (fun c46 => ?_)
      · have h := pt_f (k := k6) c46 h
        refine lv_iconst (v := 0) hx hb dX2_mend_67 (by decide) ?_
        exact hk6 _ _ h (lv_sub hl [1, 2, 3, 4, 5, 0] rfl)
      · have h := pt_t (k := k6) c46 h
        refine lv_iconst (v := (-1)) hx hb dX2_mend_63 (by decide) ?_
        refine lv_goto (tgt := 68) hx hb dX2_mend_64 (by decide) ?_
        exact hk6 _ _ h (lv_sub hl [1, 2, 3, 4, 5, 0] rfl)
  refine lv_if_ne (tgt := 17) hx hb dX2_mend_9 (by decide) (fun c48 => ?_) (fun c48 => ?_)
  · have h := pt_f (k := k3) c48 h
    refine lv_iload_n hx hb dX2_mend_17 rfl (lv_at hl 3 rfl) ?_
    refine lv_iconst (v := 3) hx hb dX2_mend_18 (by decide) ?_
    refine lv_icmp_eq (tgt := 28) hx hb dX2_mend_19 (by decide) (fun c49 => ?_) (fun c49 => ?_)
    · have h := pt_t (k := k3) c49 h
      refine lv_bipush (v := 99) hx hb dX2_mend_28 (by decide) ?_
      refine lv_goto (tgt := 49) hx hb dX2_mend_30 (by decide) ?_
      exact hk3 _ _ h (lv_sub hl [1, 2, 3, 4, 0] rfl)
    · have h := pt_f (k := k3) c49 h
      refine lv_iload_n hx hb dX2_mend_22 rfl (lv_at hl 3 rfl) ?_
      refine lv_bipush (v := 6) hx hb dX2_mend_23 (by decide) ?_
      refine lv_icmp_ne (tgt := 33) hx hb dX2_mend_25 (by decide) (fun c50 => ?_) (fun c50 => ?_)
      · have h := pt_f (k := k3) c50 h
        refine lv_iload_n hx hb dX2_mend_33 rfl (lv_at hl 3 rfl) ?_
        refine lv_iconst (v := 4) hx hb dX2_mend_34 (by decide) ?_
        refine lv_icmp_ne (tgt := 47) hx hb dX2_mend_35 (by decide) (fun c51 => ?_) (fun c51 => ?_)
        · have h := pt_f (k := k3) c51 h
          refine lv_bipush (v := 9) hx hb dX2_mend_47 (by decide) ?_
          exact hk3 _ _ h (lv_sub hl [1, 2, 3, 4, 0] rfl)
        · have h := pt_t (k := k3) c51 h
          refine lv_aload_n hx hb dX2_mend_38 rfl (lv_at hl 1 rfl) ?_
          refine X2_getF hx hb hts hown hK hO 2 (by decide) rfl (hts _ q1539) dX2_mend_39 ?_
          refine lv_iconst (v := 1) hx hb dX2_mend_42 (by decide) ?_
          refine lv_isub hx hb dX2_mend_43 ?_
          refine lv_goto (tgt := 49) hx hb dX2_mend_44 (by decide) ?_
          exact hk3 _ _ h (lv_sub hl [1, 2, 3, 4, 0] rfl)
      · have h := pt_t (k := k3) c50 h
        refine lv_bipush (v := 99) hx hb dX2_mend_28 (by decide) ?_
        refine lv_goto (tgt := 49) hx hb dX2_mend_30 (by decide) ?_
        exact hk3 _ _ h (lv_sub hl [1, 2, 3, 4, 0] rfl)
  · have h := pt_t (k := k3) c48 h
    refine lv_bipush (v := 35) hx hb dX2_mend_12 (by decide) ?_
    refine lv_goto (tgt := 49) hx hb dX2_mend_14 (by decide) ?_
    exact hk3 _ _ h (lv_sub hl [1, 2, 3, 4, 0] rfl)
theorem clX2_mend {p : Program} {l : Launch} {e : Env} {R : Room} {s : State} {m : MethodId} {args : Array Value} {below : List Frame} {meth : Method} {c : Code} {H : Heap} {locs : List Loc} {cells slots : Nat} {Q : State → Prop} {cc : ByteArray} {pc nL idx fr lo : Nat} {ls : Array Slot} {rest : List Value} {own : String} {D : va_G} {aC : Nat → ClassId} {o : Nat} {ad : Nat → Nat} {z : GS} {zq : GS} {A : Nat → Prop} {x1 : Int32} {x2 : Int32} {x3 : Int32} {r : Int32} (hf : CallFix p m c cc nL s args lw_all own) (hK : va_K D vwCl (tysG aC) s) (hO : OM D aC o ad z H) (hS : va_S A s.heap H locs) (hM : Met l yX2_mend (ws_ yX2_mend cX2_mend 8 (some .int)) ({ frames := fr, cells := 0, slots := 0, locals := lo }) (va_Pc [.ref o, .int x1, .int x2, .int x3] (PM D aC o ad z)) (QG (some (.int r)) (OM D aC o ad zq) A) 0 0 A) (hq : Cond.methodLink own idx yX2_mend ∈ lw_all) (hs : ls.size = nL) (hr : (rest.map fun v => v.category).sum ≤ 8) (hR : fr + 1 ≤ R.frames ∧ 8 + (8 + 11) + lo ≤ R.locals) (hcs : cells + 0 ≤ R.cells ∧ slots + 0 ≤ R.slots) (hd : decode cc pc = .ok (.invokevirtual idx, 3)) (kk : ∀ (H1 : Heap) (locs1 : List Loc), OM D aC o ad zq H1 → va_S A s.heap H1 locs1 → W p l e R s m args below meth c H1 locs1 cells slots Q (F0 m (pc + 3) ls (.int r :: rest))) : W p l e R s m args below meth c H locs cells slots Q (F0 m pc ls (.int x3 :: .int x2 :: .int x1 :: .ref o :: rest)) :=
  g_callG (W.runV (As := [.int x1, .int x2, .int x3]) (rest := rest) hf hM (cwV 3 hf.2.2.2.2 (lw_V hq q1687 q1688 q92 q1689) rfl rfl rfl (by decide +kernel) hR) ⟨fun a U g mk q => ⟨q.1, q.2.1, va_K.moved (u := U) (U := U.calling g mk a) (Vm.Alike.refl U.vm) q.2.2⟩, OA.recv hK hO rfl, fun U hU hW => ⟨rfl, by rw [hU]; exact hO, va_K.moved hW.alike hK⟩⟩ rfl rfl hs rfl (lv_room hr) hd hcs) hS (fun H1 locs1 hP hS _ _ => kk H1 locs1 hP hS)
theorem metX2_of (l : Launch) (D : va_G) (aC : Nat → ClassId) (o : Nat) (ad : Nat → Nat) (x1 : Int32) (x2 : Int32) (z : GS) (r : Int32) (h : FX2_of x1 x2 z = some r) : Met l yX2_of (ws_ yX2_of cX2_of 4 (some .int)) ({ frames := 3, cells := 0, slots := 0, locals := 65 }) (va_Pc [.ref o, .int x1, .int x2] (PM D aC o ad z)) (QR (some (.int r))) 0 0 (fun _ => False) := by
  refine g_ofW (cc := cX2_of) (maxL := 4) (ret := (some .int)) (own := RX2) (by decide) rfl rfl [.ref o, .int x1, .int x2] (PM D aC o ad z) (Nat.le_of_ble_eq_true rfl) ?_
  intro p e s m below meth c ls hx hb hr hml hts hown hlocks hnm hPre hl
  obtain ⟨hO, hK⟩ := hPre
  have hf : CallFix p m c cX2_of 4 s _ lw_all RX2 := ⟨hx, hb, hml, hown, hts⟩
  have hl : lv_has ls 4 [(0, .ref o), (1, .int x1), (2, .int x2)] := hl
  unfold FX2_of at h
  refine lv_aload_n hx hb dX2_of_0 rfl (lv_at hl 0 rfl) ?_
  refine lv_iload_n hx hb dX2_of_1 rfl (lv_at hl 1 rfl) ?_
  refine lv_iload_n hx hb dX2_of_2 rfl (lv_at hl 2 rfl) ?_
  refine clX2_place hf hK hO (metX2_place l D aC o ad x1 x2 z _ rfl) q1690 hl.1 (Nat.le_of_ble_eq_true rfl) ⟨Nat.le_of_ble_eq_true rfl, Nat.le_of_ble_eq_true rfl⟩ ⟨Nat.le_of_ble_eq_true rfl, Nat.le_of_ble_eq_true rfl⟩ dX2_of_3 ?_
  refine lv_topi (fun y1 ey1 => ?_)
  have h := pin_to ey1 h
  refine lv_istore_n (lv' := [(3, .int y1), (0, .ref o), (1, .int x1), (2, .int x2)]) hx hb dX2_of_6 rfl hl (by decide) rfl (fun ls hl => ?_)
  refine lv_iload_n hx hb dX2_of_7 rfl (lv_at hl 0 rfl) ?_
  refine lv_iconst (v := (-1)) hx hb dX2_of_8 (by decide) ?_
  refine lv_icmp_ne (tgt := 17) hx hb dX2_of_9 (by decide) (fun c2 => ?_) (fun c2 => ?_)
  · have h := it_f c2 h
    refine lv_aload_n hx hb dX2_of_17 rfl (lv_at hl 1 rfl) ?_
    refine X2_getA hx hb hts hown hK hO 0 (by decide) rfl (hts _ q1537) dX2_of_18 ?_
    refine lv_iload_n hx hb dX2_of_21 rfl (lv_at hl 0 rfl) ?_
    obtain ⟨g3, h⟩ := grd h
    refine X2_iaload hx hb hK hO 0 (by decide) rfl rfl g3 dX2_of_22 ?_
    exact g_retR hx hb hr hlocks (Option.some.inj h) dX2_of_23
  · have h := it_t c2 h
    refine lv_ldc (v := (-2000000000)) hx hb hown (hts _ q1698) dX2_of_12 ?_
    refine lv_goto (tgt := 23) hx hb dX2_of_14 (by decide) ?_
    exact g_retR hx hb hr hlocks (Option.some.inj h) dX2_of_23
theorem clX2_of {p : Program} {l : Launch} {e : Env} {R : Room} {s : State} {m : MethodId} {args : Array Value} {below : List Frame} {meth : Method} {c : Code} {H : Heap} {locs : List Loc} {cells slots : Nat} {Q : State → Prop} {cc : ByteArray} {pc nL idx fr lo : Nat} {ls : Array Slot} {rest : List Value} {own : String} {D : va_G} {aC : Nat → ClassId} {o : Nat} {ad : Nat → Nat} {z : GS} {x1 : Int32} {x2 : Int32} {r : Int32} (hf : CallFix p m c cc nL s args lw_all own) (hK : va_K D vwCl (tysG aC) s) (hO : OM D aC o ad z H) (hM : Met l yX2_of (ws_ yX2_of cX2_of 4 (some .int)) ({ frames := fr, cells := 0, slots := 0, locals := lo }) (va_Pc [.ref o, .int x1, .int x2] (PM D aC o ad z)) (QR (some (.int r))) 0 0 (fun _ => False)) (hq : Cond.methodLink own idx yX2_of ∈ lw_all) (hs : ls.size = nL) (hr : (rest.map fun v => v.category).sum ≤ 8) (hR : fr + 1 ≤ R.frames ∧ 8 + (4 + 11) + lo ≤ R.locals) (hcs : cells + 0 ≤ R.cells ∧ slots + 0 ≤ R.slots) (hd : decode cc pc = .ok (.invokevirtual idx, 3)) (kk : W p l e R s m args below meth c H locs cells slots Q (F0 m (pc + 3) ls (.int r :: rest))) : W p l e R s m args below meth c H locs cells slots Q (F0 m pc ls (.int x2 :: .int x1 :: .ref o :: rest)) :=
  g_callR (W.runV (As := [.int x1, .int x2]) (rest := rest) hf hM (cwV 2 hf.2.2.2.2 (lw_V hq q1700 q1701 q92 q1702) rfl rfl rfl (by decide +kernel) hR) ⟨fun a U g mk q => ⟨q.1, q.2.1, va_K.moved (u := U) (U := U.calling g mk a) (Vm.Alike.refl U.vm) q.2.2⟩, OA.recv hK hO rfl, fun U hU hW => ⟨rfl, by rw [hU]; exact hO, va_K.moved hW.alike hK⟩⟩ rfl rfl hs rfl (lv_room hr) hd hcs) kk
theorem metX2_undo (l : Launch) (D : va_G) (aC : Nat → ClassId) (o : Nat) (ad : Nat → Nat) (A : Nat → Prop) (hD : OD A 44 kdM o ad)  (z : GS) (r : Int32) (zq : GS) (h : FX2_undo z = some (r, zq)) : Met l yX2_undo (ws_ yX2_undo cX2_undo 1 (some .int)) ({ frames := 0, cells := 0, slots := 0, locals := 0 }) (va_Pc [.ref o] (PM D aC o ad z)) (QG (some (.int r)) (OM D aC o ad zq) A) 0 0 A := by
  refine g_ofW (cc := cX2_undo) (maxL := 1) (ret := (some .int)) (own := RX2) (by decide) rfl rfl [.ref o] (PM D aC o ad z) (Nat.le_of_ble_eq_true rfl) ?_
  intro p e s m below meth c ls hx hb hr hml hts hown hlocks hnm hPre hl
  obtain ⟨hO, hK⟩ := hPre
  have hf : CallFix p m c cX2_undo 1 s _ lw_all RX2 := ⟨hx, hb, hml, hown, hts⟩
  have hl : lv_has ls 1 [(0, .ref o)] := hl
  refine g_open (A := A) (OM D aC o ad z) hO (fun H locs hO hS => ?_)
  unfold FX2_undo at h
  refine lv_aload_n hx hb dX2_undo_0 rfl (lv_at hl 0 rfl) ?_
  refine X2_getF hx hb hts hown hK hO 6 (by decide) rfl (hts _ q1543) dX2_undo_1 ?_
  refine lv_if_ne (tgt := 10) hx hb dX2_undo_4 (by decide) (fun c1 => ?_) (fun c1 => ?_)
  · have h := it_f c1 h
    refine lv_aload_n hx hb dX2_undo_10 rfl (lv_at hl 0 rfl) ?_
    refine lv_dup hx hb dX2_undo_11 rfl ?_
    refine X2_getF hx hb hts hown hK hO 6 (by decide) rfl (hts _ q1543) dX2_undo_12 ?_
    refine lv_iconst (v := 1) hx hb dX2_undo_15 (by decide) ?_
    refine lv_isub hx hb dX2_undo_16 ?_
    refine X2_putF hx hb hts hown hK hO hD hS 6 (by decide) rfl (hts _ q1543) rfl (ty := .int) rfl rfl rfl dX2_undo_17 (fun H locs z2 ez2 hO hS => ?_)
    have h := pin_to ez2 h
    refine lv_aload_n hx hb dX2_undo_20 rfl (lv_at hl 0 rfl) ?_
    refine X2_getA hx hb hts hown hK hO 0 (by decide) rfl (hts _ q1537) dX2_undo_21 ?_
    refine lv_aload_n hx hb dX2_undo_24 rfl (lv_at hl 0 rfl) ?_
    refine X2_getA hx hb hts hown hK hO 3 (by decide) rfl (hts _ q1540) dX2_undo_25 ?_
    refine lv_aload_n hx hb dX2_undo_28 rfl (lv_at hl 0 rfl) ?_
    refine X2_getF hx hb hts hown hK hO 6 (by decide) rfl (hts _ q1543) dX2_undo_29 ?_
    obtain ⟨g3, h⟩ := grd h
    refine X2_iaload hx hb hK hO 3 (by decide) rfl rfl g3 dX2_undo_32 ?_
    refine lv_aload_n hx hb dX2_undo_33 rfl (lv_at hl 0 rfl) ?_
    refine X2_getA hx hb hts hown hK hO 4 (by decide) rfl (hts _ q1541) dX2_undo_34 ?_
    refine lv_aload_n hx hb dX2_undo_37 rfl (lv_at hl 0 rfl) ?_
    refine X2_getF hx hb hts hown hK hO 6 (by decide) rfl (hts _ q1543) dX2_undo_38 ?_
    obtain ⟨g4, h⟩ := grd h
    refine X2_iaload hx hb hK hO 4 (by decide) rfl rfl g4 dX2_undo_41 ?_
    obtain ⟨g5, h⟩ := grd h
    refine X2_iastore hx hb hK hO hD hS 0 (by decide) rfl rfl g5 dX2_undo_42 (fun H locs z6 ez6 hO hS => ?_)
    have h := pin_to ez6 h
    refine lv_aload_n hx hb dX2_undo_43 rfl (lv_at hl 0 rfl) ?_
    refine X2_getF hx hb hts hown hK hO 6 (by decide) rfl (hts _ q1543) dX2_undo_44 ?_
    obtain ⟨e8, rfl⟩ := Prod.mk.inj (Option.some.inj h)
    exact g_retG hx hb hr hlocks e8 hO hS dX2_undo_47
  · have h := it_t c1 h
    refine lv_bipush (v := (-5)) hx hb dX2_undo_7 (by decide) ?_
    obtain ⟨e8, rfl⟩ := Prod.mk.inj (Option.some.inj h)
    exact g_retG hx hb hr hlocks e8 hO hS dX2_undo_9
theorem clX2_undo {p : Program} {l : Launch} {e : Env} {R : Room} {s : State} {m : MethodId} {args : Array Value} {below : List Frame} {meth : Method} {c : Code} {H : Heap} {locs : List Loc} {cells slots : Nat} {Q : State → Prop} {cc : ByteArray} {pc nL idx fr lo : Nat} {ls : Array Slot} {rest : List Value} {own : String} {D : va_G} {aC : Nat → ClassId} {o : Nat} {ad : Nat → Nat} {z : GS} {zq : GS} {A : Nat → Prop}  {r : Int32} (hf : CallFix p m c cc nL s args lw_all own) (hK : va_K D vwCl (tysG aC) s) (hO : OM D aC o ad z H) (hS : va_S A s.heap H locs) (hM : Met l yX2_undo (ws_ yX2_undo cX2_undo 1 (some .int)) ({ frames := fr, cells := 0, slots := 0, locals := lo }) (va_Pc [.ref o] (PM D aC o ad z)) (QG (some (.int r)) (OM D aC o ad zq) A) 0 0 A) (hq : Cond.methodLink own idx yX2_undo ∈ lw_all) (hs : ls.size = nL) (hr : (rest.map fun v => v.category).sum ≤ 8) (hR : fr + 1 ≤ R.frames ∧ 8 + (1 + 11) + lo ≤ R.locals) (hcs : cells + 0 ≤ R.cells ∧ slots + 0 ≤ R.slots) (hd : decode cc pc = .ok (.invokevirtual idx, 3)) (kk : ∀ (H1 : Heap) (locs1 : List Loc), OM D aC o ad zq H1 → va_S A s.heap H1 locs1 → W p l e R s m args below meth c H1 locs1 cells slots Q (F0 m (pc + 3) ls (.int r :: rest))) : W p l e R s m args below meth c H locs cells slots Q (F0 m pc ls (.ref o :: rest)) :=
  g_callG (W.runV (As := []) (rest := rest) hf hM (cwV 0 hf.2.2.2.2 (lw_V hq q1704 q1705 q92 q1706) rfl rfl rfl (by decide +kernel) hR) ⟨fun a U g mk q => ⟨q.1, q.2.1, va_K.moved (u := U) (U := U.calling g mk a) (Vm.Alike.refl U.vm) q.2.2⟩, OA.recv hK hO rfl, fun U hU hW => ⟨rfl, by rw [hU]; exact hO, va_K.moved hW.alike hK⟩⟩ rfl rfl hs rfl (lv_room hr) hd hcs) hS (fun H1 locs1 hP hS _ _ => kk H1 locs1 hP hS)
theorem metX2_redo (l : Launch) (D : va_G) (aC : Nat → ClassId) (o : Nat) (ad : Nat → Nat) (A : Nat → Prop) (hD : OD A 44 kdM o ad)  (z : GS) (r : Int32) (zq : GS) (h : FX2_redo z = some (r, zq)) : Met l yX2_redo (ws_ yX2_redo cX2_redo 1 (some .int)) ({ frames := 0, cells := 0, slots := 0, locals := 0 }) (va_Pc [.ref o] (PM D aC o ad z)) (QG (some (.int r)) (OM D aC o ad zq) A) 0 0 A := by
  refine g_ofW (cc := cX2_redo) (maxL := 1) (ret := (some .int)) (own := RX2) (by decide) rfl rfl [.ref o] (PM D aC o ad z) (Nat.le_of_ble_eq_true rfl) ?_
  intro p e s m below meth c ls hx hb hr hml hts hown hlocks hnm hPre hl
  obtain ⟨hO, hK⟩ := hPre
  have hf : CallFix p m c cX2_redo 1 s _ lw_all RX2 := ⟨hx, hb, hml, hown, hts⟩
  have hl : lv_has ls 1 [(0, .ref o)] := hl
  refine g_open (A := A) (OM D aC o ad z) hO (fun H locs hO hS => ?_)
  unfold FX2_redo at h
  refine lv_aload_n hx hb dX2_redo_0 rfl (lv_at hl 0 rfl) ?_
  refine X2_getF hx hb hts hown hK hO 6 (by decide) rfl (hts _ q1543) dX2_redo_1 ?_
  refine lv_aload_n hx hb dX2_redo_4 rfl (lv_at hl 0 rfl) ?_
  refine X2_getF hx hb hts hown hK hO 7 (by decide) rfl (hts _ q1544) dX2_redo_5 ?_
  refine lv_icmp_ne (tgt := 14) hx hb dX2_redo_8 (by decide) (fun c1 => ?_) (fun c1 => ?_)
  · have h := it_f c1 h
    refine lv_aload_n hx hb dX2_redo_14 rfl (lv_at hl 0 rfl) ?_
    refine X2_getA hx hb hts hown hK hO 0 (by decide) rfl (hts _ q1537) dX2_redo_15 ?_
    refine lv_aload_n hx hb dX2_redo_18 rfl (lv_at hl 0 rfl) ?_
    refine X2_getA hx hb hts hown hK hO 3 (by decide) rfl (hts _ q1540) dX2_redo_19 ?_
    refine lv_aload_n hx hb dX2_redo_22 rfl (lv_at hl 0 rfl) ?_
    refine X2_getF hx hb hts hown hK hO 6 (by decide) rfl (hts _ q1543) dX2_redo_23 ?_
    obtain ⟨g2, h⟩ := grd h
    refine X2_iaload hx hb hK hO 3 (by decide) rfl rfl g2 dX2_redo_26 ?_
    refine lv_aload_n hx hb dX2_redo_27 rfl (lv_at hl 0 rfl) ?_
    refine X2_getA hx hb hts hown hK hO 5 (by decide) rfl (hts _ q1542) dX2_redo_28 ?_
    refine lv_aload_n hx hb dX2_redo_31 rfl (lv_at hl 0 rfl) ?_
    refine X2_getF hx hb hts hown hK hO 6 (by decide) rfl (hts _ q1543) dX2_redo_32 ?_
    obtain ⟨g3, h⟩ := grd h
    refine X2_iaload hx hb hK hO 5 (by decide) rfl rfl g3 dX2_redo_35 ?_
    obtain ⟨g4, h⟩ := grd h
    refine X2_iastore hx hb hK hO hD hS 0 (by decide) rfl rfl g4 dX2_redo_36 (fun H locs z5 ez5 hO hS => ?_)
    have h := pin_to ez5 h
    refine lv_aload_n hx hb dX2_redo_37 rfl (lv_at hl 0 rfl) ?_
    refine lv_dup hx hb dX2_redo_38 rfl ?_
    refine X2_getF hx hb hts hown hK hO 6 (by decide) rfl (hts _ q1543) dX2_redo_39 ?_
    refine lv_iconst (v := 1) hx hb dX2_redo_42 (by decide) ?_
    refine lv_iadd hx hb dX2_redo_43 ?_
    refine X2_putF hx hb hts hown hK hO hD hS 6 (by decide) rfl (hts _ q1543) rfl (ty := .int) rfl rfl rfl dX2_redo_44 (fun H locs z6 ez6 hO hS => ?_)
    have h := pin_to ez6 h
    refine lv_aload_n hx hb dX2_redo_47 rfl (lv_at hl 0 rfl) ?_
    refine X2_getF hx hb hts hown hK hO 7 (by decide) rfl (hts _ q1544) dX2_redo_48 ?_
    refine lv_aload_n hx hb dX2_redo_51 rfl (lv_at hl 0 rfl) ?_
    refine X2_getF hx hb hts hown hK hO 6 (by decide) rfl (hts _ q1543) dX2_redo_52 ?_
    refine lv_isub hx hb dX2_redo_55 ?_
    obtain ⟨e8, rfl⟩ := Prod.mk.inj (Option.some.inj h)
    exact g_retG hx hb hr hlocks e8 hO hS dX2_redo_56
  · have h := it_t c1 h
    refine lv_bipush (v := (-5)) hx hb dX2_redo_11 (by decide) ?_
    obtain ⟨e8, rfl⟩ := Prod.mk.inj (Option.some.inj h)
    exact g_retG hx hb hr hlocks e8 hO hS dX2_redo_13
theorem clX2_redo {p : Program} {l : Launch} {e : Env} {R : Room} {s : State} {m : MethodId} {args : Array Value} {below : List Frame} {meth : Method} {c : Code} {H : Heap} {locs : List Loc} {cells slots : Nat} {Q : State → Prop} {cc : ByteArray} {pc nL idx fr lo : Nat} {ls : Array Slot} {rest : List Value} {own : String} {D : va_G} {aC : Nat → ClassId} {o : Nat} {ad : Nat → Nat} {z : GS} {zq : GS} {A : Nat → Prop}  {r : Int32} (hf : CallFix p m c cc nL s args lw_all own) (hK : va_K D vwCl (tysG aC) s) (hO : OM D aC o ad z H) (hS : va_S A s.heap H locs) (hM : Met l yX2_redo (ws_ yX2_redo cX2_redo 1 (some .int)) ({ frames := fr, cells := 0, slots := 0, locals := lo }) (va_Pc [.ref o] (PM D aC o ad z)) (QG (some (.int r)) (OM D aC o ad zq) A) 0 0 A) (hq : Cond.methodLink own idx yX2_redo ∈ lw_all) (hs : ls.size = nL) (hr : (rest.map fun v => v.category).sum ≤ 8) (hR : fr + 1 ≤ R.frames ∧ 8 + (1 + 11) + lo ≤ R.locals) (hcs : cells + 0 ≤ R.cells ∧ slots + 0 ≤ R.slots) (hd : decode cc pc = .ok (.invokevirtual idx, 3)) (kk : ∀ (H1 : Heap) (locs1 : List Loc), OM D aC o ad zq H1 → va_S A s.heap H1 locs1 → W p l e R s m args below meth c H1 locs1 cells slots Q (F0 m (pc + 3) ls (.int r :: rest))) : W p l e R s m args below meth c H locs cells slots Q (F0 m pc ls (.ref o :: rest)) :=
  g_callG (W.runV (As := []) (rest := rest) hf hM (cwV 0 hf.2.2.2.2 (lw_V hq q1708 q1709 q92 q1710) rfl rfl rfl (by decide +kernel) hR) ⟨fun a U g mk q => ⟨q.1, q.2.1, va_K.moved (u := U) (U := U.calling g mk a) (Vm.Alike.refl U.vm) q.2.2⟩, OA.recv hK hO rfl, fun U hU hW => ⟨rfl, by rw [hU]; exact hO, va_K.moved hW.alike hK⟩⟩ rfl rfl hs rfl (lv_room hr) hd hcs) hS (fun H1 locs1 hP hS _ _ => kk H1 locs1 hP hS)
theorem metX2_feed (l : Launch) (D : va_G) (aC : Nat → ClassId) (o : Nat) (ad : Nat → Nat) (A : Nat → Prop) (hD : OD A 44 kdM o ad) (x1 : Int32) (z : GS) (r : Int32) (zq : GS) (h : FX2_feed x1 z = some (r, zq)) : Met l yX2_feed (ws_ yX2_feed cX2_feed 2 (some .int)) ({ frames := 1, cells := 0, slots := 0, locals := 22 }) (va_Pc [.ref o, .int x1] (PM D aC o ad z)) (QG (some (.int r)) (OM D aC o ad zq) A) 0 0 A := by
  refine g_ofW (cc := cX2_feed) (maxL := 2) (ret := (some .int)) (own := RX2) (by decide) rfl rfl [.ref o, .int x1] (PM D aC o ad z) (Nat.le_of_ble_eq_true rfl) ?_
  intro p e s m below meth c ls hx hb hr hml hts hown hlocks hnm hPre hl
  obtain ⟨hO, hK⟩ := hPre
  have hf : CallFix p m c cX2_feed 2 s _ lw_all RX2 := ⟨hx, hb, hml, hown, hts⟩
  have hl : lv_has ls 2 [(0, .ref o), (1, .int x1)] := hl
  refine g_open (A := A) (OM D aC o ad z) hO (fun H locs hO hS => ?_)
  unfold FX2_feed at h
  refine lv_iload_n hx hb dX2_feed_0 rfl (lv_at hl 1 rfl) ?_
  refine lv_iconst (v := 0) hx hb dX2_feed_1 (by decide) ?_
  refine lv_sipush (v := 255) hx hb dX2_feed_2 (by decide) ?_
  refine clX2_isIn hf (metX2_isIn l x1 0 255 _ rfl) q1675 hl.1 (Nat.le_of_ble_eq_true rfl) ⟨Nat.le_of_ble_eq_true rfl, Nat.le_of_ble_eq_true rfl⟩ ⟨Nat.le_of_ble_eq_true rfl, Nat.le_of_ble_eq_true rfl⟩ dX2_feed_5 ?_
  refine lv_if_ne (tgt := 13) hx hb dX2_feed_8 (by decide) (fun c1 => ?_) (fun c1 => ?_)
  · have h := it_f c1 h
    refine lv_aload_n hx hb dX2_feed_13 rfl (lv_at hl 0 rfl) ?_
    refine X2_getF hx hb hts hown hK hO 9 (by decide) rfl (hts _ q1546) dX2_feed_14 ?_
    refine lv_bipush (v := 120) hx hb dX2_feed_17 (by decide) ?_
    refine lv_icmp_ne (tgt := 25) hx hb dX2_feed_19 (by decide) (fun c2 => ?_) (fun c2 => ?_)
    · have h := it_f c2 h
      refine lv_aload_n hx hb dX2_feed_25 rfl (lv_at hl 0 rfl) ?_
      refine X2_getA hx hb hts hown hK hO 8 (by decide) rfl (hts _ q1545) dX2_feed_26 ?_
      refine lv_aload_n hx hb dX2_feed_29 rfl (lv_at hl 0 rfl) ?_
      refine X2_getF hx hb hts hown hK hO 9 (by decide) rfl (hts _ q1546) dX2_feed_30 ?_
      refine lv_iload_n hx hb dX2_feed_33 rfl (lv_at hl 1 rfl) ?_
      obtain ⟨g3, h⟩ := grd h
      refine X2_iastore hx hb hK hO hD hS 8 (by decide) rfl rfl g3 dX2_feed_34 (fun H locs z4 ez4 hO hS => ?_)
      have h := pin_to ez4 h
      refine lv_aload_n hx hb dX2_feed_35 rfl (lv_at hl 0 rfl) ?_
      refine lv_dup hx hb dX2_feed_36 rfl ?_
      refine X2_getF hx hb hts hown hK hO 9 (by decide) rfl (hts _ q1546) dX2_feed_37 ?_
      refine lv_iconst (v := 1) hx hb dX2_feed_40 (by decide) ?_
      refine lv_iadd hx hb dX2_feed_41 ?_
      refine X2_putF hx hb hts hown hK hO hD hS 9 (by decide) rfl (hts _ q1546) rfl (ty := .int) rfl rfl rfl dX2_feed_42 (fun H locs z5 ez5 hO hS => ?_)
      have h := pin_to ez5 h
      refine lv_aload_n hx hb dX2_feed_45 rfl (lv_at hl 0 rfl) ?_
      refine X2_getF hx hb hts hown hK hO 9 (by decide) rfl (hts _ q1546) dX2_feed_46 ?_
      obtain ⟨e8, rfl⟩ := Prod.mk.inj (Option.some.inj h)
      exact g_retG hx hb hr hlocks e8 hO hS dX2_feed_49
    · have h := it_t c2 h
      refine lv_bipush (v := (-3)) hx hb dX2_feed_22 (by decide) ?_
      obtain ⟨e8, rfl⟩ := Prod.mk.inj (Option.some.inj h)
      exact g_retG hx hb hr hlocks e8 hO hS dX2_feed_24
  · have h := it_t c1 h
    refine lv_iconst (v := (-1)) hx hb dX2_feed_11 (by decide) ?_
    obtain ⟨e8, rfl⟩ := Prod.mk.inj (Option.some.inj h)
    exact g_retG hx hb hr hlocks e8 hO hS dX2_feed_12
theorem clX2_feed {p : Program} {l : Launch} {e : Env} {R : Room} {s : State} {m : MethodId} {args : Array Value} {below : List Frame} {meth : Method} {c : Code} {H : Heap} {locs : List Loc} {cells slots : Nat} {Q : State → Prop} {cc : ByteArray} {pc nL idx fr lo : Nat} {ls : Array Slot} {rest : List Value} {own : String} {D : va_G} {aC : Nat → ClassId} {o : Nat} {ad : Nat → Nat} {z : GS} {zq : GS} {A : Nat → Prop} {x1 : Int32} {r : Int32} (hf : CallFix p m c cc nL s args lw_all own) (hK : va_K D vwCl (tysG aC) s) (hO : OM D aC o ad z H) (hS : va_S A s.heap H locs) (hM : Met l yX2_feed (ws_ yX2_feed cX2_feed 2 (some .int)) ({ frames := fr, cells := 0, slots := 0, locals := lo }) (va_Pc [.ref o, .int x1] (PM D aC o ad z)) (QG (some (.int r)) (OM D aC o ad zq) A) 0 0 A) (hq : Cond.methodLink own idx yX2_feed ∈ lw_all) (hs : ls.size = nL) (hr : (rest.map fun v => v.category).sum ≤ 8) (hR : fr + 1 ≤ R.frames ∧ 8 + (2 + 11) + lo ≤ R.locals) (hcs : cells + 0 ≤ R.cells ∧ slots + 0 ≤ R.slots) (hd : decode cc pc = .ok (.invokevirtual idx, 3)) (kk : ∀ (H1 : Heap) (locs1 : List Loc), OM D aC o ad zq H1 → va_S A s.heap H1 locs1 → W p l e R s m args below meth c H1 locs1 cells slots Q (F0 m (pc + 3) ls (.int r :: rest))) : W p l e R s m args below meth c H locs cells slots Q (F0 m pc ls (.int x1 :: .ref o :: rest)) :=
  g_callG (W.runV (As := [.int x1]) (rest := rest) hf hM (cwV 1 hf.2.2.2.2 (lw_V hq q1712 q1713 q92 q1714) rfl rfl rfl (by decide +kernel) hR) ⟨fun a U g mk q => ⟨q.1, q.2.1, va_K.moved (u := U) (U := U.calling g mk a) (Vm.Alike.refl U.vm) q.2.2⟩, OA.recv hK hO rfl, fun U hU hW => ⟨rfl, by rw [hU]; exact hO, va_K.moved hW.alike hK⟩⟩ rfl rfl hs rfl (lv_room hr) hd hcs) hS (fun H1 locs1 hP hS _ _ => kk H1 locs1 hP hS)
theorem metX2_isAt (l : Launch) (D : va_G) (aC : Nat → ClassId) (o : Nat) (ad : Nat → Nat) (x1 : Int32) (z : GS) (r : Int32) (h : FX2_isAt x1 z = some r) : Met l yX2_isAt (ws_ yX2_isAt cX2_isAt 2 (some .boolean)) ({ frames := 0, cells := 0, slots := 0, locals := 0 }) (va_Pc [.ref o, .int x1] (PM D aC o ad z)) (QR (some (.int r))) 0 0 (fun _ => False) := by
  refine g_ofW (cc := cX2_isAt) (maxL := 2) (ret := (some .boolean)) (own := RX2) (by decide) rfl rfl [.ref o, .int x1] (PM D aC o ad z) (Nat.le_of_ble_eq_true rfl) ?_
  intro p e s m below meth c ls hx hb hr hml hts hown hlocks hnm hPre hl
  obtain ⟨hO, hK⟩ := hPre
  have hf : CallFix p m c cX2_isAt 2 s _ lw_all RX2 := ⟨hx, hb, hml, hown, hts⟩
  have hl : lv_has ls 2 [(0, .ref o), (1, .int x1)] := hl
  unfold FX2_isAt at h
  refine lv_aload_n hx hb dX2_isAt_0 rfl (lv_at hl 0 rfl) ?_
  refine X2_getF hx hb hts hown hK hO 16 (by decide) rfl (hts _ q1553) dX2_isAt_1 ?_
  refine lv_if_eq (tgt := 35) hx hb dX2_isAt_4 (by decide) (fun c1 => ?_) (fun c1 => ?_)
  · have h := it_t c1 h
    refine lv_iconst (v := 0) hx hb dX2_isAt_35 (by decide) ?_
    exact g_retRz hx hb hr hlocks (Or.inl rfl) (Option.some.inj h) dX2_isAt_36
  · have h := it_f c1 h
    refine lv_aload_n hx hb dX2_isAt_7 rfl (lv_at hl 0 rfl) ?_
    refine X2_getF hx hb hts hown hK hO 15 (by decide) rfl (hts _ q1552) dX2_isAt_8 ?_
    refine lv_aload_n hx hb dX2_isAt_11 rfl (lv_at hl 0 rfl) ?_
    refine X2_getF hx hb hts hown hK hO 14 (by decide) rfl (hts _ q1551) dX2_isAt_12 ?_
    refine lv_icmp_ge (tgt := 35) hx hb dX2_isAt_15 (by decide) (fun c2 => ?_) (fun c2 => ?_)
    · have h := it_t c2 h
      refine lv_iconst (v := 0) hx hb dX2_isAt_35 (by decide) ?_
      exact g_retRz hx hb hr hlocks (Or.inl rfl) (Option.some.inj h) dX2_isAt_36
    · have h := it_f c2 h
      refine lv_aload_n hx hb dX2_isAt_18 rfl (lv_at hl 0 rfl) ?_
      refine X2_getA hx hb hts hown hK hO 13 (by decide) rfl (hts _ q1550) dX2_isAt_19 ?_
      refine lv_aload_n hx hb dX2_isAt_22 rfl (lv_at hl 0 rfl) ?_
      refine X2_getF hx hb hts hown hK hO 15 (by decide) rfl (hts _ q1552) dX2_isAt_23 ?_
      obtain ⟨g3, h⟩ := grd h
      refine X2_iaload hx hb hK hO 13 (by decide) rfl rfl g3 dX2_isAt_26 ?_
      refine lv_iload_n hx hb dX2_isAt_27 rfl (lv_at hl 1 rfl) ?_
      refine lv_icmp_ne (tgt := 35) hx hb dX2_isAt_28 (by decide) (fun c4 => ?_) (fun c4 => ?_)
      · have h := it_f c4 h
        refine lv_iconst (v := 0) hx hb dX2_isAt_35 (by decide) ?_
        exact g_retRz hx hb hr hlocks (Or.inl rfl) (Option.some.inj h) dX2_isAt_36
      · have h := it_t c4 h
        refine lv_iconst (v := 1) hx hb dX2_isAt_31 (by decide) ?_
        refine lv_goto (tgt := 36) hx hb dX2_isAt_32 (by decide) ?_
        exact g_retRz hx hb hr hlocks (Or.inr rfl) (Option.some.inj h) dX2_isAt_36
theorem clX2_isAt {p : Program} {l : Launch} {e : Env} {R : Room} {s : State} {m : MethodId} {args : Array Value} {below : List Frame} {meth : Method} {c : Code} {H : Heap} {locs : List Loc} {cells slots : Nat} {Q : State → Prop} {cc : ByteArray} {pc nL idx fr lo : Nat} {ls : Array Slot} {rest : List Value} {own : String} {D : va_G} {aC : Nat → ClassId} {o : Nat} {ad : Nat → Nat} {z : GS} {x1 : Int32} {r : Int32} (hf : CallFix p m c cc nL s args lw_all own) (hK : va_K D vwCl (tysG aC) s) (hO : OM D aC o ad z H) (hM : Met l yX2_isAt (ws_ yX2_isAt cX2_isAt 2 (some .boolean)) ({ frames := fr, cells := 0, slots := 0, locals := lo }) (va_Pc [.ref o, .int x1] (PM D aC o ad z)) (QR (some (.int r))) 0 0 (fun _ => False)) (hq : Cond.methodLink own idx yX2_isAt ∈ lw_all) (hs : ls.size = nL) (hr : (rest.map fun v => v.category).sum ≤ 8) (hR : fr + 1 ≤ R.frames ∧ 8 + (2 + 11) + lo ≤ R.locals) (hcs : cells + 0 ≤ R.cells ∧ slots + 0 ≤ R.slots) (hd : decode cc pc = .ok (.invokevirtual idx, 3)) (kk : W p l e R s m args below meth c H locs cells slots Q (F0 m (pc + 3) ls (.int r :: rest))) : W p l e R s m args below meth c H locs cells slots Q (F0 m pc ls (.int x1 :: .ref o :: rest)) :=
  g_callR (W.runV (As := [.int x1]) (rest := rest) hf hM (cwV 1 hf.2.2.2.2 (lw_V hq q1757 qs63 q92 q1758) rfl rfl rfl (by decide +kernel) hR) ⟨fun a U g mk q => ⟨q.1, q.2.1, va_K.moved (u := U) (U := U.calling g mk a) (Vm.Alike.refl U.vm) q.2.2⟩, OA.recv hK hO rfl, fun U hU hW => ⟨rfl, by rw [hU]; exact hO, va_K.moved hW.alike hK⟩⟩ rfl rfl hs rfl (lv_room hr) hd hcs) kk
theorem metX2_isDigit (l : Launch) (D : va_G) (aC : Nat → ClassId) (o : Nat) (ad : Nat → Nat)  (z : GS) (r : Int32) (h : FX2_isDigit z = some r) : Met l yX2_isDigit (ws_ yX2_isDigit cX2_isDigit 1 (some .boolean)) ({ frames := 1, cells := 0, slots := 0, locals := 22 }) (va_Pc [.ref o] (PM D aC o ad z)) (QR (some (.int r))) 0 0 (fun _ => False) := by
  refine g_ofW (cc := cX2_isDigit) (maxL := 1) (ret := (some .boolean)) (own := RX2) (by decide) rfl rfl [.ref o] (PM D aC o ad z) (Nat.le_of_ble_eq_true rfl) ?_
  intro p e s m below meth c ls hx hb hr hml hts hown hlocks hnm hPre hl
  obtain ⟨hO, hK⟩ := hPre
  have hf : CallFix p m c cX2_isDigit 1 s _ lw_all RX2 := ⟨hx, hb, hml, hown, hts⟩
  have hl : lv_has ls 1 [(0, .ref o)] := hl
  unfold FX2_isDigit at h
  refine lv_aload_n hx hb dX2_isDigit_0 rfl (lv_at hl 0 rfl) ?_
  refine X2_getF hx hb hts hown hK hO 16 (by decide) rfl (hts _ q1553) dX2_isDigit_1 ?_
  refine lv_if_eq (tgt := 41) hx hb dX2_isDigit_4 (by decide) (fun c1 => ?_) (fun c1 => ?_)
  · have h := it_t c1 h
    refine lv_iconst (v := 0) hx hb dX2_isDigit_41 (by decide) ?_
    exact g_retRz hx hb hr hlocks (Or.inl rfl) (Option.some.inj h) dX2_isDigit_42
  · have h := it_f c1 h
    refine lv_aload_n hx hb dX2_isDigit_7 rfl (lv_at hl 0 rfl) ?_
    refine X2_getF hx hb hts hown hK hO 15 (by decide) rfl (hts _ q1552) dX2_isDigit_8 ?_
    refine lv_aload_n hx hb dX2_isDigit_11 rfl (lv_at hl 0 rfl) ?_
    refine X2_getF hx hb hts hown hK hO 14 (by decide) rfl (hts _ q1551) dX2_isDigit_12 ?_
    refine lv_icmp_ge (tgt := 41) hx hb dX2_isDigit_15 (by decide) (fun c2 => ?_) (fun c2 => ?_)
    · have h := it_t c2 h
      refine lv_iconst (v := 0) hx hb dX2_isDigit_41 (by decide) ?_
      exact g_retRz hx hb hr hlocks (Or.inl rfl) (Option.some.inj h) dX2_isDigit_42
    · have h := it_f c2 h
      refine lv_aload_n hx hb dX2_isDigit_18 rfl (lv_at hl 0 rfl) ?_
      refine X2_getA hx hb hts hown hK hO 13 (by decide) rfl (hts _ q1550) dX2_isDigit_19 ?_
      refine lv_aload_n hx hb dX2_isDigit_22 rfl (lv_at hl 0 rfl) ?_
      refine X2_getF hx hb hts hown hK hO 15 (by decide) rfl (hts _ q1552) dX2_isDigit_23 ?_
      obtain ⟨g3, h⟩ := grd h
      refine X2_iaload hx hb hK hO 13 (by decide) rfl rfl g3 dX2_isDigit_26 ?_
      refine lv_bipush (v := 48) hx hb dX2_isDigit_27 (by decide) ?_
      refine lv_bipush (v := 57) hx hb dX2_isDigit_29 (by decide) ?_
      refine clX2_isIn hf (metX2_isIn l (gI z 13 (gF z 15)) 48 57 _ rfl) q1675 hl.1 (Nat.le_of_ble_eq_true rfl) ⟨Nat.le_of_ble_eq_true rfl, Nat.le_of_ble_eq_true rfl⟩ ⟨Nat.le_of_ble_eq_true rfl, Nat.le_of_ble_eq_true rfl⟩ dX2_isDigit_31 ?_
      refine lv_if_eq (tgt := 41) hx hb dX2_isDigit_34 (by decide) (fun c4 => ?_) (fun c4 => ?_)
      · have h := it_t c4 h
        refine lv_iconst (v := 0) hx hb dX2_isDigit_41 (by decide) ?_
        exact g_retRz hx hb hr hlocks (Or.inl rfl) (Option.some.inj h) dX2_isDigit_42
      · have h := it_f c4 h
        refine lv_iconst (v := 1) hx hb dX2_isDigit_37 (by decide) ?_
        refine lv_goto (tgt := 42) hx hb dX2_isDigit_38 (by decide) ?_
        exact g_retRz hx hb hr hlocks (Or.inr rfl) (Option.some.inj h) dX2_isDigit_42
theorem clX2_isDigit {p : Program} {l : Launch} {e : Env} {R : Room} {s : State} {m : MethodId} {args : Array Value} {below : List Frame} {meth : Method} {c : Code} {H : Heap} {locs : List Loc} {cells slots : Nat} {Q : State → Prop} {cc : ByteArray} {pc nL idx fr lo : Nat} {ls : Array Slot} {rest : List Value} {own : String} {D : va_G} {aC : Nat → ClassId} {o : Nat} {ad : Nat → Nat} {z : GS}  {r : Int32} (hf : CallFix p m c cc nL s args lw_all own) (hK : va_K D vwCl (tysG aC) s) (hO : OM D aC o ad z H) (hM : Met l yX2_isDigit (ws_ yX2_isDigit cX2_isDigit 1 (some .boolean)) ({ frames := fr, cells := 0, slots := 0, locals := lo }) (va_Pc [.ref o] (PM D aC o ad z)) (QR (some (.int r))) 0 0 (fun _ => False)) (hq : Cond.methodLink own idx yX2_isDigit ∈ lw_all) (hs : ls.size = nL) (hr : (rest.map fun v => v.category).sum ≤ 8) (hR : fr + 1 ≤ R.frames ∧ 8 + (1 + 11) + lo ≤ R.locals) (hcs : cells + 0 ≤ R.cells ∧ slots + 0 ≤ R.slots) (hd : decode cc pc = .ok (.invokevirtual idx, 3)) (kk : W p l e R s m args below meth c H locs cells slots Q (F0 m (pc + 3) ls (.int r :: rest))) : W p l e R s m args below meth c H locs cells slots Q (F0 m pc ls (.ref o :: rest)) :=
  g_callR (W.runV (As := []) (rest := rest) hf hM (cwV 0 hf.2.2.2.2 (lw_V hq q1749 qs61 q92 q1750) rfl rfl rfl (by decide +kernel) hR) ⟨fun a U g mk q => ⟨q.1, q.2.1, va_K.moved (u := U) (U := U.calling g mk a) (Vm.Alike.refl U.vm) q.2.2⟩, OA.recv hK hO rfl, fun U hU hW => ⟨rfl, by rw [hU]; exact hO, va_K.moved hW.alike hK⟩⟩ rfl rfl hs rfl (lv_room hr) hd hcs) kk
theorem metX2_number (l : Launch) (D : va_G) (aC : Nat → ClassId) (o : Nat) (ad : Nat → Nat) (A : Nat → Prop) (hD : OD A 44 kdM o ad)  (z : GS) (r : Int32) (zq : GS) (h : FX2_number z = some (r, zq)) : Met l yX2_number (ws_ yX2_number cX2_number 3 (some .int)) ({ frames := 2, cells := 0, slots := 0, locals := 42 }) (va_Pc [.ref o] (PM D aC o ad z)) (QG (some (.int r)) (OM D aC o ad zq) A) 0 0 A := by
  refine g_ofW (cc := cX2_number) (maxL := 3) (ret := (some .int)) (own := RX2) (by decide) rfl rfl [.ref o] (PM D aC o ad z) (Nat.le_of_ble_eq_true rfl) ?_
  intro p e s m below meth c ls hx hb hr hml hts hown hlocks hnm hPre hl
  obtain ⟨hO, hK⟩ := hPre
  have hf : CallFix p m c cX2_number 3 s _ lw_all RX2 := ⟨hx, hb, hml, hown, hts⟩
  have hl : lv_has ls 3 [(0, .ref o)] := hl
  refine g_open (A := A) (OM D aC o ad z) hO (fun H locs hO hS => ?_)
  unfold FX2_number at h
  refine lv_iconst (v := 0) hx hb dX2_number_0 (by decide) ?_
  refine lv_istore_n (lv' := [(1, .int 0), (0, .ref o)]) hx hb dX2_number_1 rfl hl (by decide) rfl (fun ls hl => ?_)
  refine lv_iconst (v := 0) hx hb dX2_number_2 (by decide) ?_
  refine lv_istore_n (lv' := [(2, .int 0), (1, .int 0), (0, .ref o)]) hx hb dX2_number_3 rfl hl (by decide) rfl (fun ls hl => ?_)
  have key9 : ∀ (f : Nat) (v1 : Int32) (v2 : Int32) (z : GS) (H : Heap) (locs : List Loc) (ls : Array Slot), FX2_number_L4 f v1 v2 z = some (r, zq) → OM D aC o ad z H → va_S A s.heap H locs → lv_has ls 3 [(0, .ref o), (1, .int v1), (2, .int v2)] → W p l e ({ frames := 2, cells := 0, slots := 0, locals := 42 }) s m ([.ref o] : List Value).toArray below meth c H locs 0 0 (MQ below (QG (some (.int r)) (OM D aC o ad zq) A) ([.ref o] : List Value).toArray s 0 0 A) (F0 m 4 ls []) := by
    intro f
    induction f with
    | zero =>
      intro v1 v2 z H locs ls h
      rw [FX2_number_L4] at h
      cases h
    | succ f ih1 =>
      intro v1 v2 z H locs ls h hO hS hl
      rw [FX2_number_L4] at h
      refine lv_iload_n hx hb dX2_number_4 rfl (lv_at hl 2 rfl) ?_
      refine lv_iconst (v := 4) hx hb dX2_number_5 (by decide) ?_
      refine lv_icmp_ge (tgt := 50) hx hb dX2_number_6 (by decide) (fun c2 => ?_) (fun c2 => ?_)
      · have h := it_t c2 h
        refine lv_iload_n hx hb dX2_number_50 rfl (lv_at hl 1 rfl) ?_
        obtain ⟨e8, rfl⟩ := Prod.mk.inj (Option.some.inj h)
        exact g_retG hx hb hr hlocks e8 hO hS dX2_number_51
      · have h := it_f c2 h
        refine lv_aload_n hx hb dX2_number_9 rfl (lv_at hl 0 rfl) ?_
        obtain ⟨r3, e4, h⟩ := bn1_e h
        refine clX2_isDigit hf hK hO (metX2_isDigit l D aC o ad z r3 e4) q1747 hl.1 (Nat.le_of_ble_eq_true rfl) ⟨Nat.le_of_ble_eq_true rfl, Nat.le_of_ble_eq_true rfl⟩ ⟨Nat.le_of_ble_eq_true rfl, Nat.le_of_ble_eq_true rfl⟩ dX2_number_10 ?_
        refine lv_if_eq (tgt := 50) hx hb dX2_number_13 (by decide) (fun c5 => ?_) (fun c5 => ?_)
        · have h := it_t c5 h
          refine lv_iload_n hx hb dX2_number_50 rfl (lv_at hl 1 rfl) ?_
          obtain ⟨e8, rfl⟩ := Prod.mk.inj (Option.some.inj h)
          exact g_retG hx hb hr hlocks e8 hO hS dX2_number_51
        · have h := it_f c5 h
          refine lv_bipush (v := 10) hx hb dX2_number_16 (by decide) ?_
          refine lv_iload_n hx hb dX2_number_18 rfl (lv_at hl 1 rfl) ?_
          refine lv_imul hx hb dX2_number_19 ?_
          refine lv_aload_n hx hb dX2_number_20 rfl (lv_at hl 0 rfl) ?_
          refine X2_getA hx hb hts hown hK hO 13 (by decide) rfl (hts _ q1550) dX2_number_21 ?_
          refine lv_aload_n hx hb dX2_number_24 rfl (lv_at hl 0 rfl) ?_
          refine X2_getF hx hb hts hown hK hO 15 (by decide) rfl (hts _ q1552) dX2_number_25 ?_
          obtain ⟨g6, h⟩ := grd h
          refine X2_iaload hx hb hK hO 13 (by decide) rfl rfl g6 dX2_number_28 ?_
          refine lv_iadd hx hb dX2_number_29 ?_
          refine lv_bipush (v := 48) hx hb dX2_number_30 (by decide) ?_
          refine lv_isub hx hb dX2_number_32 ?_
          refine lv_topi (fun y7 ey7 => ?_)
          have h := pin_to ey7 h
          refine lv_istore_n (lv' := [(1, .int y7), (0, .ref o), (2, .int v2)]) hx hb dX2_number_33 rfl hl (by decide) rfl (fun ls hl => ?_)
          refine lv_aload_n hx hb dX2_number_34 rfl (lv_at hl 1 rfl) ?_
          refine lv_dup hx hb dX2_number_35 rfl ?_
          refine X2_getF hx hb hts hown hK hO 15 (by decide) rfl (hts _ q1552) dX2_number_36 ?_
          refine lv_iconst (v := 1) hx hb dX2_number_39 (by decide) ?_
          refine lv_iadd hx hb dX2_number_40 ?_
          refine X2_putF hx hb hts hown hK hO hD hS 15 (by decide) rfl (hts _ q1552) rfl (ty := .int) rfl rfl rfl dX2_number_41 (fun H locs z8 ez8 hO hS => ?_)
          have h := pin_to ez8 h
          refine lv_iinc (v := (v2 + 1)) (lv' := [(2, .int (v2 + 1)), (1, .int y7), (0, .ref o)]) hx hb dX2_number_44 hl (k := 2) rfl rfl (by decide) rfl (fun ls hl => ?_)
          refine lv_goto (tgt := 4) hx hb dX2_number_47 (by decide) ?_
          exact ih1 _ _ _ _ _ _ h hO hS (lv_sub hl [2, 1, 0] rfl)
  exact key9 FU _ _ _ _ _ _ h hO hS (lv_sub hl [2, 1, 0] rfl)
theorem clX2_number {p : Program} {l : Launch} {e : Env} {R : Room} {s : State} {m : MethodId} {args : Array Value} {below : List Frame} {meth : Method} {c : Code} {H : Heap} {locs : List Loc} {cells slots : Nat} {Q : State → Prop} {cc : ByteArray} {pc nL idx fr lo : Nat} {ls : Array Slot} {rest : List Value} {own : String} {D : va_G} {aC : Nat → ClassId} {o : Nat} {ad : Nat → Nat} {z : GS} {zq : GS} {A : Nat → Prop}  {r : Int32} (hf : CallFix p m c cc nL s args lw_all own) (hK : va_K D vwCl (tysG aC) s) (hO : OM D aC o ad z H) (hS : va_S A s.heap H locs) (hM : Met l yX2_number (ws_ yX2_number cX2_number 3 (some .int)) ({ frames := fr, cells := 0, slots := 0, locals := lo }) (va_Pc [.ref o] (PM D aC o ad z)) (QG (some (.int r)) (OM D aC o ad zq) A) 0 0 A) (hq : Cond.methodLink own idx yX2_number ∈ lw_all) (hs : ls.size = nL) (hr : (rest.map fun v => v.category).sum ≤ 8) (hR : fr + 1 ≤ R.frames ∧ 8 + (3 + 11) + lo ≤ R.locals) (hcs : cells + 0 ≤ R.cells ∧ slots + 0 ≤ R.slots) (hd : decode cc pc = .ok (.invokevirtual idx, 3)) (kk : ∀ (H1 : Heap) (locs1 : List Loc), OM D aC o ad zq H1 → va_S A s.heap H1 locs1 → W p l e R s m args below meth c H1 locs1 cells slots Q (F0 m (pc + 3) ls (.int r :: rest))) : W p l e R s m args below meth c H locs cells slots Q (F0 m pc ls (.ref o :: rest)) :=
  g_callG (W.runV (As := []) (rest := rest) hf hM (cwV 0 hf.2.2.2.2 (lw_V hq q1753 qs62 q92 q1754) rfl rfl rfl (by decide +kernel) hR) ⟨fun a U g mk q => ⟨q.1, q.2.1, va_K.moved (u := U) (U := U.calling g mk a) (Vm.Alike.refl U.vm) q.2.2⟩, OA.recv hK hO rfl, fun U hU hW => ⟨rfl, by rw [hU]; exact hO, va_K.moved hW.alike hK⟩⟩ rfl rfl hs rfl (lv_room hr) hd hcs) hS (fun H1 locs1 hP hS _ _ => kk H1 locs1 hP hS)
theorem metX2_opens (l : Launch) (D : va_G) (aC : Nat → ClassId) (o : Nat) (ad : Nat → Nat) (A : Nat → Prop) (hD : OD A 44 kdM o ad)  (z : GS) (r : Int32) (zq : GS) (h : FX2_opens z = some (r, zq)) : Met l yX2_opens (ws_ yX2_opens cX2_opens 1 (some .boolean)) ({ frames := 0, cells := 0, slots := 0, locals := 0 }) (va_Pc [.ref o] (PM D aC o ad z)) (QG (some (.int r)) (OM D aC o ad zq) A) 0 0 A := by
  refine g_ofW (cc := cX2_opens) (maxL := 1) (ret := (some .boolean)) (own := RX2) (by decide) rfl rfl [.ref o] (PM D aC o ad z) (Nat.le_of_ble_eq_true rfl) ?_
  intro p e s m below meth c ls hx hb hr hml hts hown hlocks hnm hPre hl
  obtain ⟨hO, hK⟩ := hPre
  have hf : CallFix p m c cX2_opens 1 s _ lw_all RX2 := ⟨hx, hb, hml, hown, hts⟩
  have hl : lv_has ls 1 [(0, .ref o)] := hl
  refine g_open (A := A) (OM D aC o ad z) hO (fun H locs hO hS => ?_)
  unfold FX2_opens at h
  refine lv_aload_n hx hb dX2_opens_0 rfl (lv_at hl 0 rfl) ?_
  refine lv_aload_n hx hb dX2_opens_1 rfl (lv_at hl 0 rfl) ?_
  refine X2_getF hx hb hts hown hK hO 17 (by decide) rfl (hts _ q1554) dX2_opens_2 ?_
  refine lv_bipush (v := 6) hx hb dX2_opens_5 (by decide) ?_
  obtain ⟨k2, e10, h⟩ := pin_nm2 h
  have hk2 : ∀ (u1 : Int32) (ls : Array Slot), k2 u1 = some (r, zq) → lv_has ls 1 [(0, .ref o)] → W p l e ({ frames := 0, cells := 0, slots := 0, locals := 0 }) s m ([.ref o] : List Value).toArray below meth c H locs 0 0 (MQ below (QG (some (.int r)) (OM D aC o ad zq) A) ([.ref o] : List Value).toArray s 0 0 A) (F0 m 15 ls [.int u1, .ref o]) := by
    intro u1 ls h hl
    rw [e10] at h
    obtain ⟨g4, h⟩ := grd h
    refine X2_putF hx hb hts hown hK hO hD hS 16 (by decide) rfl (hts _ q1553) rfl (ty := .boolean) rfl (okZ_n g4).1 (okZ_n g4).2 dX2_opens_15 (fun H locs z3 ez3 hO hS => ?_)
    have h := pin_to ez3 h
    refine lv_aload_n hx hb dX2_opens_18 rfl (lv_at hl 0 rfl) ?_
    refine X2_getF hx hb hts hown hK hO 16 (by decide) rfl (hts _ q1553) dX2_opens_19 ?_
    refine lv_if_eq (tgt := 45) hx hb dX2_opens_22 (by decide) (fun c5 => ?_) (fun c5 => ?_)
    · have h := it_t c5 h
      refine lv_aload_n hx hb dX2_opens_45 rfl (lv_at hl 0 rfl) ?_
      refine X2_getF hx hb hts hown hK hO 16 (by decide) rfl (hts _ q1553) dX2_opens_46 ?_
      obtain ⟨g6, h⟩ := grd h
      obtain ⟨e8, rfl⟩ := Prod.mk.inj (Option.some.inj h)
      exact g_retGz hx hb hr hlocks g6 e8 hO hS dX2_opens_49
    · have h := it_f c5 h
      refine lv_aload_n hx hb dX2_opens_25 rfl (lv_at hl 0 rfl) ?_
      refine lv_dup hx hb dX2_opens_26 rfl ?_
      refine X2_getF hx hb hts hown hK hO 17 (by decide) rfl (hts _ q1554) dX2_opens_27 ?_
      refine lv_iconst (v := 1) hx hb dX2_opens_30 (by decide) ?_
      refine lv_iadd hx hb dX2_opens_31 ?_
      refine X2_putF hx hb hts hown hK hO hD hS 17 (by decide) rfl (hts _ q1554) rfl (ty := .int) rfl rfl rfl dX2_opens_32 (fun H locs z7 ez7 hO hS => ?_)
      have h := pin_to ez7 h
      refine lv_aload_n hx hb dX2_opens_35 rfl (lv_at hl 0 rfl) ?_
      refine lv_dup hx hb dX2_opens_36 rfl ?_
      refine X2_getF hx hb hts hown hK hO 15 (by decide) rfl (hts _ q1552) dX2_opens_37 ?_
      refine lv_iconst (v := 1) hx hb dX2_opens_40 (by decide) ?_
      refine lv_iadd hx hb dX2_opens_41 ?_
      refine X2_putF hx hb hts hown hK hO hD hS 15 (by decide) rfl (hts _ q1552) rfl (ty := .int) rfl rfl rfl dX2_opens_42 (fun H locs z8 ez8 hO hS => ?_)
      have h := pin_to ez8 h
      refine lv_aload_n hx hb dX2_opens_45 rfl (lv_at hl 0 rfl) ?_
      refine X2_getF hx hb hts hown hK hO 16 (by decide) rfl (hts _ q1553) dX2_opens_46 ?_
      obtain ⟨g9, h⟩ := grd h
      obtain ⟨e8, rfl⟩ := Prod.mk.inj (Option.some.inj h)
      exact g_retGz hx hb hr hlocks g9 e8 hO hS dX2_opens_49
  refine lv_icmp_ge (tgt := 14) hx hb dX2_opens_7 (by decide) (fun c11 => ?_) (fun c11 => ?_)
  · have h := pt_t (k := k2) c11 h
    refine lv_iconst (v := 0) hx hb dX2_opens_14 (by decide) ?_
    exact hk2 _ _ h (lv_sub hl [0] rfl)
  · have h := pt_f (k := k2) c11 h
    refine lv_iconst (v := 1) hx hb dX2_opens_10 (by decide) ?_
    refine lv_goto (tgt := 15) hx hb dX2_opens_11 (by decide) ?_
    exact hk2 _ _ h (lv_sub hl [0] rfl)
theorem clX2_opens {p : Program} {l : Launch} {e : Env} {R : Room} {s : State} {m : MethodId} {args : Array Value} {below : List Frame} {meth : Method} {c : Code} {H : Heap} {locs : List Loc} {cells slots : Nat} {Q : State → Prop} {cc : ByteArray} {pc nL idx fr lo : Nat} {ls : Array Slot} {rest : List Value} {own : String} {D : va_G} {aC : Nat → ClassId} {o : Nat} {ad : Nat → Nat} {z : GS} {zq : GS} {A : Nat → Prop}  {r : Int32} (hf : CallFix p m c cc nL s args lw_all own) (hK : va_K D vwCl (tysG aC) s) (hO : OM D aC o ad z H) (hS : va_S A s.heap H locs) (hM : Met l yX2_opens (ws_ yX2_opens cX2_opens 1 (some .boolean)) ({ frames := fr, cells := 0, slots := 0, locals := lo }) (va_Pc [.ref o] (PM D aC o ad z)) (QG (some (.int r)) (OM D aC o ad zq) A) 0 0 A) (hq : Cond.methodLink own idx yX2_opens ∈ lw_all) (hs : ls.size = nL) (hr : (rest.map fun v => v.category).sum ≤ 8) (hR : fr + 1 ≤ R.frames ∧ 8 + (1 + 11) + lo ≤ R.locals) (hcs : cells + 0 ≤ R.cells ∧ slots + 0 ≤ R.slots) (hd : decode cc pc = .ok (.invokevirtual idx, 3)) (kk : ∀ (H1 : Heap) (locs1 : List Loc), OM D aC o ad zq H1 → va_S A s.heap H1 locs1 → W p l e R s m args below meth c H1 locs1 cells slots Q (F0 m (pc + 3) ls (.int r :: rest))) : W p l e R s m args below meth c H locs cells slots Q (F0 m pc ls (.ref o :: rest)) :=
  g_callG (W.runV (As := []) (rest := rest) hf hM (cwV 0 hf.2.2.2.2 (lw_V hq q1761 qs64 q92 q1762) rfl rfl rfl (by decide +kernel) hR) ⟨fun a U g mk q => ⟨q.1, q.2.1, va_K.moved (u := U) (U := U.calling g mk a) (Vm.Alike.refl U.vm) q.2.2⟩, OA.recv hK hO rfl, fun U hU hW => ⟨rfl, by rw [hU]; exact hO, va_K.moved hW.alike hK⟩⟩ rfl rfl hs rfl (lv_room hr) hd hcs) hS (fun H1 locs1 hP hS _ _ => kk H1 locs1 hP hS)
theorem clX2_one {p : Program} {l : Launch} {e : Env} {R : Room} {s : State} {m : MethodId} {args : Array Value} {below : List Frame} {meth : Method} {c : Code} {H : Heap} {locs : List Loc} {cells slots : Nat} {Q : State → Prop} {cc : ByteArray} {pc nL idx fr lo : Nat} {ls : Array Slot} {rest : List Value} {own : String} {D : va_G} {aC : Nat → ClassId} {o : Nat} {ad : Nat → Nat} {z : GS} {zq : GS} {A : Nat → Prop}  {r : Int32} (hf : CallFix p m c cc nL s args lw_all own) (hK : va_K D vwCl (tysG aC) s) (hO : OM D aC o ad z H) (hS : va_S A s.heap H locs) (hM : Met l yX2_one (ws_ yX2_one cX2_one 4 (some .int)) ({ frames := fr, cells := 0, slots := 0, locals := lo }) (va_Pc [.ref o] (PM D aC o ad z)) (QG (some (.int r)) (OM D aC o ad zq) A) 0 0 A) (hq : Cond.methodLink own idx yX2_one ∈ lw_all) (hs : ls.size = nL) (hr : (rest.map fun v => v.category).sum ≤ 8) (hR : fr + 1 ≤ R.frames ∧ 8 + (4 + 11) + lo ≤ R.locals) (hcs : cells + 0 ≤ R.cells ∧ slots + 0 ≤ R.slots) (hd : decode cc pc = .ok (.invokevirtual idx, 3)) (kk : ∀ (H1 : Heap) (locs1 : List Loc), OM D aC o ad zq H1 → va_S A s.heap H1 locs1 → W p l e R s m args below meth c H1 locs1 cells slots Q (F0 m (pc + 3) ls (.int r :: rest))) : W p l e R s m args below meth c H locs cells slots Q (F0 m pc ls (.ref o :: rest)) :=
  g_callG (W.runV (As := []) (rest := rest) hf hM (cwV 0 hf.2.2.2.2 (lw_V hq q1745 qs60 q92 q1746) rfl rfl rfl (by decide +kernel) hR) ⟨fun a U g mk q => ⟨q.1, q.2.1, va_K.moved (u := U) (U := U.calling g mk a) (Vm.Alike.refl U.vm) q.2.2⟩, OA.recv hK hO rfl, fun U hU hW => ⟨rfl, by rw [hU]; exact hO, va_K.moved hW.alike hK⟩⟩ rfl rfl hs rfl (lv_room hr) hd hcs) hS (fun H1 locs1 hP hS _ _ => kk H1 locs1 hP hS)
theorem metX2_product (l : Launch) (D : va_G) (aC : Nat → ClassId) (o : Nat) (ad : Nat → Nat) (A : Nat → Prop) (hD : OD A 44 kdM o ad) (n : Nat) (rec : GS → Option (Int32 × GS)) (hrec : ∀  (z : GS) (r : Int32) (zq : GS), rec z = some (r, zq) → Met l yX2_one (ws_ yX2_one cX2_one 4 (some .int)) ({ frames := 6 * n, cells := 0, slots := 0, locals := 137 * n }) (va_Pc [.ref o] (PM D aC o ad z)) (QG (some (.int r)) (OM D aC o ad zq) A) 0 0 A)  (z : GS) (r : Int32) (zq : GS) (h : FX2_product rec z = some (r, zq)) : Met l yX2_product (ws_ yX2_product cX2_product 4 (some .int)) ({ frames := 6 * n + 1, cells := 0, slots := 0, locals := 137 * n + 23 }) (va_Pc [.ref o] (PM D aC o ad z)) (QG (some (.int r)) (OM D aC o ad zq) A) 0 0 A := by
  refine g_ofW (cc := cX2_product) (maxL := 4) (ret := (some .int)) (own := RX2) (by decide) rfl rfl [.ref o] (PM D aC o ad z) (Nat.le_of_ble_eq_true rfl) ?_
  intro p e s m below meth c ls hx hb hr hml hts hown hlocks hnm hPre hl
  obtain ⟨hO, hK⟩ := hPre
  have hf : CallFix p m c cX2_product 4 s _ lw_all RX2 := ⟨hx, hb, hml, hown, hts⟩
  have hl : lv_has ls 4 [(0, .ref o)] := hl
  refine g_open (A := A) (OM D aC o ad z) hO (fun H locs hO hS => ?_)
  unfold FX2_product at h
  refine lv_aload_n hx hb dX2_product_0 rfl (lv_at hl 0 rfl) ?_
  obtain ⟨r1, z2, e3, h⟩ := bnd_e h
  refine clX2_one hf hK hO hS (hrec z r1 z2 e3) q1743 hl.1 (Nat.le_of_ble_eq_true rfl) ⟨by dsimp only; omega, by dsimp only; omega⟩ ⟨Nat.le_of_ble_eq_true rfl, Nat.le_of_ble_eq_true rfl⟩ dX2_product_1 (fun H locs hO hS => ?_)
  refine lv_istore_n (lv' := [(1, .int r1), (0, .ref o)]) hx hb dX2_product_4 rfl hl (by decide) rfl (fun ls hl => ?_)
  have key30 : ∀ (f : Nat) (v1 : Int32) (z : GS) (H : Heap) (locs : List Loc) (ls : Array Slot), FX2_product_L5 rec f v1 z = some (r, zq) → OM D aC o ad z H → va_S A s.heap H locs → lv_has ls 4 [(0, .ref o), (1, .int v1)] → W p l e ({ frames := 6 * n + 1, cells := 0, slots := 0, locals := 137 * n + 23 }) s m ([.ref o] : List Value).toArray below meth c H locs 0 0 (MQ below (QG (some (.int r)) (OM D aC o ad zq) A) ([.ref o] : List Value).toArray s 0 0 A) (F0 m 5 ls []) := by
    intro f
    induction f with
    | zero =>
      intro v1 z H locs ls h
      rw [FX2_product_L5] at h
      cases h
    | succ f ih4 =>
      intro v1 z H locs ls h hO hS hl
      rw [FX2_product_L5] at h
      refine lv_aload_n hx hb dX2_product_5 rfl (lv_at hl 0 rfl) ?_
      refine lv_bipush (v := 42) hx hb dX2_product_6 (by decide) ?_
      obtain ⟨r5, e6, h⟩ := bn1_e h
      refine clX2_isAt hf hK hO (metX2_isAt l D aC o ad 42 z r5 e6) q1755 hl.1 (Nat.le_of_ble_eq_true rfl) ⟨by dsimp only; omega, by dsimp only; omega⟩ ⟨Nat.le_of_ble_eq_true rfl, Nat.le_of_ble_eq_true rfl⟩ dX2_product_8 ?_
      obtain ⟨k7, e29, h⟩ := pin_nm h
      have hk7 : ∀  (ls : Array Slot), k7  = some (r, zq) → lv_has ls 4 [(0, .ref o), (1, .int v1)] → W p l e ({ frames := 6 * n + 1, cells := 0, slots := 0, locals := 137 * n + 23 }) s m ([.ref o] : List Value).toArray below meth c H locs 0 0 (MQ below (QG (some (.int r)) (OM D aC o ad zq) A) ([.ref o] : List Value).toArray s 0 0 A) (F0 m 32 ls []) := by
        intro  ls h hl
        rw [e29] at h
        refine lv_aload_n hx hb dX2_product_32 rfl (lv_at hl 0 rfl) ?_
        refine X2_getA hx hb hts hown hK hO 13 (by decide) rfl (hts _ q1550) dX2_product_33 ?_
        refine lv_aload_n hx hb dX2_product_36 rfl (lv_at hl 0 rfl) ?_
        refine X2_getF hx hb hts hown hK hO 15 (by decide) rfl (hts _ q1552) dX2_product_37 ?_
        obtain ⟨g8, h⟩ := grd h
        refine X2_iaload hx hb hK hO 13 (by decide) rfl rfl g8 dX2_product_40 ?_
        refine lv_topi (fun y9 ey9 => ?_)
        have h := pin_to ey9 h
        refine lv_istore_n (lv' := [(2, .int y9), (0, .ref o), (1, .int v1)]) hx hb dX2_product_41 rfl hl (by decide) rfl (fun ls hl => ?_)
        refine lv_aload_n hx hb dX2_product_42 rfl (lv_at hl 1 rfl) ?_
        refine lv_dup hx hb dX2_product_43 rfl ?_
        refine X2_getF hx hb hts hown hK hO 15 (by decide) rfl (hts _ q1552) dX2_product_44 ?_
        refine lv_iconst (v := 1) hx hb dX2_product_47 (by decide) ?_
        refine lv_iadd hx hb dX2_product_48 ?_
        refine X2_putF hx hb hts hown hK hO hD hS 15 (by decide) rfl (hts _ q1552) rfl (ty := .int) rfl rfl rfl dX2_product_49 (fun H locs z10 ez10 hO hS => ?_)
        have h := pin_to ez10 h
        refine lv_aload_n hx hb dX2_product_52 rfl (lv_at hl 1 rfl) ?_
        obtain ⟨r11, z12, e13, h⟩ := bnd_e h
        refine clX2_one hf hK hO hS (hrec z10 r11 z12 e13) q1743 hl.1 (Nat.le_of_ble_eq_true rfl) ⟨by dsimp only; omega, by dsimp only; omega⟩ ⟨Nat.le_of_ble_eq_true rfl, Nat.le_of_ble_eq_true rfl⟩ dX2_product_53 (fun H locs hO hS => ?_)
        refine lv_istore_n (lv' := [(3, .int r11), (2, .int y9), (0, .ref o), (1, .int v1)]) hx hb dX2_product_56 rfl hl (by decide) rfl (fun ls hl => ?_)
        refine lv_iload_n hx hb dX2_product_57 rfl (lv_at hl 1 rfl) ?_
        refine lv_bipush (v := 42) hx hb dX2_product_58 (by decide) ?_
        obtain ⟨k14, e21, h⟩ := pin_nm h
        have hk14 : ∀ (u15 : Int32) (ls : Array Slot), k14 u15 = some (r, zq) → lv_has ls 4 [(0, .ref o)] → W p l e ({ frames := 6 * n + 1, cells := 0, slots := 0, locals := 137 * n + 23 }) s m ([.ref o] : List Value).toArray below meth c H locs 0 0 (MQ below (QG (some (.int r)) (OM D aC o ad zq) A) ([.ref o] : List Value).toArray s 0 0 A) (F0 m 92 ls [.int u15]) := by
          intro u15 ls h hl
          rw [e21] at h
          refine lv_istore_n (lv' := [(1, .int u15), (0, .ref o)]) hx hb dX2_product_92 rfl hl (by decide) rfl (fun ls hl => ?_)
          refine lv_goto (tgt := 5) hx hb dX2_product_93 (by decide) ?_
          exact ih4 _ _ _ _ _ h hO hS (lv_sub hl [1, 0] rfl)
        refine lv_icmp_ne (tgt := 69) hx hb dX2_product_60 (by decide) (fun c16 => ?_) (fun c16 => ?_)
        · have h := it_f c16 h
          refine lv_iload_n hx hb dX2_product_69 rfl (lv_at hl 0 rfl) ?_
          refine lv_if_ne (tgt := 77) hx hb dX2_product_70 (by decide) (fun c17 => ?_) (fun c17 => ?_)
          · have h := it_f c17 h
            refine lv_iload_n hx hb dX2_product_77 rfl (lv_at hl 1 rfl) ?_
            refine lv_bipush (v := 47) hx hb dX2_product_78 (by decide) ?_
            refine lv_icmp_ne (tgt := 89) hx hb dX2_product_80 (by decide) (fun c18 => ?_) (fun c18 => ?_)
            · have h := it_f c18 h
              refine lv_iload_n hx hb dX2_product_89 rfl (lv_at hl 3 rfl) ?_
              refine lv_iload_n hx hb dX2_product_90 rfl (lv_at hl 0 rfl) ?_
              obtain ⟨g19, h⟩ := grd h
              refine g_irem hx hb dX2_product_91 g19 ?_
              exact hk14 _ _ h (lv_sub hl [2] rfl)
            · have h := it_t c18 h
              refine lv_iload_n hx hb dX2_product_83 rfl (lv_at hl 3 rfl) ?_
              refine lv_iload_n hx hb dX2_product_84 rfl (lv_at hl 0 rfl) ?_
              obtain ⟨g20, h⟩ := grd h
              refine lv_idiv hx hb dX2_product_85 g20 ?_
              refine lv_goto (tgt := 92) hx hb dX2_product_86 (by decide) ?_
              exact hk14 _ _ h (lv_sub hl [2] rfl)
          · have h := it_t c17 h
            refine lv_iconst (v := 0) hx hb dX2_product_73 (by decide) ?_
            refine lv_goto (tgt := 92) hx hb dX2_product_74 (by decide) ?_
            exact hk14 _ _ h (lv_sub hl [2] rfl)
        · have h := it_t c16 h
          refine lv_iload_n hx hb dX2_product_63 rfl (lv_at hl 3 rfl) ?_
          refine lv_iload_n hx hb dX2_product_64 rfl (lv_at hl 0 rfl) ?_
          refine lv_imul hx hb dX2_product_65 ?_
          refine lv_goto (tgt := 92) hx hb dX2_product_66 (by decide) ?_
          exact hk14 _ _ h (lv_sub hl [2] rfl)
      refine lv_if_ne (tgt := 32) hx hb dX2_product_11 (by decide) (fun c22 => ?_) (fun c22 => ?_)
      · have h := it_f c22 h
        exact hk7 _ h (lv_sub hl [0, 1] rfl)
      · have h := it_t c22 h
        refine lv_aload_n hx hb dX2_product_14 rfl (lv_at hl 0 rfl) ?_
        refine lv_bipush (v := 47) hx hb dX2_product_15 (by decide) ?_
        obtain ⟨r23, e24, h⟩ := bn1_e h
        refine clX2_isAt hf hK hO (metX2_isAt l D aC o ad 47 z r23 e24) q1755 hl.1 (Nat.le_of_ble_eq_true rfl) ⟨by dsimp only; omega, by dsimp only; omega⟩ ⟨Nat.le_of_ble_eq_true rfl, Nat.le_of_ble_eq_true rfl⟩ dX2_product_17 ?_
        refine lv_if_ne (tgt := 32) hx hb dX2_product_20 (by decide) (fun c25 => ?_) (fun c25 => ?_)
        · have h := it_f c25 h
          exact hk7 _ h (lv_sub hl [0, 1] rfl)
        · have h := it_t c25 h
          refine lv_aload_n hx hb dX2_product_23 rfl (lv_at hl 0 rfl) ?_
          refine lv_bipush (v := 37) hx hb dX2_product_24 (by decide) ?_
          obtain ⟨r26, e27, h⟩ := bn1_e h
          refine clX2_isAt hf hK hO (metX2_isAt l D aC o ad 37 z r26 e27) q1755 hl.1 (Nat.le_of_ble_eq_true rfl) ⟨by dsimp only; omega, by dsimp only; omega⟩ ⟨Nat.le_of_ble_eq_true rfl, Nat.le_of_ble_eq_true rfl⟩ dX2_product_26 ?_
          refine lv_if_eq (tgt := 96) hx hb dX2_product_29 (by decide) (fun c28 => ?_) (fun c28 => ?_)
          · have h := it_t c28 h
            refine lv_iload_n hx hb dX2_product_96 rfl (lv_at hl 1 rfl) ?_
            obtain ⟨e8, rfl⟩ := Prod.mk.inj (Option.some.inj h)
            exact g_retG hx hb hr hlocks e8 hO hS dX2_product_97
          · have h := it_f c28 h
            exact hk7 _ h (lv_sub hl [0, 1] rfl)
  exact key30 FU _ _ _ _ _ h hO hS (lv_sub hl [1, 0] rfl)
theorem clX2_product {p : Program} {l : Launch} {e : Env} {R : Room} {s : State} {m : MethodId} {args : Array Value} {below : List Frame} {meth : Method} {c : Code} {H : Heap} {locs : List Loc} {cells slots : Nat} {Q : State → Prop} {cc : ByteArray} {pc nL idx fr lo : Nat} {ls : Array Slot} {rest : List Value} {own : String} {D : va_G} {aC : Nat → ClassId} {o : Nat} {ad : Nat → Nat} {z : GS} {zq : GS} {A : Nat → Prop}  {r : Int32} (hf : CallFix p m c cc nL s args lw_all own) (hK : va_K D vwCl (tysG aC) s) (hO : OM D aC o ad z H) (hS : va_S A s.heap H locs) (hM : Met l yX2_product (ws_ yX2_product cX2_product 4 (some .int)) ({ frames := fr, cells := 0, slots := 0, locals := lo }) (va_Pc [.ref o] (PM D aC o ad z)) (QG (some (.int r)) (OM D aC o ad zq) A) 0 0 A) (hq : Cond.methodLink own idx yX2_product ∈ lw_all) (hs : ls.size = nL) (hr : (rest.map fun v => v.category).sum ≤ 8) (hR : fr + 1 ≤ R.frames ∧ 8 + (4 + 11) + lo ≤ R.locals) (hcs : cells + 0 ≤ R.cells ∧ slots + 0 ≤ R.slots) (hd : decode cc pc = .ok (.invokevirtual idx, 3)) (kk : ∀ (H1 : Heap) (locs1 : List Loc), OM D aC o ad zq H1 → va_S A s.heap H1 locs1 → W p l e R s m args below meth c H1 locs1 cells slots Q (F0 m (pc + 3) ls (.int r :: rest))) : W p l e R s m args below meth c H locs cells slots Q (F0 m pc ls (.ref o :: rest)) :=
  g_callG (W.runV (As := []) (rest := rest) hf hM (cwV 0 hf.2.2.2.2 (lw_V hq q1741 qs59 q92 q1742) rfl rfl rfl (by decide +kernel) hR) ⟨fun a U g mk q => ⟨q.1, q.2.1, va_K.moved (u := U) (U := U.calling g mk a) (Vm.Alike.refl U.vm) q.2.2⟩, OA.recv hK hO rfl, fun U hU hW => ⟨rfl, by rw [hU]; exact hO, va_K.moved hW.alike hK⟩⟩ rfl rfl hs rfl (lv_room hr) hd hcs) hS (fun H1 locs1 hP hS _ _ => kk H1 locs1 hP hS)
theorem metX2_total (l : Launch) (D : va_G) (aC : Nat → ClassId) (o : Nat) (ad : Nat → Nat) (A : Nat → Prop) (hD : OD A 44 kdM o ad) (n : Nat) (rec : GS → Option (Int32 × GS)) (hrec : ∀  (z : GS) (r : Int32) (zq : GS), rec z = some (r, zq) → Met l yX2_one (ws_ yX2_one cX2_one 4 (some .int)) ({ frames := 6 * n, cells := 0, slots := 0, locals := 137 * n }) (va_Pc [.ref o] (PM D aC o ad z)) (QG (some (.int r)) (OM D aC o ad zq) A) 0 0 A)  (z : GS) (r : Int32) (zq : GS) (h : FX2_total rec z = some (r, zq)) : Met l yX2_total (ws_ yX2_total cX2_total 4 (some .int)) ({ frames := 6 * n + 2, cells := 0, slots := 0, locals := 137 * n + 46 }) (va_Pc [.ref o] (PM D aC o ad z)) (QG (some (.int r)) (OM D aC o ad zq) A) 0 0 A := by
  refine g_ofW (cc := cX2_total) (maxL := 4) (ret := (some .int)) (own := RX2) (by decide) rfl rfl [.ref o] (PM D aC o ad z) (Nat.le_of_ble_eq_true rfl) ?_
  intro p e s m below meth c ls hx hb hr hml hts hown hlocks hnm hPre hl
  obtain ⟨hO, hK⟩ := hPre
  have hf : CallFix p m c cX2_total 4 s _ lw_all RX2 := ⟨hx, hb, hml, hown, hts⟩
  have hl : lv_has ls 4 [(0, .ref o)] := hl
  refine g_open (A := A) (OM D aC o ad z) hO (fun H locs hO hS => ?_)
  unfold FX2_total at h
  refine lv_aload_n hx hb dX2_total_0 rfl (lv_at hl 0 rfl) ?_
  obtain ⟨r1, z2, e3, h⟩ := bnd_e h
  refine clX2_product hf hK hO hS (metX2_product l D aC o ad A hD n rec hrec z r1 z2 e3) q1739 hl.1 (Nat.le_of_ble_eq_true rfl) ⟨by dsimp only; omega, by dsimp only; omega⟩ ⟨Nat.le_of_ble_eq_true rfl, Nat.le_of_ble_eq_true rfl⟩ dX2_total_1 (fun H locs hO hS => ?_)
  refine lv_istore_n (lv' := [(1, .int r1), (0, .ref o)]) hx hb dX2_total_4 rfl hl (by decide) rfl (fun ls hl => ?_)
  have key23 : ∀ (f : Nat) (v1 : Int32) (z : GS) (H : Heap) (locs : List Loc) (ls : Array Slot), FX2_total_L5 rec f v1 z = some (r, zq) → OM D aC o ad z H → va_S A s.heap H locs → lv_has ls 4 [(0, .ref o), (1, .int v1)] → W p l e ({ frames := 6 * n + 2, cells := 0, slots := 0, locals := 137 * n + 46 }) s m ([.ref o] : List Value).toArray below meth c H locs 0 0 (MQ below (QG (some (.int r)) (OM D aC o ad zq) A) ([.ref o] : List Value).toArray s 0 0 A) (F0 m 5 ls []) := by
    intro f
    induction f with
    | zero =>
      intro v1 z H locs ls h
      rw [FX2_total_L5] at h
      cases h
    | succ f ih4 =>
      intro v1 z H locs ls h hO hS hl
      rw [FX2_total_L5] at h
      refine lv_aload_n hx hb dX2_total_5 rfl (lv_at hl 0 rfl) ?_
      refine lv_bipush (v := 43) hx hb dX2_total_6 (by decide) ?_
      obtain ⟨r5, e6, h⟩ := bn1_e h
      refine clX2_isAt hf hK hO (metX2_isAt l D aC o ad 43 z r5 e6) q1755 hl.1 (Nat.le_of_ble_eq_true rfl) ⟨by dsimp only; omega, by dsimp only; omega⟩ ⟨Nat.le_of_ble_eq_true rfl, Nat.le_of_ble_eq_true rfl⟩ dX2_total_8 ?_
      obtain ⟨k7, e22, h⟩ := pin_nm h
      have hk7 : ∀  (ls : Array Slot), k7  = some (r, zq) → lv_has ls 4 [(0, .ref o), (1, .int v1)] → W p l e ({ frames := 6 * n + 2, cells := 0, slots := 0, locals := 137 * n + 46 }) s m ([.ref o] : List Value).toArray below meth c H locs 0 0 (MQ below (QG (some (.int r)) (OM D aC o ad zq) A) ([.ref o] : List Value).toArray s 0 0 A) (F0 m 23 ls []) := by
        intro  ls h hl
        rw [e22] at h
        refine lv_aload_n hx hb dX2_total_23 rfl (lv_at hl 0 rfl) ?_
        refine lv_bipush (v := 43) hx hb dX2_total_24 (by decide) ?_
        obtain ⟨r8, e9, h⟩ := bn1_e h
        refine clX2_isAt hf hK hO (metX2_isAt l D aC o ad 43 z r8 e9) q1755 hl.1 (Nat.le_of_ble_eq_true rfl) ⟨by dsimp only; omega, by dsimp only; omega⟩ ⟨Nat.le_of_ble_eq_true rfl, Nat.le_of_ble_eq_true rfl⟩ dX2_total_26 ?_
        refine lv_istore_n (lv' := [(2, .int r8), (0, .ref o), (1, .int v1)]) hx hb dX2_total_29 rfl hl (by decide) rfl (fun ls hl => ?_)
        refine lv_aload_n hx hb dX2_total_30 rfl (lv_at hl 1 rfl) ?_
        refine lv_dup hx hb dX2_total_31 rfl ?_
        refine X2_getF hx hb hts hown hK hO 15 (by decide) rfl (hts _ q1552) dX2_total_32 ?_
        refine lv_iconst (v := 1) hx hb dX2_total_35 (by decide) ?_
        refine lv_iadd hx hb dX2_total_36 ?_
        refine X2_putF hx hb hts hown hK hO hD hS 15 (by decide) rfl (hts _ q1552) rfl (ty := .int) rfl rfl rfl dX2_total_37 (fun H locs z10 ez10 hO hS => ?_)
        have h := pin_to ez10 h
        refine lv_aload_n hx hb dX2_total_40 rfl (lv_at hl 1 rfl) ?_
        obtain ⟨r11, z12, e13, h⟩ := bnd_e h
        refine clX2_product hf hK hO hS (metX2_product l D aC o ad A hD n rec hrec z10 r11 z12 e13) q1739 hl.1 (Nat.le_of_ble_eq_true rfl) ⟨by dsimp only; omega, by dsimp only; omega⟩ ⟨Nat.le_of_ble_eq_true rfl, Nat.le_of_ble_eq_true rfl⟩ dX2_total_41 (fun H locs hO hS => ?_)
        refine lv_istore_n (lv' := [(3, .int r11), (2, .int r8), (0, .ref o), (1, .int v1)]) hx hb dX2_total_44 rfl hl (by decide) rfl (fun ls hl => ?_)
        refine lv_iload_n hx hb dX2_total_45 rfl (lv_at hl 1 rfl) ?_
        obtain ⟨k15, e16, h⟩ := pin_nm2 h
        have hk15 : ∀ (u14 : Int32) (ls : Array Slot), k15 u14 = some (r, zq) → lv_has ls 4 [(0, .ref o)] → W p l e ({ frames := 6 * n + 2, cells := 0, slots := 0, locals := 137 * n + 46 }) s m ([.ref o] : List Value).toArray below meth c H locs 0 0 (MQ below (QG (some (.int r)) (OM D aC o ad zq) A) ([.ref o] : List Value).toArray s 0 0 A) (F0 m 58 ls [.int u14]) := by
          intro u14 ls h hl
          rw [e16] at h
          refine lv_istore_n (lv' := [(1, .int u14), (0, .ref o)]) hx hb dX2_total_58 rfl hl (by decide) rfl (fun ls hl => ?_)
          refine lv_goto (tgt := 5) hx hb dX2_total_59 (by decide) ?_
          exact ih4 _ _ _ _ _ h hO hS (lv_sub hl [1, 0] rfl)
        refine lv_if_eq (tgt := 55) hx hb dX2_total_46 (by decide) (fun c17 => ?_) (fun c17 => ?_)
        · have h := pt_t (k := k15) c17 h
          refine lv_iload_n hx hb dX2_total_55 rfl (lv_at hl 3 rfl) ?_
          refine lv_iload_n hx hb dX2_total_56 rfl (lv_at hl 0 rfl) ?_
          refine lv_isub hx hb dX2_total_57 ?_
          exact hk15 _ _ h (lv_sub hl [2] rfl)
        · have h := pt_f (k := k15) c17 h
          refine lv_iload_n hx hb dX2_total_49 rfl (lv_at hl 3 rfl) ?_
          refine lv_iload_n hx hb dX2_total_50 rfl (lv_at hl 0 rfl) ?_
          refine lv_iadd hx hb dX2_total_51 ?_
          refine lv_goto (tgt := 58) hx hb dX2_total_52 (by decide) ?_
          exact hk15 _ _ h (lv_sub hl [2] rfl)
      refine lv_if_ne (tgt := 23) hx hb dX2_total_11 (by decide) (fun c18 => ?_) (fun c18 => ?_)
      · have h := it_f c18 h
        exact hk7 _ h (lv_sub hl [0, 1] rfl)
      · have h := it_t c18 h
        refine lv_aload_n hx hb dX2_total_14 rfl (lv_at hl 0 rfl) ?_
        refine lv_bipush (v := 45) hx hb dX2_total_15 (by decide) ?_
        obtain ⟨r19, e20, h⟩ := bn1_e h
        refine clX2_isAt hf hK hO (metX2_isAt l D aC o ad 45 z r19 e20) q1755 hl.1 (Nat.le_of_ble_eq_true rfl) ⟨by dsimp only; omega, by dsimp only; omega⟩ ⟨Nat.le_of_ble_eq_true rfl, Nat.le_of_ble_eq_true rfl⟩ dX2_total_17 ?_
        refine lv_if_eq (tgt := 62) hx hb dX2_total_20 (by decide) (fun c21 => ?_) (fun c21 => ?_)
        · have h := it_t c21 h
          refine lv_iload_n hx hb dX2_total_62 rfl (lv_at hl 1 rfl) ?_
          obtain ⟨e8, rfl⟩ := Prod.mk.inj (Option.some.inj h)
          exact g_retG hx hb hr hlocks e8 hO hS dX2_total_63
        · have h := it_f c21 h
          exact hk7 _ h (lv_sub hl [0, 1] rfl)
  exact key23 FU _ _ _ _ _ h hO hS (lv_sub hl [1, 0] rfl)
theorem clX2_total {p : Program} {l : Launch} {e : Env} {R : Room} {s : State} {m : MethodId} {args : Array Value} {below : List Frame} {meth : Method} {c : Code} {H : Heap} {locs : List Loc} {cells slots : Nat} {Q : State → Prop} {cc : ByteArray} {pc nL idx fr lo : Nat} {ls : Array Slot} {rest : List Value} {own : String} {D : va_G} {aC : Nat → ClassId} {o : Nat} {ad : Nat → Nat} {z : GS} {zq : GS} {A : Nat → Prop}  {r : Int32} (hf : CallFix p m c cc nL s args lw_all own) (hK : va_K D vwCl (tysG aC) s) (hO : OM D aC o ad z H) (hS : va_S A s.heap H locs) (hM : Met l yX2_total (ws_ yX2_total cX2_total 4 (some .int)) ({ frames := fr, cells := 0, slots := 0, locals := lo }) (va_Pc [.ref o] (PM D aC o ad z)) (QG (some (.int r)) (OM D aC o ad zq) A) 0 0 A) (hq : Cond.methodLink own idx yX2_total ∈ lw_all) (hs : ls.size = nL) (hr : (rest.map fun v => v.category).sum ≤ 8) (hR : fr + 1 ≤ R.frames ∧ 8 + (4 + 11) + lo ≤ R.locals) (hcs : cells + 0 ≤ R.cells ∧ slots + 0 ≤ R.slots) (hd : decode cc pc = .ok (.invokevirtual idx, 3)) (kk : ∀ (H1 : Heap) (locs1 : List Loc), OM D aC o ad zq H1 → va_S A s.heap H1 locs1 → W p l e R s m args below meth c H1 locs1 cells slots Q (F0 m (pc + 3) ls (.int r :: rest))) : W p l e R s m args below meth c H locs cells slots Q (F0 m pc ls (.ref o :: rest)) :=
  g_callG (W.runV (As := []) (rest := rest) hf hM (cwV 0 hf.2.2.2.2 (lw_V hq q1737 qs58 q92 q1738) rfl rfl rfl (by decide +kernel) hR) ⟨fun a U g mk q => ⟨q.1, q.2.1, va_K.moved (u := U) (U := U.calling g mk a) (Vm.Alike.refl U.vm) q.2.2⟩, OA.recv hK hO rfl, fun U hU hW => ⟨rfl, by rw [hU]; exact hO, va_K.moved hW.alike hK⟩⟩ rfl rfl hs rfl (lv_room hr) hd hcs) hS (fun H1 locs1 hP hS _ _ => kk H1 locs1 hP hS)
theorem metX2_compared (l : Launch) (D : va_G) (aC : Nat → ClassId) (o : Nat) (ad : Nat → Nat) (A : Nat → Prop) (hD : OD A 44 kdM o ad) (n : Nat) (rec : GS → Option (Int32 × GS)) (hrec : ∀  (z : GS) (r : Int32) (zq : GS), rec z = some (r, zq) → Met l yX2_one (ws_ yX2_one cX2_one 4 (some .int)) ({ frames := 6 * n, cells := 0, slots := 0, locals := 137 * n }) (va_Pc [.ref o] (PM D aC o ad z)) (QG (some (.int r)) (OM D aC o ad zq) A) 0 0 A)  (z : GS) (r : Int32) (zq : GS) (h : FX2_compared rec z = some (r, zq)) : Met l yX2_compared (ws_ yX2_compared cX2_compared 5 (some .int)) ({ frames := 6 * n + 3, cells := 0, slots := 0, locals := 137 * n + 69 }) (va_Pc [.ref o] (PM D aC o ad z)) (QG (some (.int r)) (OM D aC o ad zq) A) 0 0 A := by
  refine g_ofW (cc := cX2_compared) (maxL := 5) (ret := (some .int)) (own := RX2) (by decide) rfl rfl [.ref o] (PM D aC o ad z) (Nat.le_of_ble_eq_true rfl) ?_
  intro p e s m below meth c ls hx hb hr hml hts hown hlocks hnm hPre hl
  obtain ⟨hO, hK⟩ := hPre
  have hf : CallFix p m c cX2_compared 5 s _ lw_all RX2 := ⟨hx, hb, hml, hown, hts⟩
  have hl : lv_has ls 5 [(0, .ref o)] := hl
  refine g_open (A := A) (OM D aC o ad z) hO (fun H locs hO hS => ?_)
  unfold FX2_compared at h
  refine lv_aload_n hx hb dX2_compared_0 rfl (lv_at hl 0 rfl) ?_
  obtain ⟨r1, z2, e3, h⟩ := bnd_e h
  refine clX2_total hf hK hO hS (metX2_total l D aC o ad A hD n rec hrec z r1 z2 e3) q1735 hl.1 (Nat.le_of_ble_eq_true rfl) ⟨by dsimp only; omega, by dsimp only; omega⟩ ⟨Nat.le_of_ble_eq_true rfl, Nat.le_of_ble_eq_true rfl⟩ dX2_compared_1 (fun H locs hO hS => ?_)
  refine lv_istore_n (lv' := [(1, .int r1), (0, .ref o)]) hx hb dX2_compared_4 rfl hl (by decide) rfl (fun ls hl => ?_)
  refine lv_aload_n hx hb dX2_compared_5 rfl (lv_at hl 1 rfl) ?_
  refine lv_bipush (v := 60) hx hb dX2_compared_6 (by decide) ?_
  obtain ⟨r4, e5, h⟩ := bn1_e h
  refine clX2_isAt hf hK hO (metX2_isAt l D aC o ad 60 z2 r4 e5) q1755 hl.1 (Nat.le_of_ble_eq_true rfl) ⟨by dsimp only; omega, by dsimp only; omega⟩ ⟨Nat.le_of_ble_eq_true rfl, Nat.le_of_ble_eq_true rfl⟩ dX2_compared_8 ?_
  obtain ⟨k6, e32, h⟩ := pin_nm h
  have hk6 : ∀  (ls : Array Slot), k6  = some (r, zq) → lv_has ls 5 [(0, .ref o), (1, .int r1)] → W p l e ({ frames := 6 * n + 3, cells := 0, slots := 0, locals := 137 * n + 69 }) s m ([.ref o] : List Value).toArray below meth c H locs 0 0 (MQ below (QG (some (.int r)) (OM D aC o ad zq) A) ([.ref o] : List Value).toArray s 0 0 A) (F0 m 32 ls []) := by
    intro  ls h hl
    rw [e32] at h
    refine lv_aload_n hx hb dX2_compared_32 rfl (lv_at hl 0 rfl) ?_
    refine X2_getA hx hb hts hown hK hO 13 (by decide) rfl (hts _ q1550) dX2_compared_33 ?_
    refine lv_aload_n hx hb dX2_compared_36 rfl (lv_at hl 0 rfl) ?_
    refine X2_getF hx hb hts hown hK hO 15 (by decide) rfl (hts _ q1552) dX2_compared_37 ?_
    obtain ⟨g7, h⟩ := grd h
    refine X2_iaload hx hb hK hO 13 (by decide) rfl rfl g7 dX2_compared_40 ?_
    refine lv_topi (fun y8 ey8 => ?_)
    have h := pin_to ey8 h
    refine lv_istore_n (lv' := [(2, .int y8), (0, .ref o), (1, .int r1)]) hx hb dX2_compared_41 rfl hl (by decide) rfl (fun ls hl => ?_)
    refine lv_aload_n hx hb dX2_compared_42 rfl (lv_at hl 1 rfl) ?_
    refine lv_dup hx hb dX2_compared_43 rfl ?_
    refine X2_getF hx hb hts hown hK hO 15 (by decide) rfl (hts _ q1552) dX2_compared_44 ?_
    refine lv_iconst (v := 1) hx hb dX2_compared_47 (by decide) ?_
    refine lv_iadd hx hb dX2_compared_48 ?_
    refine X2_putF hx hb hts hown hK hO hD hS 15 (by decide) rfl (hts _ q1552) rfl (ty := .int) rfl rfl rfl dX2_compared_49 (fun H locs z9 ez9 hO hS => ?_)
    have h := pin_to ez9 h
    refine lv_aload_n hx hb dX2_compared_52 rfl (lv_at hl 1 rfl) ?_
    obtain ⟨r10, z11, e12, h⟩ := bnd_e h
    refine clX2_total hf hK hO hS (metX2_total l D aC o ad A hD n rec hrec z9 r10 z11 e12) q1735 hl.1 (Nat.le_of_ble_eq_true rfl) ⟨by dsimp only; omega, by dsimp only; omega⟩ ⟨Nat.le_of_ble_eq_true rfl, Nat.le_of_ble_eq_true rfl⟩ dX2_compared_53 (fun H locs hO hS => ?_)
    refine lv_istore_n (lv' := [(3, .int r10), (2, .int y8), (0, .ref o), (1, .int r1)]) hx hb dX2_compared_56 rfl hl (by decide) rfl (fun ls hl => ?_)
    refine lv_iload_n hx hb dX2_compared_57 rfl (lv_at hl 1 rfl) ?_
    refine lv_bipush (v := 60) hx hb dX2_compared_58 (by decide) ?_
    obtain ⟨k14, e19, h⟩ := pin_nm2 h
    have hk14 : ∀ (u13 : Int32) (ls : Array Slot), k14 u13 = some (r, zq) → lv_has ls 5 [(0, .ref o)] → W p l e ({ frames := 6 * n + 3, cells := 0, slots := 0, locals := 137 * n + 69 }) s m ([.ref o] : List Value).toArray below meth c H locs 0 0 (MQ below (QG (some (.int r)) (OM D aC o ad zq) A) ([.ref o] : List Value).toArray s 0 0 A) (F0 m 105 ls [.int u13]) := by
      intro u13 ls h hl
      rw [e19] at h
      refine lv_istore (lv' := [(4, .int u13), (0, .ref o)]) hx hb dX2_compared_105 hl (by decide) rfl (fun ls hl => ?_)
      refine lv_iload hx hb dX2_compared_107 (lv_at hl 0 rfl) ?_
      obtain ⟨k16, e17, h⟩ := pin_nm2 h
      have hk16 : ∀ (u15 : Int32) (ls : Array Slot), k16 u15 = some (r, zq) → lv_has ls 5 [(0, .ref o)] → W p l e ({ frames := 6 * n + 3, cells := 0, slots := 0, locals := 137 * n + 69 }) s m ([.ref o] : List Value).toArray below meth c H locs 0 0 (MQ below (QG (some (.int r)) (OM D aC o ad zq) A) ([.ref o] : List Value).toArray s 0 0 A) (F0 m 117 ls [.int u15]) := by
        intro u15 ls h hl
        rw [e17] at h
        refine lv_istore_n (lv' := [(1, .int u15), (0, .ref o)]) hx hb dX2_compared_117 rfl hl (by decide) rfl (fun ls hl => ?_)
        refine lv_iload_n hx hb dX2_compared_118 rfl (lv_at hl 0 rfl) ?_
        obtain ⟨e8, rfl⟩ := Prod.mk.inj (Option.some.inj h)
        exact g_retG hx hb hr hlocks e8 hO hS dX2_compared_119
      refine lv_if_eq (tgt := 116) hx hb dX2_compared_109 (by decide) (fun c18 => ?_) (fun c18 => ?_)
      · have h := pt_t (k := k16) c18 h
        refine lv_iconst (v := 0) hx hb dX2_compared_116 (by decide) ?_
        exact hk16 _ _ h (lv_sub hl [1] rfl)
      · have h := pt_f (k := k16) c18 h
        refine lv_iconst (v := 1) hx hb dX2_compared_112 (by decide) ?_
        refine lv_goto (tgt := 117) hx hb dX2_compared_113 (by decide) ?_
        exact hk16 _ _ h (lv_sub hl [1] rfl)
    refine lv_icmp_ne (tgt := 76) hx hb dX2_compared_60 (by decide) (fun c20 => ?_) (fun c20 => ?_)
    · have h := pt_f (k := k14) c20 h
      refine lv_iload_n hx hb dX2_compared_76 rfl (lv_at hl 1 rfl) ?_
      refine lv_bipush (v := 61) hx hb dX2_compared_77 (by decide) ?_
      refine lv_icmp_ne (tgt := 95) hx hb dX2_compared_79 (by decide) (fun c21 => ?_) (fun c21 => ?_)
      · have h := pt_f (k := k14) c21 h
        refine lv_iload_n hx hb dX2_compared_95 rfl (lv_at hl 3 rfl) ?_
        refine lv_iload_n hx hb dX2_compared_96 rfl (lv_at hl 0 rfl) ?_
        refine lv_icmp_le (tgt := 104) hx hb dX2_compared_97 (by decide) (fun c22 => ?_) (fun c22 => ?_)
        · have h := pt_t (k := k14) c22 h
          refine lv_iconst (v := 0) hx hb dX2_compared_104 (by decide) ?_
          exact hk14 _ _ h (lv_sub hl [2] rfl)
        · have h := pt_f (k := k14) c22 h
          refine lv_iconst (v := 1) hx hb dX2_compared_100 (by decide) ?_
          refine lv_goto (tgt := 105) hx hb dX2_compared_101 (by decide) ?_
          exact hk14 _ _ h (lv_sub hl [2] rfl)
      · have h := pt_t (k := k14) c21 h
        refine lv_iload_n hx hb dX2_compared_82 rfl (lv_at hl 3 rfl) ?_
        refine lv_iload_n hx hb dX2_compared_83 rfl (lv_at hl 0 rfl) ?_
        refine lv_icmp_ne (tgt := 91) hx hb dX2_compared_84 (by decide) (fun c23 => ?_) (fun c23 => ?_)
        · have h := pt_f (k := k14) c23 h
          refine lv_iconst (v := 0) hx hb dX2_compared_91 (by decide) ?_
          refine lv_goto (tgt := 105) hx hb dX2_compared_92 (by decide) ?_
          exact hk14 _ _ h (lv_sub hl [2] rfl)
        · have h := pt_t (k := k14) c23 h
          refine lv_iconst (v := 1) hx hb dX2_compared_87 (by decide) ?_
          refine lv_goto (tgt := 105) hx hb dX2_compared_88 (by decide) ?_
          exact hk14 _ _ h (lv_sub hl [2] rfl)
    · have h := pt_t (k := k14) c20 h
      refine lv_iload_n hx hb dX2_compared_63 rfl (lv_at hl 3 rfl) ?_
      refine lv_iload_n hx hb dX2_compared_64 rfl (lv_at hl 0 rfl) ?_
      refine lv_icmp_ge (tgt := 72) hx hb dX2_compared_65 (by decide) (fun c24 => ?_) (fun c24 => ?_)
      · have h := pt_t (k := k14) c24 h
        refine lv_iconst (v := 0) hx hb dX2_compared_72 (by decide) ?_
        refine lv_goto (tgt := 105) hx hb dX2_compared_73 (by decide) ?_
        exact hk14 _ _ h (lv_sub hl [2] rfl)
      · have h := pt_f (k := k14) c24 h
        refine lv_iconst (v := 1) hx hb dX2_compared_68 (by decide) ?_
        refine lv_goto (tgt := 105) hx hb dX2_compared_69 (by decide) ?_
        exact hk14 _ _ h (lv_sub hl [2] rfl)
  refine lv_if_ne (tgt := 32) hx hb dX2_compared_11 (by decide) (fun c25 => ?_) (fun c25 => ?_)
  · have h := it_f c25 h
    exact hk6 _ h (lv_sub hl [1, 0] rfl)
  · have h := it_t c25 h
    refine lv_aload_n hx hb dX2_compared_14 rfl (lv_at hl 1 rfl) ?_
    refine lv_bipush (v := 61) hx hb dX2_compared_15 (by decide) ?_
    obtain ⟨r26, e27, h⟩ := bn1_e h
    refine clX2_isAt hf hK hO (metX2_isAt l D aC o ad 61 z2 r26 e27) q1755 hl.1 (Nat.le_of_ble_eq_true rfl) ⟨by dsimp only; omega, by dsimp only; omega⟩ ⟨Nat.le_of_ble_eq_true rfl, Nat.le_of_ble_eq_true rfl⟩ dX2_compared_17 ?_
    refine lv_if_ne (tgt := 32) hx hb dX2_compared_20 (by decide) (fun c28 => ?_) (fun c28 => ?_)
    · have h := it_f c28 h
      exact hk6 _ h (lv_sub hl [1, 0] rfl)
    · have h := it_t c28 h
      refine lv_aload_n hx hb dX2_compared_23 rfl (lv_at hl 1 rfl) ?_
      refine lv_bipush (v := 62) hx hb dX2_compared_24 (by decide) ?_
      obtain ⟨r29, e30, h⟩ := bn1_e h
      refine clX2_isAt hf hK hO (metX2_isAt l D aC o ad 62 z2 r29 e30) q1755 hl.1 (Nat.le_of_ble_eq_true rfl) ⟨by dsimp only; omega, by dsimp only; omega⟩ ⟨Nat.le_of_ble_eq_true rfl, Nat.le_of_ble_eq_true rfl⟩ dX2_compared_26 ?_
      refine lv_if_eq (tgt := 118) hx hb dX2_compared_29 (by decide) (fun c31 => ?_) (fun c31 => ?_)
      · have h := it_t c31 h
        refine lv_iload_n hx hb dX2_compared_118 rfl (lv_at hl 0 rfl) ?_
        obtain ⟨e8, rfl⟩ := Prod.mk.inj (Option.some.inj h)
        exact g_retG hx hb hr hlocks e8 hO hS dX2_compared_119
      · have h := it_f c31 h
        exact hk6 _ h (lv_sub hl [1, 0] rfl)
theorem clX2_compared {p : Program} {l : Launch} {e : Env} {R : Room} {s : State} {m : MethodId} {args : Array Value} {below : List Frame} {meth : Method} {c : Code} {H : Heap} {locs : List Loc} {cells slots : Nat} {Q : State → Prop} {cc : ByteArray} {pc nL idx fr lo : Nat} {ls : Array Slot} {rest : List Value} {own : String} {D : va_G} {aC : Nat → ClassId} {o : Nat} {ad : Nat → Nat} {z : GS} {zq : GS} {A : Nat → Prop}  {r : Int32} (hf : CallFix p m c cc nL s args lw_all own) (hK : va_K D vwCl (tysG aC) s) (hO : OM D aC o ad z H) (hS : va_S A s.heap H locs) (hM : Met l yX2_compared (ws_ yX2_compared cX2_compared 5 (some .int)) ({ frames := fr, cells := 0, slots := 0, locals := lo }) (va_Pc [.ref o] (PM D aC o ad z)) (QG (some (.int r)) (OM D aC o ad zq) A) 0 0 A) (hq : Cond.methodLink own idx yX2_compared ∈ lw_all) (hs : ls.size = nL) (hr : (rest.map fun v => v.category).sum ≤ 8) (hR : fr + 1 ≤ R.frames ∧ 8 + (5 + 11) + lo ≤ R.locals) (hcs : cells + 0 ≤ R.cells ∧ slots + 0 ≤ R.slots) (hd : decode cc pc = .ok (.invokevirtual idx, 3)) (kk : ∀ (H1 : Heap) (locs1 : List Loc), OM D aC o ad zq H1 → va_S A s.heap H1 locs1 → W p l e R s m args below meth c H1 locs1 cells slots Q (F0 m (pc + 3) ls (.int r :: rest))) : W p l e R s m args below meth c H locs cells slots Q (F0 m pc ls (.ref o :: rest)) :=
  g_callG (W.runV (As := []) (rest := rest) hf hM (cwV 0 hf.2.2.2.2 (lw_V hq q1733 qs57 q92 q1734) rfl rfl rfl (by decide +kernel) hR) ⟨fun a U g mk q => ⟨q.1, q.2.1, va_K.moved (u := U) (U := U.calling g mk a) (Vm.Alike.refl U.vm) q.2.2⟩, OA.recv hK hO rfl, fun U hU hW => ⟨rfl, by rw [hU]; exact hO, va_K.moved hW.alike hK⟩⟩ rfl rfl hs rfl (lv_room hr) hd hcs) hS (fun H1 locs1 hP hS _ _ => kk H1 locs1 hP hS)
theorem metX2_both (l : Launch) (D : va_G) (aC : Nat → ClassId) (o : Nat) (ad : Nat → Nat) (A : Nat → Prop) (hD : OD A 44 kdM o ad) (n : Nat) (rec : GS → Option (Int32 × GS)) (hrec : ∀  (z : GS) (r : Int32) (zq : GS), rec z = some (r, zq) → Met l yX2_one (ws_ yX2_one cX2_one 4 (some .int)) ({ frames := 6 * n, cells := 0, slots := 0, locals := 137 * n }) (va_Pc [.ref o] (PM D aC o ad z)) (QG (some (.int r)) (OM D aC o ad zq) A) 0 0 A)  (z : GS) (r : Int32) (zq : GS) (h : FX2_both rec z = some (r, zq)) : Met l yX2_both (ws_ yX2_both cX2_both 3 (some .int)) ({ frames := 6 * n + 4, cells := 0, slots := 0, locals := 137 * n + 93 }) (va_Pc [.ref o] (PM D aC o ad z)) (QG (some (.int r)) (OM D aC o ad zq) A) 0 0 A := by
  refine g_ofW (cc := cX2_both) (maxL := 3) (ret := (some .int)) (own := RX2) (by decide) rfl rfl [.ref o] (PM D aC o ad z) (Nat.le_of_ble_eq_true rfl) ?_
  intro p e s m below meth c ls hx hb hr hml hts hown hlocks hnm hPre hl
  obtain ⟨hO, hK⟩ := hPre
  have hf : CallFix p m c cX2_both 3 s _ lw_all RX2 := ⟨hx, hb, hml, hown, hts⟩
  have hl : lv_has ls 3 [(0, .ref o)] := hl
  refine g_open (A := A) (OM D aC o ad z) hO (fun H locs hO hS => ?_)
  unfold FX2_both at h
  refine lv_aload_n hx hb dX2_both_0 rfl (lv_at hl 0 rfl) ?_
  obtain ⟨r1, z2, e3, h⟩ := bnd_e h
  refine clX2_compared hf hK hO hS (metX2_compared l D aC o ad A hD n rec hrec z r1 z2 e3) q1731 hl.1 (Nat.le_of_ble_eq_true rfl) ⟨by dsimp only; omega, by dsimp only; omega⟩ ⟨Nat.le_of_ble_eq_true rfl, Nat.le_of_ble_eq_true rfl⟩ dX2_both_1 (fun H locs hO hS => ?_)
  refine lv_istore_n (lv' := [(1, .int r1), (0, .ref o)]) hx hb dX2_both_4 rfl hl (by decide) rfl (fun ls hl => ?_)
  have key17 : ∀ (f : Nat) (v1 : Int32) (z : GS) (H : Heap) (locs : List Loc) (ls : Array Slot), FX2_both_L5 rec f v1 z = some (r, zq) → OM D aC o ad z H → va_S A s.heap H locs → lv_has ls 3 [(0, .ref o), (1, .int v1)] → W p l e ({ frames := 6 * n + 4, cells := 0, slots := 0, locals := 137 * n + 93 }) s m ([.ref o] : List Value).toArray below meth c H locs 0 0 (MQ below (QG (some (.int r)) (OM D aC o ad zq) A) ([.ref o] : List Value).toArray s 0 0 A) (F0 m 5 ls []) := by
    intro f
    induction f with
    | zero =>
      intro v1 z H locs ls h
      rw [FX2_both_L5] at h
      cases h
    | succ f ih4 =>
      intro v1 z H locs ls h hO hS hl
      rw [FX2_both_L5] at h
      refine lv_aload_n hx hb dX2_both_5 rfl (lv_at hl 0 rfl) ?_
      refine lv_bipush (v := 38) hx hb dX2_both_6 (by decide) ?_
      obtain ⟨r5, e6, h⟩ := bn1_e h
      refine clX2_isAt hf hK hO (metX2_isAt l D aC o ad 38 z r5 e6) q1755 hl.1 (Nat.le_of_ble_eq_true rfl) ⟨by dsimp only; omega, by dsimp only; omega⟩ ⟨Nat.le_of_ble_eq_true rfl, Nat.le_of_ble_eq_true rfl⟩ dX2_both_8 ?_
      refine lv_if_eq (tgt := 46) hx hb dX2_both_11 (by decide) (fun c7 => ?_) (fun c7 => ?_)
      · have h := it_t c7 h
        refine lv_iload_n hx hb dX2_both_46 rfl (lv_at hl 1 rfl) ?_
        obtain ⟨e8, rfl⟩ := Prod.mk.inj (Option.some.inj h)
        exact g_retG hx hb hr hlocks e8 hO hS dX2_both_47
      · have h := it_f c7 h
        refine lv_aload_n hx hb dX2_both_14 rfl (lv_at hl 0 rfl) ?_
        refine lv_dup hx hb dX2_both_15 rfl ?_
        refine X2_getF hx hb hts hown hK hO 15 (by decide) rfl (hts _ q1552) dX2_both_16 ?_
        refine lv_iconst (v := 1) hx hb dX2_both_19 (by decide) ?_
        refine lv_iadd hx hb dX2_both_20 ?_
        refine X2_putF hx hb hts hown hK hO hD hS 15 (by decide) rfl (hts _ q1552) rfl (ty := .int) rfl rfl rfl dX2_both_21 (fun H locs z8 ez8 hO hS => ?_)
        have h := pin_to ez8 h
        refine lv_aload_n hx hb dX2_both_24 rfl (lv_at hl 0 rfl) ?_
        obtain ⟨r9, z10, e11, h⟩ := bnd_e h
        refine clX2_compared hf hK hO hS (metX2_compared l D aC o ad A hD n rec hrec z8 r9 z10 e11) q1731 hl.1 (Nat.le_of_ble_eq_true rfl) ⟨by dsimp only; omega, by dsimp only; omega⟩ ⟨Nat.le_of_ble_eq_true rfl, Nat.le_of_ble_eq_true rfl⟩ dX2_both_25 (fun H locs hO hS => ?_)
        refine lv_istore_n (lv' := [(2, .int r9), (0, .ref o), (1, .int v1)]) hx hb dX2_both_28 rfl hl (by decide) rfl (fun ls hl => ?_)
        refine lv_iload_n hx hb dX2_both_29 rfl (lv_at hl 2 rfl) ?_
        obtain ⟨k13, e14, h⟩ := pin_nm2 h
        have hk13 : ∀ (u12 : Int32) (ls : Array Slot), k13 u12 = some (r, zq) → lv_has ls 3 [(0, .ref o)] → W p l e ({ frames := 6 * n + 4, cells := 0, slots := 0, locals := 137 * n + 93 }) s m ([.ref o] : List Value).toArray below meth c H locs 0 0 (MQ below (QG (some (.int r)) (OM D aC o ad zq) A) ([.ref o] : List Value).toArray s 0 0 A) (F0 m 42 ls [.int u12]) := by
          intro u12 ls h hl
          rw [e14] at h
          refine lv_istore_n (lv' := [(1, .int u12), (0, .ref o)]) hx hb dX2_both_42 rfl hl (by decide) rfl (fun ls hl => ?_)
          refine lv_goto (tgt := 5) hx hb dX2_both_43 (by decide) ?_
          exact ih4 _ _ _ _ _ h hO hS (lv_sub hl [1, 0] rfl)
        refine lv_if_eq (tgt := 41) hx hb dX2_both_30 (by decide) (fun c15 => ?_) (fun c15 => ?_)
        · have h := pt_t (k := k13) c15 h
          refine lv_iconst (v := 0) hx hb dX2_both_41 (by decide) ?_
          exact hk13 _ _ h (lv_sub hl [1] rfl)
        · have h := pt_f (k := k13) c15 h
          refine lv_iload_n hx hb dX2_both_33 rfl (lv_at hl 0 rfl) ?_
          refine lv_if_eq (tgt := 41) hx hb dX2_both_34 (by decide) (fun c16 => ?_) (fun c16 => ?_)
          · have h := pt_t (k := k13) c16 h
            refine lv_iconst (v := 0) hx hb dX2_both_41 (by decide) ?_
            exact hk13 _ _ h (lv_sub hl [1] rfl)
          · have h := pt_f (k := k13) c16 h
            refine lv_iconst (v := 1) hx hb dX2_both_37 (by decide) ?_
            refine lv_goto (tgt := 42) hx hb dX2_both_38 (by decide) ?_
            exact hk13 _ _ h (lv_sub hl [1] rfl)
  exact key17 FU _ _ _ _ _ h hO hS (lv_sub hl [1, 0] rfl)
theorem clX2_both {p : Program} {l : Launch} {e : Env} {R : Room} {s : State} {m : MethodId} {args : Array Value} {below : List Frame} {meth : Method} {c : Code} {H : Heap} {locs : List Loc} {cells slots : Nat} {Q : State → Prop} {cc : ByteArray} {pc nL idx fr lo : Nat} {ls : Array Slot} {rest : List Value} {own : String} {D : va_G} {aC : Nat → ClassId} {o : Nat} {ad : Nat → Nat} {z : GS} {zq : GS} {A : Nat → Prop}  {r : Int32} (hf : CallFix p m c cc nL s args lw_all own) (hK : va_K D vwCl (tysG aC) s) (hO : OM D aC o ad z H) (hS : va_S A s.heap H locs) (hM : Met l yX2_both (ws_ yX2_both cX2_both 3 (some .int)) ({ frames := fr, cells := 0, slots := 0, locals := lo }) (va_Pc [.ref o] (PM D aC o ad z)) (QG (some (.int r)) (OM D aC o ad zq) A) 0 0 A) (hq : Cond.methodLink own idx yX2_both ∈ lw_all) (hs : ls.size = nL) (hr : (rest.map fun v => v.category).sum ≤ 8) (hR : fr + 1 ≤ R.frames ∧ 8 + (3 + 11) + lo ≤ R.locals) (hcs : cells + 0 ≤ R.cells ∧ slots + 0 ≤ R.slots) (hd : decode cc pc = .ok (.invokevirtual idx, 3)) (kk : ∀ (H1 : Heap) (locs1 : List Loc), OM D aC o ad zq H1 → va_S A s.heap H1 locs1 → W p l e R s m args below meth c H1 locs1 cells slots Q (F0 m (pc + 3) ls (.int r :: rest))) : W p l e R s m args below meth c H locs cells slots Q (F0 m pc ls (.ref o :: rest)) :=
  g_callG (W.runV (As := []) (rest := rest) hf hM (cwV 0 hf.2.2.2.2 (lw_V hq q1729 qs56 q92 q1730) rfl rfl rfl (by decide +kernel) hR) ⟨fun a U g mk q => ⟨q.1, q.2.1, va_K.moved (u := U) (U := U.calling g mk a) (Vm.Alike.refl U.vm) q.2.2⟩, OA.recv hK hO rfl, fun U hU hW => ⟨rfl, by rw [hU]; exact hO, va_K.moved hW.alike hK⟩⟩ rfl rfl hs rfl (lv_room hr) hd hcs) hS (fun H1 locs1 hP hS _ _ => kk H1 locs1 hP hS)
theorem metX2_any (l : Launch) (D : va_G) (aC : Nat → ClassId) (o : Nat) (ad : Nat → Nat) (A : Nat → Prop) (hD : OD A 44 kdM o ad) (n : Nat) (rec : GS → Option (Int32 × GS)) (hrec : ∀  (z : GS) (r : Int32) (zq : GS), rec z = some (r, zq) → Met l yX2_one (ws_ yX2_one cX2_one 4 (some .int)) ({ frames := 6 * n, cells := 0, slots := 0, locals := 137 * n }) (va_Pc [.ref o] (PM D aC o ad z)) (QG (some (.int r)) (OM D aC o ad zq) A) 0 0 A)  (z : GS) (r : Int32) (zq : GS) (h : FX2_any rec z = some (r, zq)) : Met l yX2_any (ws_ yX2_any cX2_any 3 (some .int)) ({ frames := 6 * n + 5, cells := 0, slots := 0, locals := 137 * n + 115 }) (va_Pc [.ref o] (PM D aC o ad z)) (QG (some (.int r)) (OM D aC o ad zq) A) 0 0 A := by
  refine g_ofW (cc := cX2_any) (maxL := 3) (ret := (some .int)) (own := RX2) (by decide) rfl rfl [.ref o] (PM D aC o ad z) (Nat.le_of_ble_eq_true rfl) ?_
  intro p e s m below meth c ls hx hb hr hml hts hown hlocks hnm hPre hl
  obtain ⟨hO, hK⟩ := hPre
  have hf : CallFix p m c cX2_any 3 s _ lw_all RX2 := ⟨hx, hb, hml, hown, hts⟩
  have hl : lv_has ls 3 [(0, .ref o)] := hl
  refine g_open (A := A) (OM D aC o ad z) hO (fun H locs hO hS => ?_)
  unfold FX2_any at h
  refine lv_aload_n hx hb dX2_any_0 rfl (lv_at hl 0 rfl) ?_
  obtain ⟨r1, z2, e3, h⟩ := bnd_e h
  refine clX2_both hf hK hO hS (metX2_both l D aC o ad A hD n rec hrec z r1 z2 e3) q1727 hl.1 (Nat.le_of_ble_eq_true rfl) ⟨by dsimp only; omega, by dsimp only; omega⟩ ⟨Nat.le_of_ble_eq_true rfl, Nat.le_of_ble_eq_true rfl⟩ dX2_any_1 (fun H locs hO hS => ?_)
  refine lv_istore_n (lv' := [(1, .int r1), (0, .ref o)]) hx hb dX2_any_4 rfl hl (by decide) rfl (fun ls hl => ?_)
  have key17 : ∀ (f : Nat) (v1 : Int32) (z : GS) (H : Heap) (locs : List Loc) (ls : Array Slot), FX2_any_L5 rec f v1 z = some (r, zq) → OM D aC o ad z H → va_S A s.heap H locs → lv_has ls 3 [(0, .ref o), (1, .int v1)] → W p l e ({ frames := 6 * n + 5, cells := 0, slots := 0, locals := 137 * n + 115 }) s m ([.ref o] : List Value).toArray below meth c H locs 0 0 (MQ below (QG (some (.int r)) (OM D aC o ad zq) A) ([.ref o] : List Value).toArray s 0 0 A) (F0 m 5 ls []) := by
    intro f
    induction f with
    | zero =>
      intro v1 z H locs ls h
      rw [FX2_any_L5] at h
      cases h
    | succ f ih4 =>
      intro v1 z H locs ls h hO hS hl
      rw [FX2_any_L5] at h
      refine lv_aload_n hx hb dX2_any_5 rfl (lv_at hl 0 rfl) ?_
      refine lv_bipush (v := 124) hx hb dX2_any_6 (by decide) ?_
      obtain ⟨r5, e6, h⟩ := bn1_e h
      refine clX2_isAt hf hK hO (metX2_isAt l D aC o ad 124 z r5 e6) q1755 hl.1 (Nat.le_of_ble_eq_true rfl) ⟨by dsimp only; omega, by dsimp only; omega⟩ ⟨Nat.le_of_ble_eq_true rfl, Nat.le_of_ble_eq_true rfl⟩ dX2_any_8 ?_
      refine lv_if_eq (tgt := 46) hx hb dX2_any_11 (by decide) (fun c7 => ?_) (fun c7 => ?_)
      · have h := it_t c7 h
        refine lv_iload_n hx hb dX2_any_46 rfl (lv_at hl 1 rfl) ?_
        obtain ⟨e8, rfl⟩ := Prod.mk.inj (Option.some.inj h)
        exact g_retG hx hb hr hlocks e8 hO hS dX2_any_47
      · have h := it_f c7 h
        refine lv_aload_n hx hb dX2_any_14 rfl (lv_at hl 0 rfl) ?_
        refine lv_dup hx hb dX2_any_15 rfl ?_
        refine X2_getF hx hb hts hown hK hO 15 (by decide) rfl (hts _ q1552) dX2_any_16 ?_
        refine lv_iconst (v := 1) hx hb dX2_any_19 (by decide) ?_
        refine lv_iadd hx hb dX2_any_20 ?_
        refine X2_putF hx hb hts hown hK hO hD hS 15 (by decide) rfl (hts _ q1552) rfl (ty := .int) rfl rfl rfl dX2_any_21 (fun H locs z8 ez8 hO hS => ?_)
        have h := pin_to ez8 h
        refine lv_aload_n hx hb dX2_any_24 rfl (lv_at hl 0 rfl) ?_
        obtain ⟨r9, z10, e11, h⟩ := bnd_e h
        refine clX2_both hf hK hO hS (metX2_both l D aC o ad A hD n rec hrec z8 r9 z10 e11) q1727 hl.1 (Nat.le_of_ble_eq_true rfl) ⟨by dsimp only; omega, by dsimp only; omega⟩ ⟨Nat.le_of_ble_eq_true rfl, Nat.le_of_ble_eq_true rfl⟩ dX2_any_25 (fun H locs hO hS => ?_)
        refine lv_istore_n (lv' := [(2, .int r9), (0, .ref o), (1, .int v1)]) hx hb dX2_any_28 rfl hl (by decide) rfl (fun ls hl => ?_)
        refine lv_iload_n hx hb dX2_any_29 rfl (lv_at hl 2 rfl) ?_
        obtain ⟨k13, e14, h⟩ := pin_nm2 h
        have hk13 : ∀ (u12 : Int32) (ls : Array Slot), k13 u12 = some (r, zq) → lv_has ls 3 [(0, .ref o)] → W p l e ({ frames := 6 * n + 5, cells := 0, slots := 0, locals := 137 * n + 115 }) s m ([.ref o] : List Value).toArray below meth c H locs 0 0 (MQ below (QG (some (.int r)) (OM D aC o ad zq) A) ([.ref o] : List Value).toArray s 0 0 A) (F0 m 42 ls [.int u12]) := by
          intro u12 ls h hl
          rw [e14] at h
          refine lv_istore_n (lv' := [(1, .int u12), (0, .ref o)]) hx hb dX2_any_42 rfl hl (by decide) rfl (fun ls hl => ?_)
          refine lv_goto (tgt := 5) hx hb dX2_any_43 (by decide) ?_
          exact ih4 _ _ _ _ _ h hO hS (lv_sub hl [1, 0] rfl)
        refine lv_if_ne (tgt := 37) hx hb dX2_any_30 (by decide) (fun c15 => ?_) (fun c15 => ?_)
        · have h := pt_f (k := k13) c15 h
          refine lv_iconst (v := 1) hx hb dX2_any_37 (by decide) ?_
          refine lv_goto (tgt := 42) hx hb dX2_any_38 (by decide) ?_
          exact hk13 _ _ h (lv_sub hl [1] rfl)
        · have h := pt_t (k := k13) c15 h
          refine lv_iload_n hx hb dX2_any_33 rfl (lv_at hl 0 rfl) ?_
          refine lv_if_eq (tgt := 41) hx hb dX2_any_34 (by decide) (fun c16 => ?_) (fun c16 => ?_)
          · have h := pt_t (k := k13) c16 h
            refine lv_iconst (v := 0) hx hb dX2_any_41 (by decide) ?_
            exact hk13 _ _ h (lv_sub hl [1] rfl)
          · have h := pt_f (k := k13) c16 h
            refine lv_iconst (v := 1) hx hb dX2_any_37 (by decide) ?_
            refine lv_goto (tgt := 42) hx hb dX2_any_38 (by decide) ?_
            exact hk13 _ _ h (lv_sub hl [1] rfl)
  exact key17 FU _ _ _ _ _ h hO hS (lv_sub hl [1, 0] rfl)
theorem clX2_any {p : Program} {l : Launch} {e : Env} {R : Room} {s : State} {m : MethodId} {args : Array Value} {below : List Frame} {meth : Method} {c : Code} {H : Heap} {locs : List Loc} {cells slots : Nat} {Q : State → Prop} {cc : ByteArray} {pc nL idx fr lo : Nat} {ls : Array Slot} {rest : List Value} {own : String} {D : va_G} {aC : Nat → ClassId} {o : Nat} {ad : Nat → Nat} {z : GS} {zq : GS} {A : Nat → Prop}  {r : Int32} (hf : CallFix p m c cc nL s args lw_all own) (hK : va_K D vwCl (tysG aC) s) (hO : OM D aC o ad z H) (hS : va_S A s.heap H locs) (hM : Met l yX2_any (ws_ yX2_any cX2_any 3 (some .int)) ({ frames := fr, cells := 0, slots := 0, locals := lo }) (va_Pc [.ref o] (PM D aC o ad z)) (QG (some (.int r)) (OM D aC o ad zq) A) 0 0 A) (hq : Cond.methodLink own idx yX2_any ∈ lw_all) (hs : ls.size = nL) (hr : (rest.map fun v => v.category).sum ≤ 8) (hR : fr + 1 ≤ R.frames ∧ 8 + (3 + 11) + lo ≤ R.locals) (hcs : cells + 0 ≤ R.cells ∧ slots + 0 ≤ R.slots) (hd : decode cc pc = .ok (.invokevirtual idx, 3)) (kk : ∀ (H1 : Heap) (locs1 : List Loc), OM D aC o ad zq H1 → va_S A s.heap H1 locs1 → W p l e R s m args below meth c H1 locs1 cells slots Q (F0 m (pc + 3) ls (.int r :: rest))) : W p l e R s m args below meth c H locs cells slots Q (F0 m pc ls (.ref o :: rest)) :=
  g_callG (W.runV (As := []) (rest := rest) hf hM (cwV 0 hf.2.2.2.2 (lw_V hq q1725 qs55 q92 q1726) rfl rfl rfl (by decide +kernel) hR) ⟨fun a U g mk q => ⟨q.1, q.2.1, va_K.moved (u := U) (U := U.calling g mk a) (Vm.Alike.refl U.vm) q.2.2⟩, OA.recv hK hO rfl, fun U hU hW => ⟨rfl, by rw [hU]; exact hO, va_K.moved hW.alike hK⟩⟩ rfl rfl hs rfl (lv_room hr) hd hcs) hS (fun H1 locs1 hP hS _ _ => kk H1 locs1 hP hS)
theorem metX2_oneb (l : Launch) (D : va_G) (aC : Nat → ClassId) (o : Nat) (ad : Nat → Nat) (A : Nat → Prop) (hD : OD A 44 kdM o ad) (n : Nat) (rec : GS → Option (Int32 × GS)) (hrec : ∀  (z : GS) (r : Int32) (zq : GS), rec z = some (r, zq) → Met l yX2_one (ws_ yX2_one cX2_one 4 (some .int)) ({ frames := 6 * n, cells := 0, slots := 0, locals := 137 * n }) (va_Pc [.ref o] (PM D aC o ad z)) (QG (some (.int r)) (OM D aC o ad zq) A) 0 0 A)  (z : GS) (r : Int32) (zq : GS) (h : FX2_oneb rec z = some (r, zq)) : Met l yX2_one (ws_ yX2_one cX2_one 4 (some .int)) ({ frames := 6 * (n + 1), cells := 0, slots := 0, locals := 137 * (n + 1) }) (va_Pc [.ref o] (PM D aC o ad z)) (QG (some (.int r)) (OM D aC o ad zq) A) 0 0 A := by
  refine g_ofW (cc := cX2_one) (maxL := 4) (ret := (some .int)) (own := RX2) (by decide) rfl rfl [.ref o] (PM D aC o ad z) (Nat.le_of_ble_eq_true rfl) ?_
  intro p e s m below meth c ls hx hb hr hml hts hown hlocks hnm hPre hl
  obtain ⟨hO, hK⟩ := hPre
  have hf : CallFix p m c cX2_one 4 s _ lw_all RX2 := ⟨hx, hb, hml, hown, hts⟩
  have hl : lv_has ls 4 [(0, .ref o)] := hl
  refine g_open (A := A) (OM D aC o ad z) hO (fun H locs hO hS => ?_)
  unfold FX2_oneb at h
  refine lv_iconst (v := 0) hx hb dX2_one_0 (by decide) ?_
  refine lv_istore_n (lv' := [(1, .int 0), (0, .ref o)]) hx hb dX2_one_1 rfl hl (by decide) rfl (fun ls hl => ?_)
  refine lv_aload_n hx hb dX2_one_2 rfl (lv_at hl 1 rfl) ?_
  obtain ⟨r1, e2, h⟩ := bn1_e h
  refine clX2_isDigit hf hK hO (metX2_isDigit l D aC o ad z r1 e2) q1747 hl.1 (Nat.le_of_ble_eq_true rfl) ⟨by dsimp only; omega, by dsimp only; omega⟩ ⟨Nat.le_of_ble_eq_true rfl, Nat.le_of_ble_eq_true rfl⟩ dX2_one_3 ?_
  refine lv_if_eq (tgt := 14) hx hb dX2_one_6 (by decide) (fun c3 => ?_) (fun c3 => ?_)
  · have h := it_t c3 h
    refine lv_aload_n hx hb dX2_one_14 rfl (lv_at hl 1 rfl) ?_
    refine lv_bipush (v := 33) hx hb dX2_one_15 (by decide) ?_
    obtain ⟨r4, e5, h⟩ := bn1_e h
    refine clX2_isAt hf hK hO (metX2_isAt l D aC o ad 33 z r4 e5) q1755 hl.1 (Nat.le_of_ble_eq_true rfl) ⟨by dsimp only; omega, by dsimp only; omega⟩ ⟨Nat.le_of_ble_eq_true rfl, Nat.le_of_ble_eq_true rfl⟩ dX2_one_17 ?_
    obtain ⟨k6, e61, h⟩ := pin_nm h
    have hk6 : ∀  (ls : Array Slot), k6  = some (r, zq) → lv_has ls 4 [(0, .ref o), (1, .int 0)] → W p l e ({ frames := 6 * (n + 1), cells := 0, slots := 0, locals := 137 * (n + 1) }) s m ([.ref o] : List Value).toArray below meth c H locs 0 0 (MQ below (QG (some (.int r)) (OM D aC o ad zq) A) ([.ref o] : List Value).toArray s 0 0 A) (F0 m 32 ls []) := by
      intro  ls h hl
      rw [e61] at h
      refine lv_aload_n hx hb dX2_one_32 rfl (lv_at hl 0 rfl) ?_
      refine lv_bipush (v := 33) hx hb dX2_one_33 (by decide) ?_
      obtain ⟨r7, e8, h⟩ := bn1_e h
      refine clX2_isAt hf hK hO (metX2_isAt l D aC o ad 33 z r7 e8) q1755 hl.1 (Nat.le_of_ble_eq_true rfl) ⟨by dsimp only; omega, by dsimp only; omega⟩ ⟨Nat.le_of_ble_eq_true rfl, Nat.le_of_ble_eq_true rfl⟩ dX2_one_35 ?_
      refine lv_istore_n (lv' := [(2, .int r7), (0, .ref o), (1, .int 0)]) hx hb dX2_one_38 rfl hl (by decide) rfl (fun ls hl => ?_)
      refine lv_aload_n hx hb dX2_one_39 rfl (lv_at hl 1 rfl) ?_
      obtain ⟨r9, z10, e11, h⟩ := bnd_e h
      refine clX2_opens hf hK hO hS (metX2_opens l D aC o ad A hD z r9 z10 e11) q1759 hl.1 (Nat.le_of_ble_eq_true rfl) ⟨by dsimp only; omega, by dsimp only; omega⟩ ⟨Nat.le_of_ble_eq_true rfl, Nat.le_of_ble_eq_true rfl⟩ dX2_one_40 (fun H locs hO hS => ?_)
      refine lv_if_eq (tgt := 80) hx hb dX2_one_43 (by decide) (fun c12 => ?_) (fun c12 => ?_)
      · have h := it_t c12 h
        refine lv_iload_n hx hb dX2_one_80 rfl (lv_at hl 2 rfl) ?_
        obtain ⟨e8, rfl⟩ := Prod.mk.inj (Option.some.inj h)
        exact g_retG hx hb hr hlocks e8 hO hS dX2_one_81
      · have h := it_f c12 h
        refine lv_aload_n hx hb dX2_one_46 rfl (lv_at hl 1 rfl) ?_
        obtain ⟨r13, z14, e15, h⟩ := bnd_e h
        refine clX2_one hf hK hO hS (hrec z10 r13 z14 e15) q1743 hl.1 (Nat.le_of_ble_eq_true rfl) ⟨by dsimp only; omega, by dsimp only; omega⟩ ⟨Nat.le_of_ble_eq_true rfl, Nat.le_of_ble_eq_true rfl⟩ dX2_one_47 (fun H locs hO hS => ?_)
        refine lv_istore_n (lv' := [(3, .int r13), (2, .int r7), (0, .ref o), (1, .int 0)]) hx hb dX2_one_50 rfl hl (by decide) rfl (fun ls hl => ?_)
        refine lv_iload_n hx hb dX2_one_51 rfl (lv_at hl 1 rfl) ?_
        obtain ⟨k17, e19, h⟩ := pin_nm2 h
        have hk17 : ∀ (u16 : Int32) (ls : Array Slot), k17 u16 = some (r, zq) → lv_has ls 4 [(0, .ref o)] → W p l e ({ frames := 6 * (n + 1), cells := 0, slots := 0, locals := 137 * (n + 1) }) s m ([.ref o] : List Value).toArray below meth c H locs 0 0 (MQ below (QG (some (.int r)) (OM D aC o ad zq) A) ([.ref o] : List Value).toArray s 0 0 A) (F0 m 69 ls [.int u16]) := by
          intro u16 ls h hl
          rw [e19] at h
          refine lv_istore_n (lv' := [(1, .int u16), (0, .ref o)]) hx hb dX2_one_69 rfl hl (by decide) rfl (fun ls hl => ?_)
          refine lv_aload_n hx hb dX2_one_70 rfl (lv_at hl 1 rfl) ?_
          refine lv_dup hx hb dX2_one_71 rfl ?_
          refine X2_getF hx hb hts hown hK hO 17 (by decide) rfl (hts _ q1554) dX2_one_72 ?_
          refine lv_iconst (v := 1) hx hb dX2_one_75 (by decide) ?_
          refine lv_isub hx hb dX2_one_76 ?_
          refine X2_putF hx hb hts hown hK hO hD hS 17 (by decide) rfl (hts _ q1554) rfl (ty := .int) rfl rfl rfl dX2_one_77 (fun H locs z18 ez18 hO hS => ?_)
          have h := pin_to ez18 h
          refine lv_iload_n hx hb dX2_one_80 rfl (lv_at hl 0 rfl) ?_
          obtain ⟨e8, rfl⟩ := Prod.mk.inj (Option.some.inj h)
          exact g_retG hx hb hr hlocks e8 hO hS dX2_one_81
        refine lv_if_eq (tgt := 67) hx hb dX2_one_52 (by decide) (fun c20 => ?_) (fun c20 => ?_)
        · have h := pt_t (k := k17) c20 h
          refine lv_iload_n hx hb dX2_one_67 rfl (lv_at hl 0 rfl) ?_
          refine lv_ineg hx hb dX2_one_68 ?_
          exact hk17 _ _ h (lv_sub hl [2] rfl)
        · have h := pt_f (k := k17) c20 h
          refine lv_iload_n hx hb dX2_one_55 rfl (lv_at hl 0 rfl) ?_
          refine lv_if_ne (tgt := 63) hx hb dX2_one_56 (by decide) (fun c21 => ?_) (fun c21 => ?_)
          · have h := pt_f (k := k17) c21 h
            refine lv_iconst (v := 0) hx hb dX2_one_63 (by decide) ?_
            refine lv_goto (tgt := 69) hx hb dX2_one_64 (by decide) ?_
            exact hk17 _ _ h (lv_sub hl [2] rfl)
          · have h := pt_t (k := k17) c21 h
            refine lv_iconst (v := 1) hx hb dX2_one_59 (by decide) ?_
            refine lv_goto (tgt := 69) hx hb dX2_one_60 (by decide) ?_
            exact hk17 _ _ h (lv_sub hl [2] rfl)
    refine lv_if_ne (tgt := 32) hx hb dX2_one_20 (by decide) (fun c22 => ?_) (fun c22 => ?_)
    · have h := it_f c22 h
      exact hk6 _ h (lv_sub hl [1, 0] rfl)
    · have h := it_t c22 h
      refine lv_aload_n hx hb dX2_one_23 rfl (lv_at hl 1 rfl) ?_
      refine lv_bipush (v := 45) hx hb dX2_one_24 (by decide) ?_
      obtain ⟨r23, e24, h⟩ := bn1_e h
      refine clX2_isAt hf hK hO (metX2_isAt l D aC o ad 45 z r23 e24) q1755 hl.1 (Nat.le_of_ble_eq_true rfl) ⟨by dsimp only; omega, by dsimp only; omega⟩ ⟨Nat.le_of_ble_eq_true rfl, Nat.le_of_ble_eq_true rfl⟩ dX2_one_26 ?_
      refine lv_if_eq (tgt := 82) hx hb dX2_one_29 (by decide) (fun c25 => ?_) (fun c25 => ?_)
      · have h := it_t c25 h
        refine lv_aload_n hx hb dX2_one_82 rfl (lv_at hl 1 rfl) ?_
        refine lv_bipush (v := 40) hx hb dX2_one_83 (by decide) ?_
        obtain ⟨r26, e27, h⟩ := bn1_e h
        refine clX2_isAt hf hK hO (metX2_isAt l D aC o ad 40 z r26 e27) q1755 hl.1 (Nat.le_of_ble_eq_true rfl) ⟨by dsimp only; omega, by dsimp only; omega⟩ ⟨Nat.le_of_ble_eq_true rfl, Nat.le_of_ble_eq_true rfl⟩ dX2_one_85 ?_
        refine lv_if_eq (tgt := 146) hx hb dX2_one_88 (by decide) (fun c28 => ?_) (fun c28 => ?_)
        · have h := it_t c28 h
          refine lv_iconst (v := 0) hx hb dX2_one_146 (by decide) ?_
          refine lv_istore_n (lv' := [(2, .int 0), (1, .int 0), (0, .ref o)]) hx hb dX2_one_147 rfl hl (by decide) rfl (fun ls hl => ?_)
          obtain ⟨k29, e43, h⟩ := pin_nm h
          have hk29 : ∀  (ls : Array Slot), k29  = some (r, zq) → lv_has ls 4 [(0, .ref o)] → W p l e ({ frames := 6 * (n + 1), cells := 0, slots := 0, locals := 137 * (n + 1) }) s m ([.ref o] : List Value).toArray below meth c H locs 0 0 (MQ below (QG (some (.int r)) (OM D aC o ad zq) A) ([.ref o] : List Value).toArray s 0 0 A) (F0 m 190 ls []) := by
            intro  ls h hl
            rw [e43] at h
            refine lv_aload_n hx hb dX2_one_190 rfl (lv_at hl 0 rfl) ?_
            refine lv_iconst (v := 0) hx hb dX2_one_191 (by decide) ?_
            refine X2_putF hx hb hts hown hK hO hD hS 16 (by decide) rfl (hts _ q1553) rfl (ty := .boolean) rfl rfl rfl dX2_one_192 (fun H locs z30 ez30 hO hS => ?_)
            have h := pin_to ez30 h
            refine lv_iconst (v := 0) hx hb dX2_one_195 (by decide) ?_
            obtain ⟨e8, rfl⟩ := Prod.mk.inj (Option.some.inj h)
            exact g_retG hx hb hr hlocks e8 hO hS dX2_one_196
          obtain ⟨k31, e42, h⟩ := pin_nm h
          have hk31 : ∀ (v32 : Int32) (ls : Array Slot), k31 v32 = some (r, zq) → lv_has ls 4 [(0, .ref o), (2, .int v32)] → W p l e ({ frames := 6 * (n + 1), cells := 0, slots := 0, locals := 137 * (n + 1) }) s m ([.ref o] : List Value).toArray below meth c H locs 0 0 (MQ below (QG (some (.int r)) (OM D aC o ad zq) A) ([.ref o] : List Value).toArray s 0 0 A) (F0 m 167 ls []) := by
            intro v32 ls h hl
            rw [e42] at h
            refine lv_aload_n hx hb dX2_one_167 rfl (lv_at hl 0 rfl) ?_
            refine lv_dup hx hb dX2_one_168 rfl ?_
            refine X2_getF hx hb hts hown hK hO 15 (by decide) rfl (hts _ q1552) dX2_one_169 ?_
            refine lv_iconst (v := 1) hx hb dX2_one_172 (by decide) ?_
            refine lv_iadd hx hb dX2_one_173 ?_
            refine X2_putF hx hb hts hown hK hO hD hS 15 (by decide) rfl (hts _ q1552) rfl (ty := .int) rfl rfl rfl dX2_one_174 (fun H locs z33 ez33 hO hS => ?_)
            have h := pin_to ez33 h
            refine lv_aload_n hx hb dX2_one_177 rfl (lv_at hl 0 rfl) ?_
            refine X2_getA hx hb hts hown hK hO 18 (by decide) rfl (hts _ q1555) dX2_one_178 ?_
            refine lv_iload_n hx hb dX2_one_181 rfl (lv_at hl 1 rfl) ?_
            obtain ⟨g34, h⟩ := grd h
            refine X2_iaload hx hb hK hO 18 (by decide) rfl rfl g34 dX2_one_182 ?_
            obtain ⟨e8, rfl⟩ := Prod.mk.inj (Option.some.inj h)
            exact g_retG hx hb hr hlocks e8 hO hS dX2_one_183
          have key41 : ∀ (f : Nat) (v2 : Int32) (ls : Array Slot), FX2_one_L148 rec k29 k31 z f v2 = some (r, zq) → lv_has ls 4 [(0, .ref o), (2, .int v2)] → W p l e ({ frames := 6 * (n + 1), cells := 0, slots := 0, locals := 137 * (n + 1) }) s m ([.ref o] : List Value).toArray below meth c H locs 0 0 (MQ below (QG (some (.int r)) (OM D aC o ad zq) A) ([.ref o] : List Value).toArray s 0 0 A) (F0 m 148 ls []) := by
            intro f
            induction f with
            | zero =>
              intro v2 ls h
              rw [FX2_one_L148] at h
              cases h
            | succ f ih35 =>
              intro v2 ls h hl
              rw [FX2_one_L148] at h
              refine lv_iload_n hx hb dX2_one_148 rfl (lv_at hl 1 rfl) ?_
              refine lv_bipush (v := 6) hx hb dX2_one_149 (by decide) ?_
              refine lv_icmp_ge (tgt := 190) hx hb dX2_one_151 (by decide) (fun c36 => ?_) (fun c36 => ?_)
              · have h := it_t c36 h
                exact hk29 _ h (lv_sub hl [0] rfl)
              · have h := it_f c36 h
                refine lv_aload_n hx hb dX2_one_154 rfl (lv_at hl 0 rfl) ?_
                refine lv_aload_n hx hb dX2_one_155 rfl (lv_at hl 0 rfl) ?_
                refine X2_getA hx hb hts hown hK hO 19 (by decide) rfl (hts _ q1556) dX2_one_156 ?_
                refine lv_iload_n hx hb dX2_one_159 rfl (lv_at hl 1 rfl) ?_
                obtain ⟨g37, h⟩ := grd h
                refine X2_caload hx hb hK hO 19 (by decide) rfl rfl g37 dX2_one_160 ?_
                obtain ⟨r38, e39, h⟩ := bn1_e h
                refine clX2_isAt hf hK hO (metX2_isAt l D aC o ad (gI z 19 v2) z r38 e39) q1755 hl.1 (Nat.le_of_ble_eq_true rfl) ⟨by dsimp only; omega, by dsimp only; omega⟩ ⟨Nat.le_of_ble_eq_true rfl, Nat.le_of_ble_eq_true rfl⟩ dX2_one_161 ?_
                refine lv_if_eq (tgt := 184) hx hb dX2_one_164 (by decide) (fun c40 => ?_) (fun c40 => ?_)
                · have h := it_t c40 h
                  refine lv_iinc (v := (v2 + 1)) (lv' := [(2, .int (v2 + 1)), (0, .ref o)]) hx hb dX2_one_184 hl (k := 1) rfl rfl (by decide) rfl (fun ls hl => ?_)
                  refine lv_goto (tgt := 148) hx hb dX2_one_187 (by decide) ?_
                  exact ih35 _ _ h (lv_sub hl [1, 0] rfl)
                · have h := it_f c40 h
                  exact hk31 _ _ h (lv_sub hl [0, 1] rfl)
          exact key41 FU _ _ h (lv_sub hl [2, 0] rfl)
        · have h := it_f c28 h
          refine lv_aload_n hx hb dX2_one_91 rfl (lv_at hl 1 rfl) ?_
          obtain ⟨r44, z45, e46, h⟩ := bnd_e h
          refine clX2_opens hf hK hO hS (metX2_opens l D aC o ad A hD z r44 z45 e46) q1759 hl.1 (Nat.le_of_ble_eq_true rfl) ⟨by dsimp only; omega, by dsimp only; omega⟩ ⟨Nat.le_of_ble_eq_true rfl, Nat.le_of_ble_eq_true rfl⟩ dX2_one_92 (fun H locs hO hS => ?_)
          refine lv_if_eq (tgt := 144) hx hb dX2_one_95 (by decide) (fun c47 => ?_) (fun c47 => ?_)
          · have h := it_t c47 h
            refine lv_iload_n hx hb dX2_one_144 rfl (lv_at hl 0 rfl) ?_
            obtain ⟨e8, rfl⟩ := Prod.mk.inj (Option.some.inj h)
            exact g_retG hx hb hr hlocks e8 hO hS dX2_one_145
          · have h := it_f c47 h
            refine lv_aload_n hx hb dX2_one_98 rfl (lv_at hl 1 rfl) ?_
            obtain ⟨r48, z49, e50, h⟩ := bnd_e h
            refine clX2_any hf hK hO hS (metX2_any l D aC o ad A hD n rec hrec z45 r48 z49 e50) q1723 hl.1 (Nat.le_of_ble_eq_true rfl) ⟨by dsimp only; omega, by dsimp only; omega⟩ ⟨Nat.le_of_ble_eq_true rfl, Nat.le_of_ble_eq_true rfl⟩ dX2_one_99 (fun H locs hO hS => ?_)
            refine lv_istore_n (lv' := [(1, .int r48), (0, .ref o)]) hx hb dX2_one_102 rfl hl (by decide) rfl (fun ls hl => ?_)
            refine lv_aload_n hx hb dX2_one_103 rfl (lv_at hl 1 rfl) ?_
            refine lv_aload_n hx hb dX2_one_104 rfl (lv_at hl 1 rfl) ?_
            refine lv_bipush (v := 41) hx hb dX2_one_105 (by decide) ?_
            obtain ⟨r51, e52, h⟩ := bn1_e h
            refine clX2_isAt hf hK hO (metX2_isAt l D aC o ad 41 z49 r51 e52) q1755 hl.1 (Nat.le_of_ble_eq_true rfl) ⟨by dsimp only; omega, by dsimp only; omega⟩ ⟨Nat.le_of_ble_eq_true rfl, Nat.le_of_ble_eq_true rfl⟩ dX2_one_107 ?_
            obtain ⟨g54, h⟩ := grd h
            refine X2_putF hx hb hts hown hK hO hD hS 16 (by decide) rfl (hts _ q1553) rfl (ty := .boolean) rfl (okZ_n g54).1 (okZ_n g54).2 dX2_one_110 (fun H locs z53 ez53 hO hS => ?_)
            have h := pin_to ez53 h
            refine lv_aload_n hx hb dX2_one_113 rfl (lv_at hl 1 rfl) ?_
            refine lv_dup hx hb dX2_one_114 rfl ?_
            refine X2_getF hx hb hts hown hK hO 15 (by decide) rfl (hts _ q1552) dX2_one_115 ?_
            refine lv_aload_n hx hb dX2_one_118 rfl (lv_at hl 1 rfl) ?_
            refine X2_getF hx hb hts hown hK hO 16 (by decide) rfl (hts _ q1553) dX2_one_119 ?_
            obtain ⟨k56, e59, h⟩ := pin_nm2 h
            have hk56 : ∀ (u55 : Int32) (ls : Array Slot), k56 u55 = some (r, zq) → lv_has ls 4 [(0, .ref o), (1, .int r48)] → W p l e ({ frames := 6 * (n + 1), cells := 0, slots := 0, locals := 137 * (n + 1) }) s m ([.ref o] : List Value).toArray below meth c H locs 0 0 (MQ below (QG (some (.int r)) (OM D aC o ad zq) A) ([.ref o] : List Value).toArray s 0 0 A) (F0 m 130 ls [.int u55, .int (gF z53 15), .ref o]) := by
              intro u55 ls h hl
              rw [e59] at h
              refine lv_iadd hx hb dX2_one_130 ?_
              refine X2_putF hx hb hts hown hK hO hD hS 15 (by decide) rfl (hts _ q1552) rfl (ty := .int) rfl rfl rfl dX2_one_131 (fun H locs z57 ez57 hO hS => ?_)
              have h := pin_to ez57 h
              refine lv_aload_n hx hb dX2_one_134 rfl (lv_at hl 0 rfl) ?_
              refine lv_dup hx hb dX2_one_135 rfl ?_
              refine X2_getF hx hb hts hown hK hO 17 (by decide) rfl (hts _ q1554) dX2_one_136 ?_
              refine lv_iconst (v := 1) hx hb dX2_one_139 (by decide) ?_
              refine lv_isub hx hb dX2_one_140 ?_
              refine X2_putF hx hb hts hown hK hO hD hS 17 (by decide) rfl (hts _ q1554) rfl (ty := .int) rfl rfl rfl dX2_one_141 (fun H locs z58 ez58 hO hS => ?_)
              have h := pin_to ez58 h
              refine lv_iload_n hx hb dX2_one_144 rfl (lv_at hl 1 rfl) ?_
              obtain ⟨e8, rfl⟩ := Prod.mk.inj (Option.some.inj h)
              exact g_retG hx hb hr hlocks e8 hO hS dX2_one_145
            refine lv_if_eq (tgt := 129) hx hb dX2_one_122 (by decide) (fun c60 => ?_) (fun c60 => ?_)
            · have h := pt_t (k := k56) c60 h
              refine lv_iconst (v := 0) hx hb dX2_one_129 (by decide) ?_
              exact hk56 _ _ h (lv_sub hl [1, 0] rfl)
            · have h := pt_f (k := k56) c60 h
              refine lv_iconst (v := 1) hx hb dX2_one_125 (by decide) ?_
              refine lv_goto (tgt := 130) hx hb dX2_one_126 (by decide) ?_
              exact hk56 _ _ h (lv_sub hl [1, 0] rfl)
      · have h := it_f c25 h
        exact hk6 _ h (lv_sub hl [1, 0] rfl)
  · have h := it_f c3 h
    refine lv_aload_n hx hb dX2_one_9 rfl (lv_at hl 1 rfl) ?_
    obtain ⟨r62, z63, e64, h⟩ := bnd_e h
    refine clX2_number hf hK hO hS (metX2_number l D aC o ad A hD z r62 z63 e64) q1751 hl.1 (Nat.le_of_ble_eq_true rfl) ⟨by dsimp only; omega, by dsimp only; omega⟩ ⟨Nat.le_of_ble_eq_true rfl, Nat.le_of_ble_eq_true rfl⟩ dX2_one_10 (fun H locs hO hS => ?_)
    obtain ⟨e8, rfl⟩ := Prod.mk.inj (Option.some.inj h)
    exact g_retG hx hb hr hlocks e8 hO hS dX2_one_13
theorem metX2_one (l : Launch) (D : va_G) (aC : Nat → ClassId) (o : Nat) (ad : Nat → Nat) (A : Nat → Prop) (hD : OD A 44 kdM o ad) (n : Nat) : ∀  (z : GS) (r : Int32) (zq : GS), FX2_one n z = some (r, zq) → Met l yX2_one (ws_ yX2_one cX2_one 4 (some .int)) ({ frames := 6 * n, cells := 0, slots := 0, locals := 137 * n }) (va_Pc [.ref o] (PM D aC o ad z)) (QG (some (.int r)) (OM D aC o ad zq) A) 0 0 A := by
  induction n with
  | zero =>
    intro z r zq h
    rw [FX2_one] at h
    cases h
  | succ n ih =>
    intro z r zq h
    rw [FX2_one] at h
    exact metX2_oneb l D aC o ad A hD n _ ih z r zq h
theorem metX2_gives (l : Launch) (D : va_G) (aC : Nat → ClassId) (o : Nat) (ad : Nat → Nat) (A : Nat → Prop) (hD : OD A 44 kdM o ad)  (z : GS) (r : Int32) (zq : GS) (h : FX2_gives z = some (r, zq)) : Met l yX2_gives (ws_ yX2_gives cX2_gives 6 (some .int)) ({ frames := 54, cells := 0, slots := 0, locals := 1233 }) (va_Pc [.ref o] (PM D aC o ad z)) (QG (some (.int r)) (OM D aC o ad zq) A) 0 0 A := by
  refine g_ofW (cc := cX2_gives) (maxL := 6) (ret := (some .int)) (own := RX2) (by decide) rfl rfl [.ref o] (PM D aC o ad z) (Nat.le_of_ble_eq_true rfl) ?_
  intro p e s m below meth c ls hx hb hr hml hts hown hlocks hnm hPre hl
  obtain ⟨hO, hK⟩ := hPre
  have hf : CallFix p m c cX2_gives 6 s _ lw_all RX2 := ⟨hx, hb, hml, hown, hts⟩
  have hl : lv_has ls 6 [(0, .ref o)] := hl
  refine g_open (A := A) (OM D aC o ad z) hO (fun H locs hO hS => ?_)
  unfold FX2_gives at h
  refine lv_aload_n hx hb dX2_gives_0 rfl (lv_at hl 0 rfl) ?_
  refine lv_iconst (v := 0) hx hb dX2_gives_1 (by decide) ?_
  refine X2_putF hx hb hts hown hK hO hD hS 15 (by decide) rfl (hts _ q1552) rfl (ty := .int) rfl rfl rfl dX2_gives_2 (fun H locs z1 ez1 hO hS => ?_)
  have h := pin_to ez1 h
  refine lv_aload_n hx hb dX2_gives_5 rfl (lv_at hl 0 rfl) ?_
  refine lv_iconst (v := 1) hx hb dX2_gives_6 (by decide) ?_
  refine X2_putF hx hb hts hown hK hO hD hS 16 (by decide) rfl (hts _ q1553) rfl (ty := .boolean) rfl rfl rfl dX2_gives_7 (fun H locs z2 ez2 hO hS => ?_)
  have h := pin_to ez2 h
  refine lv_aload_n hx hb dX2_gives_10 rfl (lv_at hl 0 rfl) ?_
  refine lv_iconst (v := 0) hx hb dX2_gives_11 (by decide) ?_
  refine X2_putF hx hb hts hown hK hO hD hS 17 (by decide) rfl (hts _ q1554) rfl (ty := .int) rfl rfl rfl dX2_gives_12 (fun H locs z3 ez3 hO hS => ?_)
  have h := pin_to ez3 h
  refine lv_iconst (v := 0) hx hb dX2_gives_15 (by decide) ?_
  refine lv_istore_n (lv' := [(1, .int 0), (0, .ref o)]) hx hb dX2_gives_16 rfl hl (by decide) rfl (fun ls hl => ?_)
  refine lv_iconst (v := 0) hx hb dX2_gives_17 (by decide) ?_
  refine lv_istore_n (lv' := [(2, .int 0), (1, .int 0), (0, .ref o)]) hx hb dX2_gives_18 rfl hl (by decide) rfl (fun ls hl => ?_)
  refine lv_iconst (v := 1) hx hb dX2_gives_19 (by decide) ?_
  refine lv_istore_n (lv' := [(3, .int 1), (2, .int 0), (1, .int 0), (0, .ref o)]) hx hb dX2_gives_20 rfl hl (by decide) rfl (fun ls hl => ?_)
  have key42 : ∀ (f : Nat) (v1 : Int32) (v2 : Int32) (v3 : Int32) (z : GS) (H : Heap) (locs : List Loc) (ls : Array Slot), FX2_gives_L21 f v1 v2 v3 z = some (r, zq) → OM D aC o ad z H → va_S A s.heap H locs → lv_has ls 6 [(0, .ref o), (1, .int v1), (2, .int v2), (3, .int v3)] → W p l e ({ frames := 54, cells := 0, slots := 0, locals := 1233 }) s m ([.ref o] : List Value).toArray below meth c H locs 0 0 (MQ below (QG (some (.int r)) (OM D aC o ad zq) A) ([.ref o] : List Value).toArray s 0 0 A) (F0 m 21 ls []) := by
    intro f
    induction f with
    | zero =>
      intro v1 v2 v3 z H locs ls h
      rw [FX2_gives_L21] at h
      cases h
    | succ f ih4 =>
      intro v1 v2 v3 z H locs ls h hO hS hl
      rw [FX2_gives_L21] at h
      refine lv_iload_n hx hb dX2_gives_21 rfl (lv_at hl 3 rfl) ?_
      refine lv_if_eq (tgt := 130) hx hb dX2_gives_22 (by decide) (fun c5 => ?_) (fun c5 => ?_)
      · have h := it_t c5 h
        refine lv_iload_n hx hb dX2_gives_130 rfl (lv_at hl 1 rfl) ?_
        obtain ⟨e8, rfl⟩ := Prod.mk.inj (Option.some.inj h)
        exact g_retG hx hb hr hlocks e8 hO hS dX2_gives_131
      · have h := it_f c5 h
        refine lv_aload_n hx hb dX2_gives_25 rfl (lv_at hl 0 rfl) ?_
        obtain ⟨r6, z7, e8, h⟩ := bnd_e h
        refine clX2_any hf hK hO hS (metX2_any l D aC o ad A hD 8 (FX2_one 8) (metX2_one l D aC o ad A hD 8) z r6 z7 e8) q1723 hl.1 (Nat.le_of_ble_eq_true rfl) ⟨Nat.le_of_ble_eq_true rfl, Nat.le_of_ble_eq_true rfl⟩ ⟨Nat.le_of_ble_eq_true rfl, Nat.le_of_ble_eq_true rfl⟩ dX2_gives_26 (fun H locs hO hS => ?_)
        refine lv_istore (lv' := [(4, .int r6), (0, .ref o), (1, .int v1), (2, .int v2), (3, .int v3)]) hx hb dX2_gives_29 hl (by decide) rfl (fun ls hl => ?_)
        refine lv_iconst (v := 1) hx hb dX2_gives_31 (by decide) ?_
        refine lv_istore (lv' := [(5, .int 1), (4, .int r6), (0, .ref o), (1, .int v1), (2, .int v2), (3, .int v3)]) hx hb dX2_gives_32 hl (by decide) rfl (fun ls hl => ?_)
        refine lv_aload_n hx hb dX2_gives_34 rfl (lv_at hl 2 rfl) ?_
        refine lv_bipush (v := 63) hx hb dX2_gives_35 (by decide) ?_
        obtain ⟨r9, e10, h⟩ := bn1_e h
        refine clX2_isAt hf hK hO (metX2_isAt l D aC o ad 63 z7 r9 e10) q1755 hl.1 (Nat.le_of_ble_eq_true rfl) ⟨Nat.le_of_ble_eq_true rfl, Nat.le_of_ble_eq_true rfl⟩ ⟨Nat.le_of_ble_eq_true rfl, Nat.le_of_ble_eq_true rfl⟩ dX2_gives_37 ?_
        obtain ⟨k11, e41, h⟩ := pin_nm h
        have hk11 : ∀ (v12 : Int32) (v13 : Int32) (z14 : GS) (H : Heap) (locs : List Loc) (ls : Array Slot), k11 v12 v13 z14 = some (r, zq) → OM D aC o ad z14 H → va_S A s.heap H locs → lv_has ls 6 [(0, .ref o), (1, .int v1), (2, .int v2), (4, .int v12), (5, .int v13)] → W p l e ({ frames := 54, cells := 0, slots := 0, locals := 1233 }) s m ([.ref o] : List Value).toArray below meth c H locs 0 0 (MQ below (QG (some (.int r)) (OM D aC o ad zq) A) ([.ref o] : List Value).toArray s 0 0 A) (F0 m 71 ls []) := by
          intro v12 v13 z14 H locs ls h hO hS hl
          rw [e41] at h
          refine lv_iload hx hb dX2_gives_71 (lv_at hl 4 rfl) ?_
          obtain ⟨k16, e29, h⟩ := pin_nm2 h
          have hk16 : ∀ (u15 : Int32) (ls : Array Slot), k16 u15 = some (r, zq) → lv_has ls 6 [(0, .ref o), (2, .int v2), (5, .int v13)] → W p l e ({ frames := 54, cells := 0, slots := 0, locals := 1233 }) s m ([.ref o] : List Value).toArray below meth c H locs 0 0 (MQ below (QG (some (.int r)) (OM D aC o ad zq) A) ([.ref o] : List Value).toArray s 0 0 A) (F0 m 86 ls [.int u15]) := by
            intro u15 ls h hl
            rw [e29] at h
            refine lv_istore_n (lv' := [(1, .int u15), (0, .ref o), (2, .int v2), (5, .int v13)]) hx hb dX2_gives_86 rfl hl (by decide) rfl (fun ls hl => ?_)
            refine lv_iload_n hx hb dX2_gives_87 rfl (lv_at hl 2 rfl) ?_
            obtain ⟨k18, e26, h⟩ := pin_nm2 h
            have hk18 : ∀ (u17 : Int32) (ls : Array Slot), k18 u17 = some (r, zq) → lv_has ls 6 [(0, .ref o), (1, .int u15)] → W p l e ({ frames := 54, cells := 0, slots := 0, locals := 1233 }) s m ([.ref o] : List Value).toArray below meth c H locs 0 0 (MQ below (QG (some (.int r)) (OM D aC o ad zq) A) ([.ref o] : List Value).toArray s 0 0 A) (F0 m 101 ls [.int u17]) := by
              intro u17 ls h hl
              rw [e26] at h
              refine lv_istore_n (lv' := [(2, .int u17), (0, .ref o), (1, .int u15)]) hx hb dX2_gives_101 rfl hl (by decide) rfl (fun ls hl => ?_)
              refine lv_aload_n hx hb dX2_gives_102 rfl (lv_at hl 1 rfl) ?_
              refine lv_bipush (v := 59) hx hb dX2_gives_103 (by decide) ?_
              obtain ⟨r19, e20, h⟩ := bn1_e h
              refine clX2_isAt hf hK hO (metX2_isAt l D aC o ad 59 z14 r19 e20) q1755 hl.1 (Nat.le_of_ble_eq_true rfl) ⟨Nat.le_of_ble_eq_true rfl, Nat.le_of_ble_eq_true rfl⟩ ⟨Nat.le_of_ble_eq_true rfl, Nat.le_of_ble_eq_true rfl⟩ dX2_gives_105 ?_
              refine lv_istore_n (lv' := [(3, .int r19), (2, .int u17), (0, .ref o), (1, .int u15)]) hx hb dX2_gives_108 rfl hl (by decide) rfl (fun ls hl => ?_)
              refine lv_aload_n hx hb dX2_gives_109 rfl (lv_at hl 2 rfl) ?_
              refine lv_dup hx hb dX2_gives_110 rfl ?_
              refine X2_getF hx hb hts hown hK hO 15 (by decide) rfl (hts _ q1552) dX2_gives_111 ?_
              refine lv_iload_n hx hb dX2_gives_114 rfl (lv_at hl 0 rfl) ?_
              obtain ⟨k22, e24, h⟩ := pin_nm2 h
              have hk22 : ∀ (u21 : Int32) (ls : Array Slot), k22 u21 = some (r, zq) → lv_has ls 6 [(0, .ref o), (1, .int u15), (2, .int u17), (3, .int r19)] → W p l e ({ frames := 54, cells := 0, slots := 0, locals := 1233 }) s m ([.ref o] : List Value).toArray below meth c H locs 0 0 (MQ below (QG (some (.int r)) (OM D aC o ad zq) A) ([.ref o] : List Value).toArray s 0 0 A) (F0 m 123 ls [.int u21, .int (gF z14 15), .ref o]) := by
                intro u21 ls h hl
                rw [e24] at h
                refine lv_iadd hx hb dX2_gives_123 ?_
                refine X2_putF hx hb hts hown hK hO hD hS 15 (by decide) rfl (hts _ q1552) rfl (ty := .int) rfl rfl rfl dX2_gives_124 (fun H locs z23 ez23 hO hS => ?_)
                have h := pin_to ez23 h
                refine lv_goto (tgt := 21) hx hb dX2_gives_127 (by decide) ?_
                exact ih4 _ _ _ _ _ _ _ h hO hS (lv_sub hl [0, 1, 2, 3] rfl)
              refine lv_if_eq (tgt := 122) hx hb dX2_gives_115 (by decide) (fun c25 => ?_) (fun c25 => ?_)
              · have h := pt_t (k := k22) c25 h
                refine lv_iconst (v := 0) hx hb dX2_gives_122 (by decide) ?_
                exact hk22 _ _ h (lv_sub hl [2, 3, 1, 0] rfl)
              · have h := pt_f (k := k22) c25 h
                refine lv_iconst (v := 1) hx hb dX2_gives_118 (by decide) ?_
                refine lv_goto (tgt := 123) hx hb dX2_gives_119 (by decide) ?_
                exact hk22 _ _ h (lv_sub hl [2, 3, 1, 0] rfl)
            refine lv_if_ne (tgt := 96) hx hb dX2_gives_88 (by decide) (fun c27 => ?_) (fun c27 => ?_)
            · have h := pt_f (k := k18) c27 h
              refine lv_iconst (v := 1) hx hb dX2_gives_96 (by decide) ?_
              refine lv_goto (tgt := 101) hx hb dX2_gives_97 (by decide) ?_
              exact hk18 _ _ h (lv_sub hl [1, 0] rfl)
            · have h := pt_t (k := k18) c27 h
              refine lv_iload hx hb dX2_gives_91 (lv_at hl 3 rfl) ?_
              refine lv_if_eq (tgt := 100) hx hb dX2_gives_93 (by decide) (fun c28 => ?_) (fun c28 => ?_)
              · have h := pt_t (k := k18) c28 h
                refine lv_iconst (v := 0) hx hb dX2_gives_100 (by decide) ?_
                exact hk18 _ _ h (lv_sub hl [1, 0] rfl)
              · have h := pt_f (k := k18) c28 h
                refine lv_iconst (v := 1) hx hb dX2_gives_96 (by decide) ?_
                refine lv_goto (tgt := 101) hx hb dX2_gives_97 (by decide) ?_
                exact hk18 _ _ h (lv_sub hl [1, 0] rfl)
          refine lv_if_eq (tgt := 85) hx hb dX2_gives_73 (by decide) (fun c30 => ?_) (fun c30 => ?_)
          · have h := pt_t (k := k16) c30 h
            refine lv_iload_n hx hb dX2_gives_85 rfl (lv_at hl 1 rfl) ?_
            exact hk16 _ _ h (lv_sub hl [0, 2, 4] rfl)
          · have h := pt_f (k := k16) c30 h
            refine lv_iload_n hx hb dX2_gives_76 rfl (lv_at hl 2 rfl) ?_
            refine lv_if_ne (tgt := 85) hx hb dX2_gives_77 (by decide) (fun c31 => ?_) (fun c31 => ?_)
            · have h := pt_f (k := k16) c31 h
              refine lv_iload_n hx hb dX2_gives_85 rfl (lv_at hl 1 rfl) ?_
              exact hk16 _ _ h (lv_sub hl [0, 2, 4] rfl)
            · have h := pt_t (k := k16) c31 h
              refine lv_iload hx hb dX2_gives_80 (lv_at hl 3 rfl) ?_
              refine lv_goto (tgt := 86) hx hb dX2_gives_82 (by decide) ?_
              exact hk16 _ _ h (lv_sub hl [0, 2, 4] rfl)
        refine lv_if_eq (tgt := 71) hx hb dX2_gives_40 (by decide) (fun c32 => ?_) (fun c32 => ?_)
        · have h := it_t c32 h
          exact hk11 _ _ _ _ _ _ h hO hS (lv_sub hl [2, 3, 4, 1, 0] rfl)
        · have h := it_f c32 h
          refine lv_aload_n hx hb dX2_gives_43 rfl (lv_at hl 2 rfl) ?_
          refine lv_dup hx hb dX2_gives_44 rfl ?_
          refine X2_getF hx hb hts hown hK hO 15 (by decide) rfl (hts _ q1552) dX2_gives_45 ?_
          refine lv_iconst (v := 1) hx hb dX2_gives_48 (by decide) ?_
          refine lv_iadd hx hb dX2_gives_49 ?_
          refine X2_putF hx hb hts hown hK hO hD hS 15 (by decide) rfl (hts _ q1552) rfl (ty := .int) rfl rfl rfl dX2_gives_50 (fun H locs z33 ez33 hO hS => ?_)
          have h := pin_to ez33 h
          refine lv_iload hx hb dX2_gives_53 (lv_at hl 1 rfl) ?_
          obtain ⟨k35, e39, h⟩ := pin_nm2 h
          have hk35 : ∀ (u34 : Int32) (ls : Array Slot), k35 u34 = some (r, zq) → lv_has ls 6 [(0, .ref o), (1, .int v1), (2, .int v2)] → W p l e ({ frames := 54, cells := 0, slots := 0, locals := 1233 }) s m ([.ref o] : List Value).toArray below meth c H locs 0 0 (MQ below (QG (some (.int r)) (OM D aC o ad zq) A) ([.ref o] : List Value).toArray s 0 0 A) (F0 m 63 ls [.int u34]) := by
            intro u34 ls h hl
            rw [e39] at h
            refine lv_istore (lv' := [(5, .int u34), (0, .ref o), (1, .int v1), (2, .int v2)]) hx hb dX2_gives_63 hl (by decide) rfl (fun ls hl => ?_)
            refine lv_aload_n hx hb dX2_gives_65 rfl (lv_at hl 1 rfl) ?_
            obtain ⟨r36, z37, e38, h⟩ := bnd_e h
            refine clX2_any hf hK hO hS (metX2_any l D aC o ad A hD 8 (FX2_one 8) (metX2_one l D aC o ad A hD 8) z33 r36 z37 e38) q1723 hl.1 (Nat.le_of_ble_eq_true rfl) ⟨Nat.le_of_ble_eq_true rfl, Nat.le_of_ble_eq_true rfl⟩ ⟨Nat.le_of_ble_eq_true rfl, Nat.le_of_ble_eq_true rfl⟩ dX2_gives_66 (fun H locs hO hS => ?_)
            refine lv_istore (lv' := [(4, .int r36), (5, .int u34), (0, .ref o), (1, .int v1), (2, .int v2)]) hx hb dX2_gives_69 hl (by decide) rfl (fun ls hl => ?_)
            exact hk11 _ _ _ _ _ _ h hO hS (lv_sub hl [2, 3, 4, 0, 1] rfl)
          refine lv_if_eq (tgt := 62) hx hb dX2_gives_55 (by decide) (fun c40 => ?_) (fun c40 => ?_)
          · have h := pt_t (k := k35) c40 h
            refine lv_iconst (v := 0) hx hb dX2_gives_62 (by decide) ?_
            exact hk35 _ _ h (lv_sub hl [2, 3, 4] rfl)
          · have h := pt_f (k := k35) c40 h
            refine lv_iconst (v := 1) hx hb dX2_gives_58 (by decide) ?_
            refine lv_goto (tgt := 63) hx hb dX2_gives_59 (by decide) ?_
            exact hk35 _ _ h (lv_sub hl [2, 3, 4] rfl)
  exact key42 FU _ _ _ _ _ _ _ h hO hS (lv_sub hl [3, 2, 1, 0] rfl)
theorem clX2_gives {p : Program} {l : Launch} {e : Env} {R : Room} {s : State} {m : MethodId} {args : Array Value} {below : List Frame} {meth : Method} {c : Code} {H : Heap} {locs : List Loc} {cells slots : Nat} {Q : State → Prop} {cc : ByteArray} {pc nL idx fr lo : Nat} {ls : Array Slot} {rest : List Value} {own : String} {D : va_G} {aC : Nat → ClassId} {o : Nat} {ad : Nat → Nat} {z : GS} {zq : GS} {A : Nat → Prop}  {r : Int32} (hf : CallFix p m c cc nL s args lw_all own) (hK : va_K D vwCl (tysG aC) s) (hO : OM D aC o ad z H) (hS : va_S A s.heap H locs) (hM : Met l yX2_gives (ws_ yX2_gives cX2_gives 6 (some .int)) ({ frames := fr, cells := 0, slots := 0, locals := lo }) (va_Pc [.ref o] (PM D aC o ad z)) (QG (some (.int r)) (OM D aC o ad zq) A) 0 0 A) (hq : Cond.methodLink own idx yX2_gives ∈ lw_all) (hs : ls.size = nL) (hr : (rest.map fun v => v.category).sum ≤ 8) (hR : fr + 1 ≤ R.frames ∧ 8 + (6 + 11) + lo ≤ R.locals) (hcs : cells + 0 ≤ R.cells ∧ slots + 0 ≤ R.slots) (hd : decode cc pc = .ok (.invokevirtual idx, 3)) (kk : ∀ (H1 : Heap) (locs1 : List Loc), OM D aC o ad zq H1 → va_S A s.heap H1 locs1 → W p l e R s m args below meth c H1 locs1 cells slots Q (F0 m (pc + 3) ls (.int r :: rest))) : W p l e R s m args below meth c H locs cells slots Q (F0 m pc ls (.ref o :: rest)) :=
  g_callG (W.runV (As := []) (rest := rest) hf hM (cwV 0 hf.2.2.2.2 (lw_V hq q1721 qs54 q92 q1722) rfl rfl rfl (by decide +kernel) hR) ⟨fun a U g mk q => ⟨q.1, q.2.1, va_K.moved (u := U) (U := U.calling g mk a) (Vm.Alike.refl U.vm) q.2.2⟩, OA.recv hK hO rfl, fun U hU hW => ⟨rfl, by rw [hU]; exact hO, va_K.moved hW.alike hK⟩⟩ rfl rfl hs rfl (lv_room hr) hd hcs) hS (fun H1 locs1 hP hS _ _ => kk H1 locs1 hP hS)
theorem metX2_law (l : Launch) (D : va_G) (aC : Nat → ClassId) (o : Nat) (ad : Nat → Nat) (A : Nat → Prop) (hD : OD A 44 kdM o ad)  (z : GS) (r : Int32) (zq : GS) (h : FX2_law z = some (r, zq)) : Met l yX2_law (ws_ yX2_law cX2_law 2 (some .int)) ({ frames := 55, cells := 0, slots := 0, locals := 1258 }) (va_Pc [.ref o] (PM D aC o ad z)) (QG (some (.int r)) (OM D aC o ad zq) A) 0 0 A := by
  refine g_ofW (cc := cX2_law) (maxL := 2) (ret := (some .int)) (own := RX2) (by decide) rfl rfl [.ref o] (PM D aC o ad z) (Nat.le_of_ble_eq_true rfl) ?_
  intro p e s m below meth c ls hx hb hr hml hts hown hlocks hnm hPre hl
  obtain ⟨hO, hK⟩ := hPre
  have hf : CallFix p m c cX2_law 2 s _ lw_all RX2 := ⟨hx, hb, hml, hown, hts⟩
  have hl : lv_has ls 2 [(0, .ref o)] := hl
  refine g_open (A := A) (OM D aC o ad z) hO (fun H locs hO hS => ?_)
  unfold FX2_law at h
  refine lv_aload_n hx hb dX2_law_0 rfl (lv_at hl 0 rfl) ?_
  refine lv_aload_n hx hb dX2_law_1 rfl (lv_at hl 0 rfl) ?_
  refine X2_getF hx hb hts hown hK hO 9 (by decide) rfl (hts _ q1546) dX2_law_2 ?_
  refine X2_putF hx hb hts hown hK hO hD hS 14 (by decide) rfl (hts _ q1551) rfl (ty := .int) rfl rfl rfl dX2_law_5 (fun H locs z1 ez1 hO hS => ?_)
  have h := pin_to ez1 h
  refine lv_iconst (v := 0) hx hb dX2_law_8 (by decide) ?_
  refine lv_istore_n (lv' := [(1, .int 0), (0, .ref o)]) hx hb dX2_law_9 rfl hl (by decide) rfl (fun ls hl => ?_)
  obtain ⟨k2, e37, h⟩ := pin_nm h
  have hk2 : ∀  (z3 : GS) (H : Heap) (locs : List Loc) (ls : Array Slot), k2  z3 = some (r, zq) → OM D aC o ad z3 H → va_S A s.heap H locs → lv_has ls 2 [(0, .ref o)] → W p l e ({ frames := 55, cells := 0, slots := 0, locals := 1258 }) s m ([.ref o] : List Value).toArray below meth c H locs 0 0 (MQ below (QG (some (.int r)) (OM D aC o ad zq) A) ([.ref o] : List Value).toArray s 0 0 A) (F0 m 36 ls []) := by
    intro  z3 H locs ls h hO hS hl
    rw [e37] at h
    refine lv_aload_n hx hb dX2_law_36 rfl (lv_at hl 0 rfl) ?_
    refine lv_iconst (v := 0) hx hb dX2_law_37 (by decide) ?_
    refine X2_putF hx hb hts hown hK hO hD hS 9 (by decide) rfl (hts _ q1546) rfl (ty := .int) rfl rfl rfl dX2_law_38 (fun H locs z4 ez4 hO hS => ?_)
    have h := pin_to ez4 h
    refine lv_iconst (v := 0) hx hb dX2_law_41 (by decide) ?_
    refine lv_istore_n (lv' := [(1, .int 0), (0, .ref o)]) hx hb dX2_law_42 rfl hl (by decide) rfl (fun ls hl => ?_)
    obtain ⟨k5, e30, h⟩ := pin_nm h
    have hk5 : ∀  (z6 : GS) (H : Heap) (locs : List Loc) (ls : Array Slot), k5  z6 = some (r, zq) → OM D aC o ad z6 H → va_S A s.heap H locs → lv_has ls 2 [(0, .ref o)] → W p l e ({ frames := 55, cells := 0, slots := 0, locals := 1258 }) s m ([.ref o] : List Value).toArray below meth c H locs 0 0 (MQ below (QG (some (.int r)) (OM D aC o ad zq) A) ([.ref o] : List Value).toArray s 0 0 A) (F0 m 62 ls []) := by
      intro  z6 H locs ls h hO hS hl
      rw [e30] at h
      refine lv_aload_n hx hb dX2_law_62 rfl (lv_at hl 0 rfl) ?_
      obtain ⟨r7, z8, e9, h⟩ := bnd_e h
      refine clX2_gives hf hK hO hS (metX2_gives l D aC o ad A hD z6 r7 z8 e9) q1719 hl.1 (Nat.le_of_ble_eq_true rfl) ⟨Nat.le_of_ble_eq_true rfl, Nat.le_of_ble_eq_true rfl⟩ ⟨Nat.le_of_ble_eq_true rfl, Nat.le_of_ble_eq_true rfl⟩ dX2_law_63 (fun H locs hO hS => ?_)
      refine lv_pop hx hb dX2_law_66 rfl ?_
      refine lv_aload_n hx hb dX2_law_67 rfl (lv_at hl 0 rfl) ?_
      refine X2_getF hx hb hts hown hK hO 16 (by decide) rfl (hts _ q1553) dX2_law_68 ?_
      obtain ⟨k10, e24, h⟩ := pin_nm h
      have hk10 : ∀  (ls : Array Slot), k10  = some (r, zq) → lv_has ls 2 [(0, .ref o)] → W p l e ({ frames := 55, cells := 0, slots := 0, locals := 1258 }) s m ([.ref o] : List Value).toArray below meth c H locs 0 0 (MQ below (QG (some (.int r)) (OM D aC o ad zq) A) ([.ref o] : List Value).toArray s 0 0 A) (F0 m 85 ls []) := by
        intro  ls h hl
        rw [e24] at h
        refine lv_bipush (v := (-100)) hx hb dX2_law_85 (by decide) ?_
        refine lv_aload_n hx hb dX2_law_87 rfl (lv_at hl 0 rfl) ?_
        refine X2_getF hx hb hts hown hK hO 15 (by decide) rfl (hts _ q1552) dX2_law_88 ?_
        refine lv_isub hx hb dX2_law_91 ?_
        obtain ⟨e8, rfl⟩ := Prod.mk.inj (Option.some.inj h)
        exact g_retG hx hb hr hlocks e8 hO hS dX2_law_92
      refine lv_if_eq (tgt := 85) hx hb dX2_law_71 (by decide) (fun c11 => ?_) (fun c11 => ?_)
      · have h := it_t c11 h
        exact hk10 _ h (lv_sub hl [0] rfl)
      · have h := it_f c11 h
        refine lv_aload_n hx hb dX2_law_74 rfl (lv_at hl 0 rfl) ?_
        refine X2_getF hx hb hts hown hK hO 15 (by decide) rfl (hts _ q1552) dX2_law_75 ?_
        refine lv_aload_n hx hb dX2_law_78 rfl (lv_at hl 0 rfl) ?_
        refine X2_getF hx hb hts hown hK hO 14 (by decide) rfl (hts _ q1551) dX2_law_79 ?_
        refine lv_icmp_ge (tgt := 93) hx hb dX2_law_82 (by decide) (fun c12 => ?_) (fun c12 => ?_)
        · have h := it_t c12 h
          refine lv_iconst (v := 0) hx hb dX2_law_93 (by decide) ?_
          refine lv_istore_n (lv' := [(1, .int 0), (0, .ref o)]) hx hb dX2_law_94 rfl hl (by decide) rfl (fun ls hl => ?_)
          obtain ⟨k13, e23, h⟩ := pin_nm h
          have hk13 : ∀  (z14 : GS) (H : Heap) (locs : List Loc) (ls : Array Slot), k13  z14 = some (r, zq) → OM D aC o ad z14 H → va_S A s.heap H locs → lv_has ls 2 [(0, .ref o)] → W p l e ({ frames := 55, cells := 0, slots := 0, locals := 1258 }) s m ([.ref o] : List Value).toArray below meth c H locs 0 0 (MQ below (QG (some (.int r)) (OM D aC o ad zq) A) ([.ref o] : List Value).toArray s 0 0 A) (F0 m 121 ls []) := by
            intro  z14 H locs ls h hO hS hl
            rw [e23] at h
            refine lv_aload_n hx hb dX2_law_121 rfl (lv_at hl 0 rfl) ?_
            refine lv_aload_n hx hb dX2_law_122 rfl (lv_at hl 0 rfl) ?_
            refine X2_getF hx hb hts hown hK hO 14 (by decide) rfl (hts _ q1551) dX2_law_123 ?_
            refine X2_putF hx hb hts hown hK hO hD hS 11 (by decide) rfl (hts _ q1548) rfl (ty := .int) rfl rfl rfl dX2_law_126 (fun H locs z15 ez15 hO hS => ?_)
            have h := pin_to ez15 h
            refine lv_aload_n hx hb dX2_law_129 rfl (lv_at hl 0 rfl) ?_
            refine lv_iconst (v := 1) hx hb dX2_law_130 (by decide) ?_
            refine X2_putF hx hb hts hown hK hO hD hS 12 (by decide) rfl (hts _ q1549) rfl (ty := .boolean) rfl rfl rfl dX2_law_131 (fun H locs z16 ez16 hO hS => ?_)
            have h := pin_to ez16 h
            refine lv_iconst (v := 1) hx hb dX2_law_134 (by decide) ?_
            obtain ⟨e8, rfl⟩ := Prod.mk.inj (Option.some.inj h)
            exact g_retG hx hb hr hlocks e8 hO hS dX2_law_135
          have key22 : ∀ (f : Nat) (v1 : Int32) (z : GS) (H : Heap) (locs : List Loc) (ls : Array Slot), FX2_law_L95 k13 f v1 z = some (r, zq) → OM D aC o ad z H → va_S A s.heap H locs → lv_has ls 2 [(0, .ref o), (1, .int v1)] → W p l e ({ frames := 55, cells := 0, slots := 0, locals := 1258 }) s m ([.ref o] : List Value).toArray below meth c H locs 0 0 (MQ below (QG (some (.int r)) (OM D aC o ad zq) A) ([.ref o] : List Value).toArray s 0 0 A) (F0 m 95 ls []) := by
            intro f
            induction f with
            | zero =>
              intro v1 z H locs ls h
              rw [FX2_law_L95] at h
              cases h
            | succ f ih17 =>
              intro v1 z H locs ls h hO hS hl
              rw [FX2_law_L95] at h
              refine lv_iload_n hx hb dX2_law_95 rfl (lv_at hl 1 rfl) ?_
              refine lv_aload_n hx hb dX2_law_96 rfl (lv_at hl 0 rfl) ?_
              refine X2_getF hx hb hts hown hK hO 14 (by decide) rfl (hts _ q1551) dX2_law_97 ?_
              refine lv_icmp_ge (tgt := 121) hx hb dX2_law_100 (by decide) (fun c18 => ?_) (fun c18 => ?_)
              · have h := it_t c18 h
                exact hk13 _ _ _ _ h hO hS (lv_sub hl [0] rfl)
              · have h := it_f c18 h
                refine lv_aload_n hx hb dX2_law_103 rfl (lv_at hl 0 rfl) ?_
                refine X2_getA hx hb hts hown hK hO 10 (by decide) rfl (hts _ q1547) dX2_law_104 ?_
                refine lv_iload_n hx hb dX2_law_107 rfl (lv_at hl 1 rfl) ?_
                refine lv_aload_n hx hb dX2_law_108 rfl (lv_at hl 0 rfl) ?_
                refine X2_getA hx hb hts hown hK hO 13 (by decide) rfl (hts _ q1550) dX2_law_109 ?_
                refine lv_iload_n hx hb dX2_law_112 rfl (lv_at hl 1 rfl) ?_
                obtain ⟨g19, h⟩ := grd h
                refine X2_iaload hx hb hK hO 13 (by decide) rfl rfl g19 dX2_law_113 ?_
                obtain ⟨g20, h⟩ := grd h
                refine X2_iastore hx hb hK hO hD hS 10 (by decide) rfl rfl g20 dX2_law_114 (fun H locs z21 ez21 hO hS => ?_)
                have h := pin_to ez21 h
                refine lv_iinc (v := (v1 + 1)) (lv' := [(1, .int (v1 + 1)), (0, .ref o)]) hx hb dX2_law_115 hl (k := 1) rfl rfl (by decide) rfl (fun ls hl => ?_)
                refine lv_goto (tgt := 95) hx hb dX2_law_118 (by decide) ?_
                exact ih17 _ _ _ _ _ h hO hS (lv_sub hl [1, 0] rfl)
          exact key22 FU _ _ _ _ _ h hO hS (lv_sub hl [1, 0] rfl)
        · have h := it_f c12 h
          exact hk10 _ h (lv_sub hl [0] rfl)
    have key29 : ∀ (f : Nat) (v1 : Int32) (z : GS) (H : Heap) (locs : List Loc) (ls : Array Slot), FX2_law_L43 k5 f v1 z = some (r, zq) → OM D aC o ad z H → va_S A s.heap H locs → lv_has ls 2 [(0, .ref o), (1, .int v1)] → W p l e ({ frames := 55, cells := 0, slots := 0, locals := 1258 }) s m ([.ref o] : List Value).toArray below meth c H locs 0 0 (MQ below (QG (some (.int r)) (OM D aC o ad zq) A) ([.ref o] : List Value).toArray s 0 0 A) (F0 m 43 ls []) := by
      intro f
      induction f with
      | zero =>
        intro v1 z H locs ls h
        rw [FX2_law_L43] at h
        cases h
      | succ f ih25 =>
        intro v1 z H locs ls h hO hS hl
        rw [FX2_law_L43] at h
        refine lv_iload_n hx hb dX2_law_43 rfl (lv_at hl 1 rfl) ?_
        refine lv_bipush (v := 6) hx hb dX2_law_44 (by decide) ?_
        refine lv_icmp_ge (tgt := 62) hx hb dX2_law_46 (by decide) (fun c26 => ?_) (fun c26 => ?_)
        · have h := it_t c26 h
          exact hk5 _ _ _ _ h hO hS (lv_sub hl [0] rfl)
        · have h := it_f c26 h
          refine lv_aload_n hx hb dX2_law_49 rfl (lv_at hl 0 rfl) ?_
          refine X2_getA hx hb hts hown hK hO 18 (by decide) rfl (hts _ q1555) dX2_law_50 ?_
          refine lv_iload_n hx hb dX2_law_53 rfl (lv_at hl 1 rfl) ?_
          refine lv_iconst (v := 0) hx hb dX2_law_54 (by decide) ?_
          obtain ⟨g27, h⟩ := grd h
          refine X2_iastore hx hb hK hO hD hS 18 (by decide) rfl rfl g27 dX2_law_55 (fun H locs z28 ez28 hO hS => ?_)
          have h := pin_to ez28 h
          refine lv_iinc (v := (v1 + 1)) (lv' := [(1, .int (v1 + 1)), (0, .ref o)]) hx hb dX2_law_56 hl (k := 1) rfl rfl (by decide) rfl (fun ls hl => ?_)
          refine lv_goto (tgt := 43) hx hb dX2_law_59 (by decide) ?_
          exact ih25 _ _ _ _ _ h hO hS (lv_sub hl [1, 0] rfl)
    exact key29 FU _ _ _ _ _ h hO hS (lv_sub hl [1, 0] rfl)
  have key36 : ∀ (f : Nat) (v1 : Int32) (z : GS) (H : Heap) (locs : List Loc) (ls : Array Slot), FX2_law_L10 k2 f v1 z = some (r, zq) → OM D aC o ad z H → va_S A s.heap H locs → lv_has ls 2 [(0, .ref o), (1, .int v1)] → W p l e ({ frames := 55, cells := 0, slots := 0, locals := 1258 }) s m ([.ref o] : List Value).toArray below meth c H locs 0 0 (MQ below (QG (some (.int r)) (OM D aC o ad zq) A) ([.ref o] : List Value).toArray s 0 0 A) (F0 m 10 ls []) := by
    intro f
    induction f with
    | zero =>
      intro v1 z H locs ls h
      rw [FX2_law_L10] at h
      cases h
    | succ f ih31 =>
      intro v1 z H locs ls h hO hS hl
      rw [FX2_law_L10] at h
      refine lv_iload_n hx hb dX2_law_10 rfl (lv_at hl 1 rfl) ?_
      refine lv_aload_n hx hb dX2_law_11 rfl (lv_at hl 0 rfl) ?_
      refine X2_getF hx hb hts hown hK hO 14 (by decide) rfl (hts _ q1551) dX2_law_12 ?_
      refine lv_icmp_ge (tgt := 36) hx hb dX2_law_15 (by decide) (fun c32 => ?_) (fun c32 => ?_)
      · have h := it_t c32 h
        exact hk2 _ _ _ _ h hO hS (lv_sub hl [0] rfl)
      · have h := it_f c32 h
        refine lv_aload_n hx hb dX2_law_18 rfl (lv_at hl 0 rfl) ?_
        refine X2_getA hx hb hts hown hK hO 13 (by decide) rfl (hts _ q1550) dX2_law_19 ?_
        refine lv_iload_n hx hb dX2_law_22 rfl (lv_at hl 1 rfl) ?_
        refine lv_aload_n hx hb dX2_law_23 rfl (lv_at hl 0 rfl) ?_
        refine X2_getA hx hb hts hown hK hO 8 (by decide) rfl (hts _ q1545) dX2_law_24 ?_
        refine lv_iload_n hx hb dX2_law_27 rfl (lv_at hl 1 rfl) ?_
        obtain ⟨g33, h⟩ := grd h
        refine X2_iaload hx hb hK hO 8 (by decide) rfl rfl g33 dX2_law_28 ?_
        obtain ⟨g34, h⟩ := grd h
        refine X2_iastore hx hb hK hO hD hS 13 (by decide) rfl rfl g34 dX2_law_29 (fun H locs z35 ez35 hO hS => ?_)
        have h := pin_to ez35 h
        refine lv_iinc (v := (v1 + 1)) (lv' := [(1, .int (v1 + 1)), (0, .ref o)]) hx hb dX2_law_30 hl (k := 1) rfl rfl (by decide) rfl (fun ls hl => ?_)
        refine lv_goto (tgt := 10) hx hb dX2_law_33 (by decide) ?_
        exact ih31 _ _ _ _ _ h hO hS (lv_sub hl [1, 0] rfl)
  exact key36 FU _ _ _ _ _ h hO hS (lv_sub hl [1, 0] rfl)
theorem clX2_law {p : Program} {l : Launch} {e : Env} {R : Room} {s : State} {m : MethodId} {args : Array Value} {below : List Frame} {meth : Method} {c : Code} {H : Heap} {locs : List Loc} {cells slots : Nat} {Q : State → Prop} {cc : ByteArray} {pc nL idx fr lo : Nat} {ls : Array Slot} {rest : List Value} {own : String} {D : va_G} {aC : Nat → ClassId} {o : Nat} {ad : Nat → Nat} {z : GS} {zq : GS} {A : Nat → Prop}  {r : Int32} (hf : CallFix p m c cc nL s args lw_all own) (hK : va_K D vwCl (tysG aC) s) (hO : OM D aC o ad z H) (hS : va_S A s.heap H locs) (hM : Met l yX2_law (ws_ yX2_law cX2_law 2 (some .int)) ({ frames := fr, cells := 0, slots := 0, locals := lo }) (va_Pc [.ref o] (PM D aC o ad z)) (QG (some (.int r)) (OM D aC o ad zq) A) 0 0 A) (hq : Cond.methodLink own idx yX2_law ∈ lw_all) (hs : ls.size = nL) (hr : (rest.map fun v => v.category).sum ≤ 8) (hR : fr + 1 ≤ R.frames ∧ 8 + (2 + 11) + lo ≤ R.locals) (hcs : cells + 0 ≤ R.cells ∧ slots + 0 ≤ R.slots) (hd : decode cc pc = .ok (.invokevirtual idx, 3)) (kk : ∀ (H1 : Heap) (locs1 : List Loc), OM D aC o ad zq H1 → va_S A s.heap H1 locs1 → W p l e R s m args below meth c H1 locs1 cells slots Q (F0 m (pc + 3) ls (.int r :: rest))) : W p l e R s m args below meth c H locs cells slots Q (F0 m pc ls (.ref o :: rest)) :=
  g_callG (W.runV (As := []) (rest := rest) hf hM (cwV 0 hf.2.2.2.2 (lw_V hq q1716 q1717 q92 q1718) rfl rfl rfl (by decide +kernel) hR) ⟨fun a U g mk q => ⟨q.1, q.2.1, va_K.moved (u := U) (U := U.calling g mk a) (Vm.Alike.refl U.vm) q.2.2⟩, OA.recv hK hO rfl, fun U hU hW => ⟨rfl, by rw [hU]; exact hO, va_K.moved hW.alike hK⟩⟩ rfl rfl hs rfl (lv_room hr) hd hcs) hS (fun H1 locs1 hP hS _ _ => kk H1 locs1 hP hS)
theorem metX2_number_2 (l : Launch) (D : va_G) (aC : Nat → ClassId) (o : Nat) (ad : Nat → Nat) (x1 : Int32) (x2 : Int32) (z : GS) (r : Int32) (h : FX2_number_2 x1 x2 z = some r) : Met l yX2_number_2 (ws_ yX2_number_2 cX2_number_2 3 (some .int)) ({ frames := 0, cells := 0, slots := 0, locals := 0 }) (va_Pc [.ref o, .int x1, .int x2] (PM D aC o ad z)) (QR (some (.int r))) 0 0 (fun _ => False) := by
  refine g_ofW (cc := cX2_number_2) (maxL := 3) (ret := (some .int)) (own := RX2) (by decide) rfl rfl [.ref o, .int x1, .int x2] (PM D aC o ad z) (Nat.le_of_ble_eq_true rfl) ?_
  intro p e s m below meth c ls hx hb hr hml hts hown hlocks hnm hPre hl
  obtain ⟨hO, hK⟩ := hPre
  have hf : CallFix p m c cX2_number_2 3 s _ lw_all RX2 := ⟨hx, hb, hml, hown, hts⟩
  have hl : lv_has ls 3 [(0, .ref o), (1, .int x1), (2, .int x2)] := hl
  unfold FX2_number_2 at h
  refine lv_aload_n hx hb dX2_number_2_0 rfl (lv_at hl 0 rfl) ?_
  refine X2_getA hx hb hts hown hK hO 0 (by decide) rfl (hts _ q1537) dX2_number_2_1 ?_
  refine lv_iconst (v := 5) hx hb dX2_number_2_4 (by decide) ?_
  refine lv_iload_n hx hb dX2_number_2_5 rfl (lv_at hl 1 rfl) ?_
  refine lv_imul hx hb dX2_number_2_6 ?_
  refine lv_iload_n hx hb dX2_number_2_7 rfl (lv_at hl 2 rfl) ?_
  refine lv_iadd hx hb dX2_number_2_8 ?_
  obtain ⟨g1, h⟩ := grd h
  refine X2_iaload hx hb hK hO 0 (by decide) rfl rfl g1 dX2_number_2_9 ?_
  exact g_retR hx hb hr hlocks (Option.some.inj h) dX2_number_2_10
theorem clX2_number_2 {p : Program} {l : Launch} {e : Env} {R : Room} {s : State} {m : MethodId} {args : Array Value} {below : List Frame} {meth : Method} {c : Code} {H : Heap} {locs : List Loc} {cells slots : Nat} {Q : State → Prop} {cc : ByteArray} {pc nL idx fr lo : Nat} {ls : Array Slot} {rest : List Value} {own : String} {D : va_G} {aC : Nat → ClassId} {o : Nat} {ad : Nat → Nat} {z : GS} {x1 : Int32} {x2 : Int32} {r : Int32} (hf : CallFix p m c cc nL s args lw_all own) (hK : va_K D vwCl (tysG aC) s) (hO : OM D aC o ad z H) (hM : Met l yX2_number_2 (ws_ yX2_number_2 cX2_number_2 3 (some .int)) ({ frames := fr, cells := 0, slots := 0, locals := lo }) (va_Pc [.ref o, .int x1, .int x2] (PM D aC o ad z)) (QR (some (.int r))) 0 0 (fun _ => False)) (hq : Cond.methodLink own idx yX2_number_2 ∈ lw_all) (hs : ls.size = nL) (hr : (rest.map fun v => v.category).sum ≤ 8) (hR : fr + 1 ≤ R.frames ∧ 8 + (3 + 11) + lo ≤ R.locals) (hcs : cells + 0 ≤ R.cells ∧ slots + 0 ≤ R.slots) (hd : decode cc pc = .ok (.invokevirtual idx, 3)) (kk : W p l e R s m args below meth c H locs cells slots Q (F0 m (pc + 3) ls (.int r :: rest))) : W p l e R s m args below meth c H locs cells slots Q (F0 m pc ls (.int x2 :: .int x1 :: .ref o :: rest)) :=
  g_callR (W.runV (As := [.int x1, .int x2]) (rest := rest) hf hM (cwV 2 hf.2.2.2.2 (lw_V hq q1773 qs66 q92 q1774) rfl rfl rfl (by decide +kernel) hR) ⟨fun a U g mk q => ⟨q.1, q.2.1, va_K.moved (u := U) (U := U.calling g mk a) (Vm.Alike.refl U.vm) q.2.2⟩, OA.recv hK hO rfl, fun U hU hW => ⟨rfl, by rw [hU]; exact hO, va_K.moved hW.alike hK⟩⟩ rfl rfl hs rfl (lv_room hr) hd hcs) kk
theorem metX2_far (l : Launch) (x1 : Int32) (x2 : Int32)  (r : Int32) (h : FX2_far x1 x2 = r) : Met l yX2_far (ws_ yX2_far cX2_far 2 (some .int)) ({ frames := 1, cells := 0, slots := 0, locals := 60 }) (va_Pc [.int x1, .int x2] (fun _ => True)) (QR (some (.int r))) 0 0 (fun _ => False) := by
  refine g_ofW (cc := cX2_far) (maxL := 2) (ret := (some .int)) (own := RX2) (by decide) rfl rfl [.int x1, .int x2] (fun _ => True) (Nat.le_of_ble_eq_true rfl) ?_
  intro p e s m below meth c ls hx hb hr hml hts hown hlocks hnm hPre hl
  have hf : CallFix p m c cX2_far 2 s _ lw_all RX2 := ⟨hx, hb, hml, hown, hts⟩
  have hl : lv_has ls 2 [(0, .int x1), (1, .int x2)] := hl
  unfold FX2_far at h
  refine lv_iload_n hx hb dX2_far_0 rfl (lv_at hl 0 rfl) ?_
  refine lv_bipush (v := 6) hx hb dX2_far_1 (by decide) ?_
  refine lv_idiv hx hb dX2_far_3 (by decide) ?_
  refine lv_iload_n hx hb dX2_far_4 rfl (lv_at hl 1 rfl) ?_
  refine lv_bipush (v := 6) hx hb dX2_far_5 (by decide) ?_
  refine lv_idiv hx hb dX2_far_7 (by decide) ?_
  refine lv_isub hx hb dX2_far_8 ?_
  refine g_mabs hx hb (hml.trans hl.1.symm) hown (hts _ q1778) (hts _ q821) (hts _ q106) (hts _ q822) (Nat.le_of_ble_eq_true rfl) (Nat.le_of_ble_eq_true rfl) (Nat.le_refl _) (Nat.le_refl _) dX2_far_9 ?_
  refine lv_iload_n hx hb dX2_far_12 rfl (lv_at hl 0 rfl) ?_
  refine lv_bipush (v := 6) hx hb dX2_far_13 (by decide) ?_
  refine g_irem hx hb dX2_far_15 (by decide) ?_
  refine lv_iload_n hx hb dX2_far_16 rfl (lv_at hl 1 rfl) ?_
  refine lv_bipush (v := 6) hx hb dX2_far_17 (by decide) ?_
  refine g_irem hx hb dX2_far_19 (by decide) ?_
  refine lv_isub hx hb dX2_far_20 ?_
  refine g_mabs hx hb (hml.trans hl.1.symm) hown (hts _ q1778) (hts _ q821) (hts _ q106) (hts _ q822) (Nat.le_of_ble_eq_true rfl) (Nat.le_of_ble_eq_true rfl) (Nat.le_refl _) (Nat.le_refl _) dX2_far_21 ?_
  refine lv_iadd hx hb dX2_far_24 ?_
  exact g_retR hx hb hr hlocks h dX2_far_25
theorem clX2_far {p : Program} {l : Launch} {e : Env} {R : Room} {s : State} {m : MethodId} {args : Array Value} {below : List Frame} {meth : Method} {c : Code} {H : Heap} {locs : List Loc} {cells slots : Nat} {Q : State → Prop} {cc : ByteArray} {pc nL idx fr lo : Nat} {ls : Array Slot} {rest : List Value} {own : String}  {x1 : Int32} {x2 : Int32} {r : Int32} (hf : CallFix p m c cc nL s args lw_all own) (hM : Met l yX2_far (ws_ yX2_far cX2_far 2 (some .int)) ({ frames := fr, cells := 0, slots := 0, locals := lo }) (va_Pc [.int x1, .int x2] (fun _ => True)) (QR (some (.int r))) 0 0 (fun _ => False)) (hq : Cond.methodLink own idx yX2_far ∈ lw_all) (hs : ls.size = nL) (hr : (rest.map fun v => v.category).sum ≤ 8) (hR : fr + 1 ≤ R.frames ∧ 8 + (2 + 11) + lo ≤ R.locals) (hcs : cells + 0 ≤ R.cells ∧ slots + 0 ≤ R.slots) (hd : decode cc pc = .ok (.invokestatic idx, 3)) (kk : W p l e R s m args below meth c H locs cells slots Q (F0 m (pc + 3) ls (.int r :: rest))) : W p l e R s m args below meth c H locs cells slots Q (F0 m pc ls (.int x2 :: .int x1 :: rest)) :=
  g_callR (W.runS (As := [.int x1, .int x2]) (rest := rest) hf hM (va_cwS 2 hf.2.2.2.2 (lw_S hq q1776 q92 q1777) rfl rfl rfl (by decide +kernel) hR) ⟨fun a U g mk q => q, fun U hU hW => ⟨rfl, trivial⟩⟩ rfl rfl hs rfl (lv_room hr) hd hcs) kk
theorem metX2_carers (l : Launch) (D : va_G) (aC : Nat → ClassId) (o : Nat) (ad : Nat → Nat) (x1 : Int32) (z : GS) (r : Int32) (h : FX2_carers x1 z = some r) : Met l yX2_carers (ws_ yX2_carers cX2_carers 4 (some .int)) ({ frames := 1, cells := 0, slots := 0, locals := 22 }) (va_Pc [.ref o, .int x1] (PM D aC o ad z)) (QR (some (.int r))) 0 0 (fun _ => False) := by
  refine g_ofW (cc := cX2_carers) (maxL := 4) (ret := (some .int)) (own := RX2) (by decide) rfl rfl [.ref o, .int x1] (PM D aC o ad z) (Nat.le_of_ble_eq_true rfl) ?_
  intro p e s m below meth c ls hx hb hr hml hts hown hlocks hnm hPre hl
  obtain ⟨hO, hK⟩ := hPre
  have hf : CallFix p m c cX2_carers 4 s _ lw_all RX2 := ⟨hx, hb, hml, hown, hts⟩
  have hl : lv_has ls 4 [(0, .ref o), (1, .int x1)] := hl
  unfold FX2_carers at h
  refine lv_iconst (v := 0) hx hb dX2_carers_0 (by decide) ?_
  refine lv_istore_n (lv' := [(2, .int 0), (0, .ref o), (1, .int x1)]) hx hb dX2_carers_1 rfl hl (by decide) rfl (fun ls hl => ?_)
  refine lv_iconst (v := 0) hx hb dX2_carers_2 (by decide) ?_
  refine lv_istore_n (lv' := [(3, .int 0), (2, .int 0), (0, .ref o), (1, .int x1)]) hx hb dX2_carers_3 rfl hl (by decide) rfl (fun ls hl => ?_)
  have key10 : ∀ (f : Nat) (v2 : Int32) (v3 : Int32) (ls : Array Slot), FX2_carers_L4 x1 z f v2 v3 = some r → lv_has ls 4 [(0, .ref o), (1, .int x1), (2, .int v2), (3, .int v3)] → W p l e ({ frames := 1, cells := 0, slots := 0, locals := 22 }) s m ([.ref o, .int x1] : List Value).toArray below meth c s.heap [] 0 0 (MQ below (QR (some (.int r))) ([.ref o, .int x1] : List Value).toArray s 0 0 (fun _ => False)) (F0 m 4 ls []) := by
    intro f
    induction f with
    | zero =>
      intro v2 v3 ls h
      rw [FX2_carers_L4] at h
      cases h
    | succ f ih1 =>
      intro v2 v3 ls h hl
      rw [FX2_carers_L4] at h
      refine lv_iload_n hx hb dX2_carers_4 rfl (lv_at hl 3 rfl) ?_
      refine lv_aload_n hx hb dX2_carers_5 rfl (lv_at hl 0 rfl) ?_
      refine X2_getF hx hb hts hown hK hO 2 (by decide) rfl (hts _ q1539) dX2_carers_6 ?_
      refine lv_icmp_ge (tgt := 36) hx hb dX2_carers_9 (by decide) (fun c2 => ?_) (fun c2 => ?_)
      · have h := it_t c2 h
        refine lv_iload_n hx hb dX2_carers_36 rfl (lv_at hl 2 rfl) ?_
        exact g_retR hx hb hr hlocks (Option.some.inj h) dX2_carers_37
      · have h := it_f c2 h
        refine lv_iload_n hx hb dX2_carers_12 rfl (lv_at hl 2 rfl) ?_
        refine lv_aload_n hx hb dX2_carers_13 rfl (lv_at hl 0 rfl) ?_
        refine lv_iload_n hx hb dX2_carers_14 rfl (lv_at hl 3 rfl) ?_
        refine lv_iconst (v := 4) hx hb dX2_carers_15 (by decide) ?_
        obtain ⟨r3, e4, h⟩ := bn1_e h
        refine clX2_number_2 hf hK hO (metX2_number_2 l D aC o ad v3 4 z r3 e4) q1771 hl.1 (Nat.le_of_ble_eq_true rfl) ⟨Nat.le_of_ble_eq_true rfl, Nat.le_of_ble_eq_true rfl⟩ ⟨Nat.le_of_ble_eq_true rfl, Nat.le_of_ble_eq_true rfl⟩ dX2_carers_16 ?_
        refine lv_iload_n hx hb dX2_carers_19 rfl (lv_at hl 1 rfl) ?_
        obtain ⟨k6, e8, h⟩ := pin_nm2 h
        have hk6 : ∀ (u5 : Int32) (ls : Array Slot), k6 u5 = some r → lv_has ls 4 [(0, .ref o), (1, .int x1), (3, .int v3)] → W p l e ({ frames := 1, cells := 0, slots := 0, locals := 22 }) s m ([.ref o, .int x1] : List Value).toArray below meth c s.heap [] 0 0 (MQ below (QR (some (.int r))) ([.ref o, .int x1] : List Value).toArray s 0 0 (fun _ => False)) (F0 m 28 ls [.int u5, .int v2]) := by
          intro u5 ls h hl
          rw [e8] at h
          refine lv_iadd hx hb dX2_carers_28 ?_
          refine lv_topi (fun y7 ey7 => ?_)
          have h := pin_to ey7 h
          refine lv_istore_n (lv' := [(2, .int y7), (0, .ref o), (1, .int x1), (3, .int v3)]) hx hb dX2_carers_29 rfl hl (by decide) rfl (fun ls hl => ?_)
          refine lv_iinc (v := (v3 + 1)) (lv' := [(3, .int (v3 + 1)), (2, .int y7), (0, .ref o), (1, .int x1)]) hx hb dX2_carers_30 hl (k := 3) rfl rfl (by decide) rfl (fun ls hl => ?_)
          refine lv_goto (tgt := 4) hx hb dX2_carers_33 (by decide) ?_
          exact ih1 _ _ _ h (lv_sub hl [2, 3, 1, 0] rfl)
        refine lv_icmp_ne (tgt := 27) hx hb dX2_carers_20 (by decide) (fun c9 => ?_) (fun c9 => ?_)
        · have h := pt_f (k := k6) c9 h
          refine lv_iconst (v := 0) hx hb dX2_carers_27 (by decide) ?_
          exact hk6 _ _ h (lv_sub hl [0, 1, 3] rfl)
        · have h := pt_t (k := k6) c9 h
          refine lv_iconst (v := 1) hx hb dX2_carers_23 (by decide) ?_
          refine lv_goto (tgt := 28) hx hb dX2_carers_24 (by decide) ?_
          exact hk6 _ _ h (lv_sub hl [0, 1, 3] rfl)
  exact key10 FU _ _ _ h (lv_sub hl [2, 3, 1, 0] rfl)
theorem clX2_carers {p : Program} {l : Launch} {e : Env} {R : Room} {s : State} {m : MethodId} {args : Array Value} {below : List Frame} {meth : Method} {c : Code} {H : Heap} {locs : List Loc} {cells slots : Nat} {Q : State → Prop} {cc : ByteArray} {pc nL idx fr lo : Nat} {ls : Array Slot} {rest : List Value} {own : String} {D : va_G} {aC : Nat → ClassId} {o : Nat} {ad : Nat → Nat} {z : GS} {x1 : Int32} {r : Int32} (hf : CallFix p m c cc nL s args lw_all own) (hK : va_K D vwCl (tysG aC) s) (hO : OM D aC o ad z H) (hM : Met l yX2_carers (ws_ yX2_carers cX2_carers 4 (some .int)) ({ frames := fr, cells := 0, slots := 0, locals := lo }) (va_Pc [.ref o, .int x1] (PM D aC o ad z)) (QR (some (.int r))) 0 0 (fun _ => False)) (hq : Cond.methodLink own idx yX2_carers ∈ lw_all) (hs : ls.size = nL) (hr : (rest.map fun v => v.category).sum ≤ 8) (hR : fr + 1 ≤ R.frames ∧ 8 + (4 + 11) + lo ≤ R.locals) (hcs : cells + 0 ≤ R.cells ∧ slots + 0 ≤ R.slots) (hd : decode cc pc = .ok (.invokevirtual idx, 3)) (kk : W p l e R s m args below meth c H locs cells slots Q (F0 m (pc + 3) ls (.int r :: rest))) : W p l e R s m args below meth c H locs cells slots Q (F0 m pc ls (.int x1 :: .ref o :: rest)) :=
  g_callR (W.runV (As := [.int x1]) (rest := rest) hf hM (cwV 1 hf.2.2.2.2 (lw_V hq q1781 qs67 q92 q1782) rfl rfl rfl (by decide +kernel) hR) ⟨fun a U g mk q => ⟨q.1, q.2.1, va_K.moved (u := U) (U := U.calling g mk a) (Vm.Alike.refl U.vm) q.2.2⟩, OA.recv hK hO rfl, fun U hU hW => ⟨rfl, by rw [hU]; exact hO, va_K.moved hW.alike hK⟩⟩ rfl rfl hs rfl (lv_room hr) hd hcs) kk
theorem metX2_comesBy (l : Launch) (D : va_G) (aC : Nat → ClassId) (o : Nat) (ad : Nat → Nat) (A : Nat → Prop) (hD : OD A 44 kdM o ad)  (z : GS) (r : Int32) (zq : GS) (h : FX2_comesBy z = some (r, zq)) : Met l yX2_comesBy (ws_ yX2_comesBy cX2_comesBy 2 (some .int)) ({ frames := 55, cells := 0, slots := 0, locals := 1258 }) (va_Pc [.ref o] (PM D aC o ad z)) (QG (some (.int r)) (OM D aC o ad zq) A) 0 0 A := by
  refine g_ofW (cc := cX2_comesBy) (maxL := 2) (ret := (some .int)) (own := RX2) (by decide) rfl rfl [.ref o] (PM D aC o ad z) (Nat.le_of_ble_eq_true rfl) ?_
  intro p e s m below meth c ls hx hb hr hml hts hown hlocks hnm hPre hl
  obtain ⟨hO, hK⟩ := hPre
  have hf : CallFix p m c cX2_comesBy 2 s _ lw_all RX2 := ⟨hx, hb, hml, hown, hts⟩
  have hl : lv_has ls 2 [(0, .ref o)] := hl
  refine g_open (A := A) (OM D aC o ad z) hO (fun H locs hO hS => ?_)
  unfold FX2_comesBy at h
  refine lv_aload_n hx hb dX2_comesBy_0 rfl (lv_at hl 0 rfl) ?_
  refine X2_getF hx hb hts hown hK hO 12 (by decide) rfl (hts _ q1549) dX2_comesBy_1 ?_
  refine lv_if_ne (tgt := 23) hx hb dX2_comesBy_4 (by decide) (fun c1 => ?_) (fun c1 => ?_)
  · have h := it_f c1 h
    refine lv_aload_n hx hb dX2_comesBy_23 rfl (lv_at hl 0 rfl) ?_
    refine lv_aload_n hx hb dX2_comesBy_24 rfl (lv_at hl 0 rfl) ?_
    refine X2_getF hx hb hts hown hK hO 11 (by decide) rfl (hts _ q1548) dX2_comesBy_25 ?_
    refine X2_putF hx hb hts hown hK hO hD hS 14 (by decide) rfl (hts _ q1551) rfl (ty := .int) rfl rfl rfl dX2_comesBy_28 (fun H locs z2 ez2 hO hS => ?_)
    have h := pin_to ez2 h
    refine lv_iconst (v := 0) hx hb dX2_comesBy_31 (by decide) ?_
    refine lv_istore_n (lv' := [(1, .int 0), (0, .ref o)]) hx hb dX2_comesBy_32 rfl hl (by decide) rfl (fun ls hl => ?_)
    obtain ⟨k3, e14, h⟩ := pin_nm h
    have hk3 : ∀  (z4 : GS) (H : Heap) (locs : List Loc) (ls : Array Slot), k3  z4 = some (r, zq) → OM D aC o ad z4 H → va_S A s.heap H locs → lv_has ls 2 [(0, .ref o)] → W p l e ({ frames := 55, cells := 0, slots := 0, locals := 1258 }) s m ([.ref o] : List Value).toArray below meth c H locs 0 0 (MQ below (QG (some (.int r)) (OM D aC o ad zq) A) ([.ref o] : List Value).toArray s 0 0 A) (F0 m 59 ls []) := by
      intro  z4 H locs ls h hO hS hl
      rw [e14] at h
      refine lv_aload_n hx hb dX2_comesBy_59 rfl (lv_at hl 0 rfl) ?_
      obtain ⟨r5, z6, e7, h⟩ := bnd_e h
      refine clX2_gives hf hK hO hS (metX2_gives l D aC o ad A hD z4 r5 z6 e7) q1719 hl.1 (Nat.le_of_ble_eq_true rfl) ⟨Nat.le_of_ble_eq_true rfl, Nat.le_of_ble_eq_true rfl⟩ ⟨Nat.le_of_ble_eq_true rfl, Nat.le_of_ble_eq_true rfl⟩ dX2_comesBy_60 (fun H locs hO hS => ?_)
      obtain ⟨e8, rfl⟩ := Prod.mk.inj (Option.some.inj h)
      exact g_retG hx hb hr hlocks e8 hO hS dX2_comesBy_63
    have key13 : ∀ (f : Nat) (v1 : Int32) (z : GS) (H : Heap) (locs : List Loc) (ls : Array Slot), FX2_comesBy_L33 k3 f v1 z = some (r, zq) → OM D aC o ad z H → va_S A s.heap H locs → lv_has ls 2 [(0, .ref o), (1, .int v1)] → W p l e ({ frames := 55, cells := 0, slots := 0, locals := 1258 }) s m ([.ref o] : List Value).toArray below meth c H locs 0 0 (MQ below (QG (some (.int r)) (OM D aC o ad zq) A) ([.ref o] : List Value).toArray s 0 0 A) (F0 m 33 ls []) := by
      intro f
      induction f with
      | zero =>
        intro v1 z H locs ls h
        rw [FX2_comesBy_L33] at h
        cases h
      | succ f ih8 =>
        intro v1 z H locs ls h hO hS hl
        rw [FX2_comesBy_L33] at h
        refine lv_iload_n hx hb dX2_comesBy_33 rfl (lv_at hl 1 rfl) ?_
        refine lv_aload_n hx hb dX2_comesBy_34 rfl (lv_at hl 0 rfl) ?_
        refine X2_getF hx hb hts hown hK hO 14 (by decide) rfl (hts _ q1551) dX2_comesBy_35 ?_
        refine lv_icmp_ge (tgt := 59) hx hb dX2_comesBy_38 (by decide) (fun c9 => ?_) (fun c9 => ?_)
        · have h := it_t c9 h
          exact hk3 _ _ _ _ h hO hS (lv_sub hl [0] rfl)
        · have h := it_f c9 h
          refine lv_aload_n hx hb dX2_comesBy_41 rfl (lv_at hl 0 rfl) ?_
          refine X2_getA hx hb hts hown hK hO 13 (by decide) rfl (hts _ q1550) dX2_comesBy_42 ?_
          refine lv_iload_n hx hb dX2_comesBy_45 rfl (lv_at hl 1 rfl) ?_
          refine lv_aload_n hx hb dX2_comesBy_46 rfl (lv_at hl 0 rfl) ?_
          refine X2_getA hx hb hts hown hK hO 10 (by decide) rfl (hts _ q1547) dX2_comesBy_47 ?_
          refine lv_iload_n hx hb dX2_comesBy_50 rfl (lv_at hl 1 rfl) ?_
          obtain ⟨g10, h⟩ := grd h
          refine X2_iaload hx hb hK hO 10 (by decide) rfl rfl g10 dX2_comesBy_51 ?_
          obtain ⟨g11, h⟩ := grd h
          refine X2_iastore hx hb hK hO hD hS 13 (by decide) rfl rfl g11 dX2_comesBy_52 (fun H locs z12 ez12 hO hS => ?_)
          have h := pin_to ez12 h
          refine lv_iinc (v := (v1 + 1)) (lv' := [(1, .int (v1 + 1)), (0, .ref o)]) hx hb dX2_comesBy_53 hl (k := 1) rfl rfl (by decide) rfl (fun ls hl => ?_)
          refine lv_goto (tgt := 33) hx hb dX2_comesBy_56 (by decide) ?_
          exact ih8 _ _ _ _ _ h hO hS (lv_sub hl [1, 0] rfl)
    exact key13 FU _ _ _ _ _ h hO hS (lv_sub hl [1, 0] rfl)
  · have h := it_t c1 h
    refine lv_aload_n hx hb dX2_comesBy_7 rfl (lv_at hl 0 rfl) ?_
    refine X2_getA hx hb hts hown hK hO 18 (by decide) rfl (hts _ q1555) dX2_comesBy_8 ?_
    refine lv_iconst (v := 0) hx hb dX2_comesBy_11 (by decide) ?_
    obtain ⟨g15, h⟩ := grd h
    refine X2_iaload hx hb hK hO 18 (by decide) rfl rfl g15 dX2_comesBy_12 ?_
    refine lv_aload_n hx hb dX2_comesBy_13 rfl (lv_at hl 0 rfl) ?_
    refine X2_getA hx hb hts hown hK hO 18 (by decide) rfl (hts _ q1555) dX2_comesBy_14 ?_
    refine lv_iconst (v := 1) hx hb dX2_comesBy_17 (by decide) ?_
    obtain ⟨g16, h⟩ := grd h
    refine X2_iaload hx hb hK hO 18 (by decide) rfl rfl g16 dX2_comesBy_18 ?_
    refine lv_iconst (v := 2) hx hb dX2_comesBy_19 (by decide) ?_
    refine lv_idiv hx hb dX2_comesBy_20 (by decide) ?_
    refine lv_isub hx hb dX2_comesBy_21 ?_
    obtain ⟨e8, rfl⟩ := Prod.mk.inj (Option.some.inj h)
    exact g_retG hx hb hr hlocks e8 hO hS dX2_comesBy_22
theorem clX2_comesBy {p : Program} {l : Launch} {e : Env} {R : Room} {s : State} {m : MethodId} {args : Array Value} {below : List Frame} {meth : Method} {c : Code} {H : Heap} {locs : List Loc} {cells slots : Nat} {Q : State → Prop} {cc : ByteArray} {pc nL idx fr lo : Nat} {ls : Array Slot} {rest : List Value} {own : String} {D : va_G} {aC : Nat → ClassId} {o : Nat} {ad : Nat → Nat} {z : GS} {zq : GS} {A : Nat → Prop}  {r : Int32} (hf : CallFix p m c cc nL s args lw_all own) (hK : va_K D vwCl (tysG aC) s) (hO : OM D aC o ad z H) (hS : va_S A s.heap H locs) (hM : Met l yX2_comesBy (ws_ yX2_comesBy cX2_comesBy 2 (some .int)) ({ frames := fr, cells := 0, slots := 0, locals := lo }) (va_Pc [.ref o] (PM D aC o ad z)) (QG (some (.int r)) (OM D aC o ad zq) A) 0 0 A) (hq : Cond.methodLink own idx yX2_comesBy ∈ lw_all) (hs : ls.size = nL) (hr : (rest.map fun v => v.category).sum ≤ 8) (hR : fr + 1 ≤ R.frames ∧ 8 + (2 + 11) + lo ≤ R.locals) (hcs : cells + 0 ≤ R.cells ∧ slots + 0 ≤ R.slots) (hd : decode cc pc = .ok (.invokevirtual idx, 3)) (kk : ∀ (H1 : Heap) (locs1 : List Loc), OM D aC o ad zq H1 → va_S A s.heap H1 locs1 → W p l e R s m args below meth c H1 locs1 cells slots Q (F0 m (pc + 3) ls (.int r :: rest))) : W p l e R s m args below meth c H locs cells slots Q (F0 m pc ls (.ref o :: rest)) :=
  g_callG (W.runV (As := []) (rest := rest) hf hM (cwV 0 hf.2.2.2.2 (lw_V hq q1785 qs68 q92 q1786) rfl rfl rfl (by decide +kernel) hR) ⟨fun a U g mk q => ⟨q.1, q.2.1, va_K.moved (u := U) (U := U.calling g mk a) (Vm.Alike.refl U.vm) q.2.2⟩, OA.recv hK hO rfl, fun U hU hW => ⟨rfl, by rw [hU]; exact hO, va_K.moved hW.alike hK⟩⟩ rfl rfl hs rfl (lv_room hr) hd hcs) hS (fun H1 locs1 hP hS _ _ => kk H1 locs1 hP hS)
theorem metX2_bound (l : Launch) (x1 : Int32) (x2 : Int32) (x3 : Int32)  (r : Int32) (h : FX2_bound x1 x2 x3 = r) : Met l yX2_bound (ws_ yX2_bound cX2_bound 3 (some .int)) ({ frames := 1, cells := 0, slots := 0, locals := 60 }) (va_Pc [.int x1, .int x2, .int x3] (fun _ => True)) (QR (some (.int r))) 0 0 (fun _ => False) := by
  refine g_ofW (cc := cX2_bound) (maxL := 3) (ret := (some .int)) (own := RX2) (by decide) rfl rfl [.int x1, .int x2, .int x3] (fun _ => True) (Nat.le_of_ble_eq_true rfl) ?_
  intro p e s m below meth c ls hx hb hr hml hts hown hlocks hnm hPre hl
  have hf : CallFix p m c cX2_bound 3 s _ lw_all RX2 := ⟨hx, hb, hml, hown, hts⟩
  have hl : lv_has ls 3 [(0, .int x1), (1, .int x2), (2, .int x3)] := hl
  unfold FX2_bound at h
  refine lv_iload_n hx hb dX2_bound_0 rfl (lv_at hl 1 rfl) ?_
  refine lv_iload_n hx hb dX2_bound_1 rfl (lv_at hl 2 rfl) ?_
  refine lv_iload_n hx hb dX2_bound_2 rfl (lv_at hl 0 rfl) ?_
  refine g_mmin hx hb (hml.trans hl.1.symm) hown (hts _ q1790) (hts _ q669) (hts _ q106) (hts _ q670) (Nat.le_of_ble_eq_true rfl) (Nat.le_of_ble_eq_true rfl) (Nat.le_refl _) (Nat.le_refl _) dX2_bound_3 ?_
  refine g_mmax hx hb (hml.trans hl.1.symm) hown (hts _ q1791) (hts _ q666) (hts _ q106) (hts _ q667) (Nat.le_of_ble_eq_true rfl) (Nat.le_of_ble_eq_true rfl) (Nat.le_refl _) (Nat.le_refl _) dX2_bound_6 ?_
  exact g_retR hx hb hr hlocks h dX2_bound_9
theorem clX2_bound {p : Program} {l : Launch} {e : Env} {R : Room} {s : State} {m : MethodId} {args : Array Value} {below : List Frame} {meth : Method} {c : Code} {H : Heap} {locs : List Loc} {cells slots : Nat} {Q : State → Prop} {cc : ByteArray} {pc nL idx fr lo : Nat} {ls : Array Slot} {rest : List Value} {own : String}  {x1 : Int32} {x2 : Int32} {x3 : Int32} {r : Int32} (hf : CallFix p m c cc nL s args lw_all own) (hM : Met l yX2_bound (ws_ yX2_bound cX2_bound 3 (some .int)) ({ frames := fr, cells := 0, slots := 0, locals := lo }) (va_Pc [.int x1, .int x2, .int x3] (fun _ => True)) (QR (some (.int r))) 0 0 (fun _ => False)) (hq : Cond.methodLink own idx yX2_bound ∈ lw_all) (hs : ls.size = nL) (hr : (rest.map fun v => v.category).sum ≤ 8) (hR : fr + 1 ≤ R.frames ∧ 8 + (3 + 11) + lo ≤ R.locals) (hcs : cells + 0 ≤ R.cells ∧ slots + 0 ≤ R.slots) (hd : decode cc pc = .ok (.invokestatic idx, 3)) (kk : W p l e R s m args below meth c H locs cells slots Q (F0 m (pc + 3) ls (.int r :: rest))) : W p l e R s m args below meth c H locs cells slots Q (F0 m pc ls (.int x3 :: .int x2 :: .int x1 :: rest)) :=
  g_callR (W.runS (As := [.int x1, .int x2, .int x3]) (rest := rest) hf hM (va_cwS 3 hf.2.2.2.2 (lw_S hq q1788 q92 q1789) rfl rfl rfl (by decide +kernel) hR) ⟨fun a U g mk q => q, fun U hU hW => ⟨rfl, trivial⟩⟩ rfl rfl hs rfl (lv_room hr) hd hcs) kk
theorem metX2_comesFrom (l : Launch) (D : va_G) (aC : Nat → ClassId) (o : Nat) (ad : Nat → Nat) (A : Nat → Prop) (hD : OD A 44 kdM o ad) (x1 : Int32) (z : GS) (r : Int32) (zq : GS) (h : FX2_comesFrom x1 z = some (r, zq)) : Met l yX2_comesFrom (ws_ yX2_comesFrom cX2_comesFrom 3 (some .int)) ({ frames := 56, cells := 0, slots := 0, locals := 1279 }) (va_Pc [.ref o, .int x1] (PM D aC o ad z)) (QG (some (.int r)) (OM D aC o ad zq) A) 0 0 A := by
  refine g_ofW (cc := cX2_comesFrom) (maxL := 3) (ret := (some .int)) (own := RX2) (by decide) rfl rfl [.ref o, .int x1] (PM D aC o ad z) (Nat.le_of_ble_eq_true rfl) ?_
  intro p e s m below meth c ls hx hb hr hml hts hown hlocks hnm hPre hl
  obtain ⟨hO, hK⟩ := hPre
  have hf : CallFix p m c cX2_comesFrom 3 s _ lw_all RX2 := ⟨hx, hb, hml, hown, hts⟩
  have hl : lv_has ls 3 [(0, .ref o), (1, .int x1)] := hl
  refine g_open (A := A) (OM D aC o ad z) hO (fun H locs hO hS => ?_)
  unfold FX2_comesFrom at h
  refine lv_aload_n hx hb dX2_comesFrom_0 rfl (lv_at hl 0 rfl) ?_
  refine lv_iload_n hx hb dX2_comesFrom_1 rfl (lv_at hl 1 rfl) ?_
  refine lv_iconst (v := 4) hx hb dX2_comesFrom_2 (by decide) ?_
  obtain ⟨r1, e2, h⟩ := bn1_e h
  refine clX2_number_2 hf hK hO (metX2_number_2 l D aC o ad x1 4 z r1 e2) q1771 hl.1 (Nat.le_of_ble_eq_true rfl) ⟨Nat.le_of_ble_eq_true rfl, Nat.le_of_ble_eq_true rfl⟩ ⟨Nat.le_of_ble_eq_true rfl, Nat.le_of_ble_eq_true rfl⟩ dX2_comesFrom_3 ?_
  refine lv_istore_n (lv' := [(2, .int r1), (0, .ref o), (1, .int x1)]) hx hb dX2_comesFrom_6 rfl hl (by decide) rfl (fun ls hl => ?_)
  refine lv_iload_n hx hb dX2_comesFrom_7 rfl (lv_at hl 0 rfl) ?_
  refine lv_iconst (v := (-1)) hx hb dX2_comesFrom_8 (by decide) ?_
  refine lv_icmp_eq (tgt := 21) hx hb dX2_comesFrom_9 (by decide) (fun c3 => ?_) (fun c3 => ?_)
  · have h := it_t c3 h
    refine lv_iconst (v := 0) hx hb dX2_comesFrom_21 (by decide) ?_
    obtain ⟨e8, rfl⟩ := Prod.mk.inj (Option.some.inj h)
    exact g_retG hx hb hr hlocks e8 hO hS dX2_comesFrom_22
  · have h := it_f c3 h
    refine lv_aload_n hx hb dX2_comesFrom_12 rfl (lv_at hl 1 rfl) ?_
    refine lv_iload_n hx hb dX2_comesFrom_13 rfl (lv_at hl 2 rfl) ?_
    refine lv_iconst (v := 3) hx hb dX2_comesFrom_14 (by decide) ?_
    obtain ⟨r4, e5, h⟩ := bn1_e h
    refine clX2_number_2 hf hK hO (metX2_number_2 l D aC o ad x1 3 z r4 e5) q1771 hl.1 (Nat.le_of_ble_eq_true rfl) ⟨Nat.le_of_ble_eq_true rfl, Nat.le_of_ble_eq_true rfl⟩ ⟨Nat.le_of_ble_eq_true rfl, Nat.le_of_ble_eq_true rfl⟩ dX2_comesFrom_15 ?_
    refine lv_if_ne (tgt := 23) hx hb dX2_comesFrom_18 (by decide) (fun c6 => ?_) (fun c6 => ?_)
    · have h := it_f c6 h
      refine lv_aload_n hx hb dX2_comesFrom_23 rfl (lv_at hl 1 rfl) ?_
      refine X2_getA hx hb hts hown hK hO 18 (by decide) rfl (hts _ q1555) dX2_comesFrom_24 ?_
      refine lv_iconst (v := 0) hx hb dX2_comesFrom_27 (by decide) ?_
      refine lv_aload_n hx hb dX2_comesFrom_28 rfl (lv_at hl 1 rfl) ?_
      refine lv_iload_n hx hb dX2_comesFrom_29 rfl (lv_at hl 2 rfl) ?_
      refine lv_iconst (v := 1) hx hb dX2_comesFrom_30 (by decide) ?_
      obtain ⟨r7, e8, h⟩ := bn1_e h
      refine clX2_number_2 hf hK hO (metX2_number_2 l D aC o ad x1 1 z r7 e8) q1771 hl.1 (Nat.le_of_ble_eq_true rfl) ⟨Nat.le_of_ble_eq_true rfl, Nat.le_of_ble_eq_true rfl⟩ ⟨Nat.le_of_ble_eq_true rfl, Nat.le_of_ble_eq_true rfl⟩ dX2_comesFrom_31 ?_
      obtain ⟨g9, h⟩ := grd h
      refine X2_iastore hx hb hK hO hD hS 18 (by decide) rfl rfl g9 dX2_comesFrom_34 (fun H locs z10 ez10 hO hS => ?_)
      have h := pin_to ez10 h
      refine lv_aload_n hx hb dX2_comesFrom_35 rfl (lv_at hl 1 rfl) ?_
      refine X2_getA hx hb hts hown hK hO 18 (by decide) rfl (hts _ q1555) dX2_comesFrom_36 ?_
      refine lv_iconst (v := 1) hx hb dX2_comesFrom_39 (by decide) ?_
      refine lv_aload_n hx hb dX2_comesFrom_40 rfl (lv_at hl 1 rfl) ?_
      refine lv_iload_n hx hb dX2_comesFrom_41 rfl (lv_at hl 2 rfl) ?_
      refine lv_iconst (v := 0) hx hb dX2_comesFrom_42 (by decide) ?_
      obtain ⟨r11, e12, h⟩ := bn1_e h
      refine clX2_number_2 hf hK hO (metX2_number_2 l D aC o ad x1 0 z10 r11 e12) q1771 hl.1 (Nat.le_of_ble_eq_true rfl) ⟨Nat.le_of_ble_eq_true rfl, Nat.le_of_ble_eq_true rfl⟩ ⟨Nat.le_of_ble_eq_true rfl, Nat.le_of_ble_eq_true rfl⟩ dX2_comesFrom_43 ?_
      refine lv_aload_n hx hb dX2_comesFrom_46 rfl (lv_at hl 1 rfl) ?_
      refine lv_iload_n hx hb dX2_comesFrom_47 rfl (lv_at hl 0 rfl) ?_
      refine lv_iconst (v := 0) hx hb dX2_comesFrom_48 (by decide) ?_
      obtain ⟨r13, e14, h⟩ := bn1_e h
      refine clX2_number_2 hf hK hO (metX2_number_2 l D aC o ad r1 0 z10 r13 e14) q1771 hl.1 (Nat.le_of_ble_eq_true rfl) ⟨Nat.le_of_ble_eq_true rfl, Nat.le_of_ble_eq_true rfl⟩ ⟨Nat.le_of_ble_eq_true rfl, Nat.le_of_ble_eq_true rfl⟩ dX2_comesFrom_49 ?_
      refine clX2_far hf (metX2_far l r11 r13 _ rfl) q1775 hl.1 (Nat.le_of_ble_eq_true rfl) ⟨Nat.le_of_ble_eq_true rfl, Nat.le_of_ble_eq_true rfl⟩ ⟨Nat.le_of_ble_eq_true rfl, Nat.le_of_ble_eq_true rfl⟩ dX2_comesFrom_52 ?_
      obtain ⟨g15, h⟩ := grd h
      refine X2_iastore hx hb hK hO hD hS 18 (by decide) rfl rfl g15 dX2_comesFrom_55 (fun H locs z16 ez16 hO hS => ?_)
      have h := pin_to ez16 h
      refine lv_aload_n hx hb dX2_comesFrom_56 rfl (lv_at hl 1 rfl) ?_
      refine X2_getA hx hb hts hown hK hO 18 (by decide) rfl (hts _ q1555) dX2_comesFrom_57 ?_
      refine lv_iconst (v := 2) hx hb dX2_comesFrom_60 (by decide) ?_
      refine lv_aload_n hx hb dX2_comesFrom_61 rfl (lv_at hl 1 rfl) ?_
      refine lv_iload_n hx hb dX2_comesFrom_62 rfl (lv_at hl 0 rfl) ?_
      refine lv_iconst (v := 2) hx hb dX2_comesFrom_63 (by decide) ?_
      obtain ⟨r17, e18, h⟩ := bn1_e h
      refine clX2_number_2 hf hK hO (metX2_number_2 l D aC o ad r1 2 z16 r17 e18) q1771 hl.1 (Nat.le_of_ble_eq_true rfl) ⟨Nat.le_of_ble_eq_true rfl, Nat.le_of_ble_eq_true rfl⟩ ⟨Nat.le_of_ble_eq_true rfl, Nat.le_of_ble_eq_true rfl⟩ dX2_comesFrom_64 ?_
      obtain ⟨g19, h⟩ := grd h
      refine X2_iastore hx hb hK hO hD hS 18 (by decide) rfl rfl g19 dX2_comesFrom_67 (fun H locs z20 ez20 hO hS => ?_)
      have h := pin_to ez20 h
      refine lv_aload_n hx hb dX2_comesFrom_68 rfl (lv_at hl 1 rfl) ?_
      refine X2_getA hx hb hts hown hK hO 18 (by decide) rfl (hts _ q1555) dX2_comesFrom_69 ?_
      refine lv_iconst (v := 3) hx hb dX2_comesFrom_72 (by decide) ?_
      refine lv_aload_n hx hb dX2_comesFrom_73 rfl (lv_at hl 1 rfl) ?_
      refine lv_iload_n hx hb dX2_comesFrom_74 rfl (lv_at hl 0 rfl) ?_
      obtain ⟨r21, e22, h⟩ := bn1_e h
      refine clX2_carers hf hK hO (metX2_carers l D aC o ad r1 z20 r21 e22) q1779 hl.1 (Nat.le_of_ble_eq_true rfl) ⟨Nat.le_of_ble_eq_true rfl, Nat.le_of_ble_eq_true rfl⟩ ⟨Nat.le_of_ble_eq_true rfl, Nat.le_of_ble_eq_true rfl⟩ dX2_comesFrom_75 ?_
      obtain ⟨g23, h⟩ := grd h
      refine X2_iastore hx hb hK hO hD hS 18 (by decide) rfl rfl g23 dX2_comesFrom_78 (fun H locs z24 ez24 hO hS => ?_)
      have h := pin_to ez24 h
      refine lv_aload_n hx hb dX2_comesFrom_79 rfl (lv_at hl 1 rfl) ?_
      refine X2_getA hx hb hts hown hK hO 18 (by decide) rfl (hts _ q1555) dX2_comesFrom_80 ?_
      refine lv_iconst (v := 4) hx hb dX2_comesFrom_83 (by decide) ?_
      refine lv_aload_n hx hb dX2_comesFrom_84 rfl (lv_at hl 1 rfl) ?_
      refine lv_iload_n hx hb dX2_comesFrom_85 rfl (lv_at hl 2 rfl) ?_
      refine lv_iconst (v := 3) hx hb dX2_comesFrom_86 (by decide) ?_
      obtain ⟨r25, e26, h⟩ := bn1_e h
      refine clX2_number_2 hf hK hO (metX2_number_2 l D aC o ad x1 3 z24 r25 e26) q1771 hl.1 (Nat.le_of_ble_eq_true rfl) ⟨Nat.le_of_ble_eq_true rfl, Nat.le_of_ble_eq_true rfl⟩ ⟨Nat.le_of_ble_eq_true rfl, Nat.le_of_ble_eq_true rfl⟩ dX2_comesFrom_87 ?_
      obtain ⟨g27, h⟩ := grd h
      refine X2_iastore hx hb hK hO hD hS 18 (by decide) rfl rfl g27 dX2_comesFrom_90 (fun H locs z28 ez28 hO hS => ?_)
      have h := pin_to ez28 h
      refine lv_aload_n hx hb dX2_comesFrom_91 rfl (lv_at hl 1 rfl) ?_
      refine X2_getA hx hb hts hown hK hO 18 (by decide) rfl (hts _ q1555) dX2_comesFrom_92 ?_
      refine lv_iconst (v := 5) hx hb dX2_comesFrom_95 (by decide) ?_
      refine lv_aload_n hx hb dX2_comesFrom_96 rfl (lv_at hl 1 rfl) ?_
      refine X2_getA hx hb hts hown hK hO 0 (by decide) rfl (hts _ q1537) dX2_comesFrom_97 ?_
      refine lv_bipush (v := 41) hx hb dX2_comesFrom_100 (by decide) ?_
      obtain ⟨g29, h⟩ := grd h
      refine X2_iaload hx hb hK hO 0 (by decide) rfl rfl g29 dX2_comesFrom_102 ?_
      obtain ⟨g30, h⟩ := grd h
      refine X2_iastore hx hb hK hO hD hS 18 (by decide) rfl rfl g30 dX2_comesFrom_103 (fun H locs z31 ez31 hO hS => ?_)
      have h := pin_to ez31 h
      refine lv_aload_n hx hb dX2_comesFrom_104 rfl (lv_at hl 1 rfl) ?_
      obtain ⟨r32, z33, e34, h⟩ := bnd_e h
      refine clX2_comesBy hf hK hO hS (metX2_comesBy l D aC o ad A hD z31 r32 z33 e34) q1783 hl.1 (Nat.le_of_ble_eq_true rfl) ⟨Nat.le_of_ble_eq_true rfl, Nat.le_of_ble_eq_true rfl⟩ ⟨Nat.le_of_ble_eq_true rfl, Nat.le_of_ble_eq_true rfl⟩ dX2_comesFrom_105 (fun H locs hO hS => ?_)
      refine lv_iconst (v := 0) hx hb dX2_comesFrom_108 (by decide) ?_
      refine lv_bipush (v := 20) hx hb dX2_comesFrom_109 (by decide) ?_
      refine clX2_bound hf (metX2_bound l r32 0 20 _ rfl) q1787 hl.1 (Nat.le_of_ble_eq_true rfl) ⟨Nat.le_of_ble_eq_true rfl, Nat.le_of_ble_eq_true rfl⟩ ⟨Nat.le_of_ble_eq_true rfl, Nat.le_of_ble_eq_true rfl⟩ dX2_comesFrom_111 ?_
      obtain ⟨e8, rfl⟩ := Prod.mk.inj (Option.some.inj h)
      exact g_retG hx hb hr hlocks e8 hO hS dX2_comesFrom_114
    · have h := it_t c6 h
      refine lv_iconst (v := 0) hx hb dX2_comesFrom_21 (by decide) ?_
      obtain ⟨e8, rfl⟩ := Prod.mk.inj (Option.some.inj h)
      exact g_retG hx hb hr hlocks e8 hO hS dX2_comesFrom_22
theorem clX2_comesFrom {p : Program} {l : Launch} {e : Env} {R : Room} {s : State} {m : MethodId} {args : Array Value} {below : List Frame} {meth : Method} {c : Code} {H : Heap} {locs : List Loc} {cells slots : Nat} {Q : State → Prop} {cc : ByteArray} {pc nL idx fr lo : Nat} {ls : Array Slot} {rest : List Value} {own : String} {D : va_G} {aC : Nat → ClassId} {o : Nat} {ad : Nat → Nat} {z : GS} {zq : GS} {A : Nat → Prop} {x1 : Int32} {r : Int32} (hf : CallFix p m c cc nL s args lw_all own) (hK : va_K D vwCl (tysG aC) s) (hO : OM D aC o ad z H) (hS : va_S A s.heap H locs) (hM : Met l yX2_comesFrom (ws_ yX2_comesFrom cX2_comesFrom 3 (some .int)) ({ frames := fr, cells := 0, slots := 0, locals := lo }) (va_Pc [.ref o, .int x1] (PM D aC o ad z)) (QG (some (.int r)) (OM D aC o ad zq) A) 0 0 A) (hq : Cond.methodLink own idx yX2_comesFrom ∈ lw_all) (hs : ls.size = nL) (hr : (rest.map fun v => v.category).sum ≤ 8) (hR : fr + 1 ≤ R.frames ∧ 8 + (3 + 11) + lo ≤ R.locals) (hcs : cells + 0 ≤ R.cells ∧ slots + 0 ≤ R.slots) (hd : decode cc pc = .ok (.invokevirtual idx, 3)) (kk : ∀ (H1 : Heap) (locs1 : List Loc), OM D aC o ad zq H1 → va_S A s.heap H1 locs1 → W p l e R s m args below meth c H1 locs1 cells slots Q (F0 m (pc + 3) ls (.int r :: rest))) : W p l e R s m args below meth c H locs cells slots Q (F0 m pc ls (.int x1 :: .ref o :: rest)) :=
  g_callG (W.runV (As := [.int x1]) (rest := rest) hf hM (cwV 1 hf.2.2.2.2 (lw_V hq q1769 qs65 q92 q1770) rfl rfl rfl (by decide +kernel) hR) ⟨fun a U g mk q => ⟨q.1, q.2.1, va_K.moved (u := U) (U := U.calling g mk a) (Vm.Alike.refl U.vm) q.2.2⟩, OA.recv hK hO rfl, fun U hU hW => ⟨rfl, by rw [hU]; exact hO, va_K.moved hW.alike hK⟩⟩ rfl rfl hs rfl (lv_room hr) hd hcs) hS (fun H1 locs1 hP hS _ _ => kk H1 locs1 hP hS)
theorem metX2_comes (l : Launch) (D : va_G) (aC : Nat → ClassId) (o : Nat) (ad : Nat → Nat) (A : Nat → Prop) (hD : OD A 44 kdM o ad) (x1 : Int32) (z : GS) (r : Int32) (zq : GS) (h : FX2_comes x1 z = some (r, zq)) : Met l yX2_comes (ws_ yX2_comes cX2_comes 2 (some .int)) ({ frames := 57, cells := 0, slots := 0, locals := 1301 }) (va_Pc [.ref o, .int x1] (PM D aC o ad z)) (QG (some (.int r)) (OM D aC o ad zq) A) 0 0 A := by
  refine g_ofW (cc := cX2_comes) (maxL := 2) (ret := (some .int)) (own := RX2) (by decide) rfl rfl [.ref o, .int x1] (PM D aC o ad z) (Nat.le_of_ble_eq_true rfl) ?_
  intro p e s m below meth c ls hx hb hr hml hts hown hlocks hnm hPre hl
  obtain ⟨hO, hK⟩ := hPre
  have hf : CallFix p m c cX2_comes 2 s _ lw_all RX2 := ⟨hx, hb, hml, hown, hts⟩
  have hl : lv_has ls 2 [(0, .ref o), (1, .int x1)] := hl
  refine g_open (A := A) (OM D aC o ad z) hO (fun H locs hO hS => ?_)
  unfold FX2_comes at h
  refine lv_aload_n hx hb dX2_comes_0 rfl (lv_at hl 0 rfl) ?_
  refine lv_iload_n hx hb dX2_comes_1 rfl (lv_at hl 1 rfl) ?_
  refine clX2_isOne hf hK hO (metX2_isOne l D aC o ad x1 z _ rfl) q1694 hl.1 (Nat.le_of_ble_eq_true rfl) ⟨Nat.le_of_ble_eq_true rfl, Nat.le_of_ble_eq_true rfl⟩ ⟨Nat.le_of_ble_eq_true rfl, Nat.le_of_ble_eq_true rfl⟩ dX2_comes_2 ?_
  refine lv_if_eq (tgt := 16) hx hb dX2_comes_5 (by decide) (fun c1 => ?_) (fun c1 => ?_)
  · have h := it_t c1 h
    refine lv_iconst (v := (-1)) hx hb dX2_comes_16 (by decide) ?_
    obtain ⟨e8, rfl⟩ := Prod.mk.inj (Option.some.inj h)
    exact g_retG hx hb hr hlocks e8 hO hS dX2_comes_17
  · have h := it_f c1 h
    refine lv_aload_n hx hb dX2_comes_8 rfl (lv_at hl 0 rfl) ?_
    refine lv_iload_n hx hb dX2_comes_9 rfl (lv_at hl 1 rfl) ?_
    obtain ⟨r2, z3, e4, h⟩ := bnd_e h
    refine clX2_comesFrom hf hK hO hS (metX2_comesFrom l D aC o ad A hD x1 z r2 z3 e4) q1767 hl.1 (Nat.le_of_ble_eq_true rfl) ⟨Nat.le_of_ble_eq_true rfl, Nat.le_of_ble_eq_true rfl⟩ ⟨Nat.le_of_ble_eq_true rfl, Nat.le_of_ble_eq_true rfl⟩ dX2_comes_10 (fun H locs hO hS => ?_)
    refine lv_goto (tgt := 17) hx hb dX2_comes_13 (by decide) ?_
    obtain ⟨e8, rfl⟩ := Prod.mk.inj (Option.some.inj h)
    exact g_retG hx hb hr hlocks e8 hO hS dX2_comes_17
theorem clX2_comes {p : Program} {l : Launch} {e : Env} {R : Room} {s : State} {m : MethodId} {args : Array Value} {below : List Frame} {meth : Method} {c : Code} {H : Heap} {locs : List Loc} {cells slots : Nat} {Q : State → Prop} {cc : ByteArray} {pc nL idx fr lo : Nat} {ls : Array Slot} {rest : List Value} {own : String} {D : va_G} {aC : Nat → ClassId} {o : Nat} {ad : Nat → Nat} {z : GS} {zq : GS} {A : Nat → Prop} {x1 : Int32} {r : Int32} (hf : CallFix p m c cc nL s args lw_all own) (hK : va_K D vwCl (tysG aC) s) (hO : OM D aC o ad z H) (hS : va_S A s.heap H locs) (hM : Met l yX2_comes (ws_ yX2_comes cX2_comes 2 (some .int)) ({ frames := fr, cells := 0, slots := 0, locals := lo }) (va_Pc [.ref o, .int x1] (PM D aC o ad z)) (QG (some (.int r)) (OM D aC o ad zq) A) 0 0 A) (hq : Cond.methodLink own idx yX2_comes ∈ lw_all) (hs : ls.size = nL) (hr : (rest.map fun v => v.category).sum ≤ 8) (hR : fr + 1 ≤ R.frames ∧ 8 + (2 + 11) + lo ≤ R.locals) (hcs : cells + 0 ≤ R.cells ∧ slots + 0 ≤ R.slots) (hd : decode cc pc = .ok (.invokevirtual idx, 3)) (kk : ∀ (H1 : Heap) (locs1 : List Loc), OM D aC o ad zq H1 → va_S A s.heap H1 locs1 → W p l e R s m args below meth c H1 locs1 cells slots Q (F0 m (pc + 3) ls (.int r :: rest))) : W p l e R s m args below meth c H locs cells slots Q (F0 m pc ls (.int x1 :: .ref o :: rest)) :=
  g_callG (W.runV (As := [.int x1]) (rest := rest) hf hM (cwV 1 hf.2.2.2.2 (lw_V hq q1764 q1765 q92 q1766) rfl rfl rfl (by decide +kernel) hR) ⟨fun a U g mk q => ⟨q.1, q.2.1, va_K.moved (u := U) (U := U.calling g mk a) (Vm.Alike.refl U.vm) q.2.2⟩, OA.recv hK hO rfl, fun U hU hW => ⟨rfl, by rw [hU]; exact hO, va_K.moved hW.alike hK⟩⟩ rfl rfl hs rfl (lv_room hr) hd hcs) hS (fun H1 locs1 hP hS _ _ => kk H1 locs1 hP hS)
theorem metX2_keepAll (l : Launch) (D : va_G) (aC : Nat → ClassId) (o : Nat) (ad : Nat → Nat) (A : Nat → Prop) (hD : OD A 44 kdM o ad) (x1 : Int32) (z : GS)  (zq : GS) (h : FX2_keepAll x1 z = some zq) : Met l yX2_keepAll (ws_ yX2_keepAll cX2_keepAll 3 none) ({ frames := 0, cells := 0, slots := 0, locals := 0 }) (va_Pc [.ref o, .int x1] (PM D aC o ad z)) (QG none (OM D aC o ad zq) A) 0 0 A := by
  refine g_ofW (cc := cX2_keepAll) (maxL := 3) (ret := none) (own := RX2) (by decide) rfl rfl [.ref o, .int x1] (PM D aC o ad z) (Nat.le_of_ble_eq_true rfl) ?_
  intro p e s m below meth c ls hx hb hr hml hts hown hlocks hnm hPre hl
  obtain ⟨hO, hK⟩ := hPre
  have hf : CallFix p m c cX2_keepAll 3 s _ lw_all RX2 := ⟨hx, hb, hml, hown, hts⟩
  have hl : lv_has ls 3 [(0, .ref o), (1, .int x1)] := hl
  refine g_open (A := A) (OM D aC o ad z) hO (fun H locs hO hS => ?_)
  unfold FX2_keepAll at h
  refine lv_iconst (v := 0) hx hb dX2_keepAll_0 (by decide) ?_
  refine lv_istore_n (lv' := [(2, .int 0), (0, .ref o), (1, .int x1)]) hx hb dX2_keepAll_1 rfl hl (by decide) rfl (fun ls hl => ?_)
  have key6 : ∀ (f : Nat) (v2 : Int32) (z : GS) (H : Heap) (locs : List Loc) (ls : Array Slot), FX2_keepAll_L2 x1 f v2 z = some zq → OM D aC o ad z H → va_S A s.heap H locs → lv_has ls 3 [(0, .ref o), (1, .int x1), (2, .int v2)] → W p l e ({ frames := 0, cells := 0, slots := 0, locals := 0 }) s m ([.ref o, .int x1] : List Value).toArray below meth c H locs 0 0 (MQ below (QG none (OM D aC o ad zq) A) ([.ref o, .int x1] : List Value).toArray s 0 0 A) (F0 m 2 ls []) := by
    intro f
    induction f with
    | zero =>
      intro v2 z H locs ls h
      rw [FX2_keepAll_L2] at h
      cases h
    | succ f ih1 =>
      intro v2 z H locs ls h hO hS hl
      rw [FX2_keepAll_L2] at h
      refine lv_iload_n hx hb dX2_keepAll_2 rfl (lv_at hl 2 rfl) ?_
      refine lv_bipush (v := 42) hx hb dX2_keepAll_3 (by decide) ?_
      refine lv_icmp_ge (tgt := 31) hx hb dX2_keepAll_5 (by decide) (fun c2 => ?_) (fun c2 => ?_)
      · have h := it_t c2 h
        cases Option.some.inj h
        exact g_retGv hx hb hr hlocks hO hS dX2_keepAll_31
      · have h := it_f c2 h
        refine lv_aload_n hx hb dX2_keepAll_8 rfl (lv_at hl 0 rfl) ?_
        refine X2_getA hx hb hts hown hK hO 1 (by decide) rfl (hts _ q1538) dX2_keepAll_9 ?_
        refine lv_bipush (v := 42) hx hb dX2_keepAll_12 (by decide) ?_
        refine lv_iload_n hx hb dX2_keepAll_14 rfl (lv_at hl 1 rfl) ?_
        refine lv_imul hx hb dX2_keepAll_15 ?_
        refine lv_iload_n hx hb dX2_keepAll_16 rfl (lv_at hl 2 rfl) ?_
        refine lv_iadd hx hb dX2_keepAll_17 ?_
        refine lv_aload_n hx hb dX2_keepAll_18 rfl (lv_at hl 0 rfl) ?_
        refine X2_getA hx hb hts hown hK hO 0 (by decide) rfl (hts _ q1537) dX2_keepAll_19 ?_
        refine lv_iload_n hx hb dX2_keepAll_22 rfl (lv_at hl 2 rfl) ?_
        obtain ⟨g3, h⟩ := grd h
        refine X2_iaload hx hb hK hO 0 (by decide) rfl rfl g3 dX2_keepAll_23 ?_
        obtain ⟨g4, h⟩ := grd h
        refine X2_iastore hx hb hK hO hD hS 1 (by decide) rfl rfl g4 dX2_keepAll_24 (fun H locs z5 ez5 hO hS => ?_)
        have h := pin_to ez5 h
        refine lv_iinc (v := (v2 + 1)) (lv' := [(2, .int (v2 + 1)), (0, .ref o), (1, .int x1)]) hx hb dX2_keepAll_25 hl (k := 2) rfl rfl (by decide) rfl (fun ls hl => ?_)
        refine lv_goto (tgt := 2) hx hb dX2_keepAll_28 (by decide) ?_
        exact ih1 _ _ _ _ _ h hO hS (lv_sub hl [1, 2, 0] rfl)
  exact key6 FU _ _ _ _ _ h hO hS (lv_sub hl [1, 2, 0] rfl)
theorem clX2_keepAll {p : Program} {l : Launch} {e : Env} {R : Room} {s : State} {m : MethodId} {args : Array Value} {below : List Frame} {meth : Method} {c : Code} {H : Heap} {locs : List Loc} {cells slots : Nat} {Q : State → Prop} {cc : ByteArray} {pc nL idx fr lo : Nat} {ls : Array Slot} {rest : List Value} {own : String} {D : va_G} {aC : Nat → ClassId} {o : Nat} {ad : Nat → Nat} {z : GS} {zq : GS} {A : Nat → Prop} {x1 : Int32}  (hf : CallFix p m c cc nL s args lw_all own) (hK : va_K D vwCl (tysG aC) s) (hO : OM D aC o ad z H) (hS : va_S A s.heap H locs) (hM : Met l yX2_keepAll (ws_ yX2_keepAll cX2_keepAll 3 none) ({ frames := fr, cells := 0, slots := 0, locals := lo }) (va_Pc [.ref o, .int x1] (PM D aC o ad z)) (QG none (OM D aC o ad zq) A) 0 0 A) (hq : Cond.methodLink own idx yX2_keepAll ∈ lw_all) (hs : ls.size = nL) (hr : (rest.map fun v => v.category).sum ≤ 8) (hR : fr + 1 ≤ R.frames ∧ 8 + (3 + 11) + lo ≤ R.locals) (hcs : cells + 0 ≤ R.cells ∧ slots + 0 ≤ R.slots) (hd : decode cc pc = .ok (.invokevirtual idx, 3)) (kk : ∀ (H1 : Heap) (locs1 : List Loc), OM D aC o ad zq H1 → va_S A s.heap H1 locs1 → W p l e R s m args below meth c H1 locs1 cells slots Q (F0 m (pc + 3) ls (rest))) : W p l e R s m args below meth c H locs cells slots Q (F0 m pc ls (.int x1 :: .ref o :: rest)) :=
  g_callG (W.runV (As := [.int x1]) (rest := rest) hf hM (cwV 1 hf.2.2.2.2 (lw_V hq q1798 qs69 q92 q1799) rfl rfl rfl (by decide +kernel) hR) ⟨fun a U g mk q => ⟨q.1, q.2.1, va_K.moved (u := U) (U := U.calling g mk a) (Vm.Alike.refl U.vm) q.2.2⟩, OA.recv hK hO rfl, fun U hU hW => ⟨rfl, by rw [hU]; exact hO, va_K.moved hW.alike hK⟩⟩ rfl rfl hs rfl (lv_room hr) hd hcs) hS (fun H1 locs1 hP hS _ _ => kk H1 locs1 hP hS)
theorem metX2_goDay (l : Launch) (D : va_G) (aC : Nat → ClassId) (o : Nat) (ad : Nat → Nat) (A : Nat → Prop) (hD : OD A 44 kdM o ad)  (z : GS)  (zq : GS) (h : FX2_goDay z = some zq) : Met l yX2_goDay (ws_ yX2_goDay cX2_goDay 3 none) ({ frames := 57, cells := 0, slots := 0, locals := 1301 }) (va_Pc [.ref o] (PM D aC o ad z)) (QG none (OM D aC o ad zq) A) 0 0 A := by
  refine g_ofW (cc := cX2_goDay) (maxL := 3) (ret := none) (own := RX2) (by decide) rfl rfl [.ref o] (PM D aC o ad z) (Nat.le_of_ble_eq_true rfl) ?_
  intro p e s m below meth c ls hx hb hr hml hts hown hlocks hnm hPre hl
  obtain ⟨hO, hK⟩ := hPre
  have hf : CallFix p m c cX2_goDay 3 s _ lw_all RX2 := ⟨hx, hb, hml, hown, hts⟩
  have hl : lv_has ls 3 [(0, .ref o)] := hl
  refine g_open (A := A) (OM D aC o ad z) hO (fun H locs hO hS => ?_)
  unfold FX2_goDay at h
  refine lv_aload_n hx hb dX2_goDay_0 rfl (lv_at hl 0 rfl) ?_
  refine lv_iconst (v := 0) hx hb dX2_goDay_1 (by decide) ?_
  refine X2_putF hx hb hts hown hK hO hD hS 22 (by decide) rfl (hts _ q1559) rfl (ty := .int) rfl rfl rfl dX2_goDay_2 (fun H locs z1 ez1 hO hS => ?_)
  have h := pin_to ez1 h
  refine lv_iconst (v := 0) hx hb dX2_goDay_5 (by decide) ?_
  refine lv_istore_n (lv' := [(1, .int 0), (0, .ref o)]) hx hb dX2_goDay_6 rfl hl (by decide) rfl (fun ls hl => ?_)
  obtain ⟨k2, e53, h⟩ := pin_nm h
  have hk2 : ∀  (z3 : GS) (H : Heap) (locs : List Loc) (ls : Array Slot), k2  z3 = some zq → OM D aC o ad z3 H → va_S A s.heap H locs → lv_has ls 3 [(0, .ref o)] → W p l e ({ frames := 57, cells := 0, slots := 0, locals := 1301 }) s m ([.ref o] : List Value).toArray below meth c H locs 0 0 (MQ below (QG none (OM D aC o ad zq) A) ([.ref o] : List Value).toArray s 0 0 A) (F0 m 54 ls []) := by
    intro  z3 H locs ls h hO hS hl
    rw [e53] at h
    refine lv_iconst (v := 0) hx hb dX2_goDay_54 (by decide) ?_
    refine lv_istore_n (lv' := [(1, .int 0), (0, .ref o)]) hx hb dX2_goDay_55 rfl hl (by decide) rfl (fun ls hl => ?_)
    obtain ⟨k4, e38, h⟩ := pin_nm h
    have hk4 : ∀  (z5 : GS) (H : Heap) (locs : List Loc) (ls : Array Slot), k4  z5 = some zq → OM D aC o ad z5 H → va_S A s.heap H locs → lv_has ls 3 [(0, .ref o)] → W p l e ({ frames := 57, cells := 0, slots := 0, locals := 1301 }) s m ([.ref o] : List Value).toArray below meth c H locs 0 0 (MQ below (QG none (OM D aC o ad zq) A) ([.ref o] : List Value).toArray s 0 0 A) (F0 m 111 ls []) := by
      intro  z5 H locs ls h hO hS hl
      rw [e38] at h
      refine lv_iconst (v := 0) hx hb dX2_goDay_111 (by decide) ?_
      refine lv_istore_n (lv' := [(1, .int 0), (0, .ref o)]) hx hb dX2_goDay_112 rfl hl (by decide) rfl (fun ls hl => ?_)
      obtain ⟨k6, e19, h⟩ := pin_nm h
      have hk6 : ∀  (z7 : GS) (H : Heap) (locs : List Loc) (ls : Array Slot), k6  z7 = some zq → OM D aC o ad z7 H → va_S A s.heap H locs → lv_has ls 3 [(0, .ref o)] → W p l e ({ frames := 57, cells := 0, slots := 0, locals := 1301 }) s m ([.ref o] : List Value).toArray below meth c H locs 0 0 (MQ below (QG none (OM D aC o ad zq) A) ([.ref o] : List Value).toArray s 0 0 A) (F0 m 152 ls []) := by
        intro  z7 H locs ls h hO hS hl
        rw [e19] at h
        refine lv_aload_n hx hb dX2_goDay_152 rfl (lv_at hl 0 rfl) ?_
        refine X2_getA hx hb hts hown hK hO 0 (by decide) rfl (hts _ q1537) dX2_goDay_153 ?_
        refine lv_bipush (v := 41) hx hb dX2_goDay_156 (by decide) ?_
        refine lv_bipush (v := 99) hx hb dX2_goDay_158 (by decide) ?_
        refine lv_aload_n hx hb dX2_goDay_160 rfl (lv_at hl 0 rfl) ?_
        refine X2_getA hx hb hts hown hK hO 0 (by decide) rfl (hts _ q1537) dX2_goDay_161 ?_
        refine lv_bipush (v := 41) hx hb dX2_goDay_164 (by decide) ?_
        obtain ⟨g8, h⟩ := grd h
        refine X2_iaload hx hb hK hO 0 (by decide) rfl rfl g8 dX2_goDay_166 ?_
        refine lv_iconst (v := 1) hx hb dX2_goDay_167 (by decide) ?_
        refine lv_iadd hx hb dX2_goDay_168 ?_
        refine g_mmin hx hb (hml.trans hl.1.symm) hown (hts _ q1790) (hts _ q669) (hts _ q106) (hts _ q670) (Nat.le_of_ble_eq_true rfl) (Nat.le_of_ble_eq_true rfl) (Nat.le_refl _) (Nat.le_refl _) dX2_goDay_169 ?_
        obtain ⟨g9, h⟩ := grd h
        refine X2_iastore hx hb hK hO hD hS 0 (by decide) rfl rfl g9 dX2_goDay_172 (fun H locs z10 ez10 hO hS => ?_)
        have h := pin_to ez10 h
        cases Option.some.inj h
        exact g_retGv hx hb hr hlocks hO hS dX2_goDay_173
      have key18 : ∀ (f : Nat) (v1 : Int32) (z : GS) (H : Heap) (locs : List Loc) (ls : Array Slot), FX2_goDay_L113 k6 f v1 z = some zq → OM D aC o ad z H → va_S A s.heap H locs → lv_has ls 3 [(0, .ref o), (1, .int v1)] → W p l e ({ frames := 57, cells := 0, slots := 0, locals := 1301 }) s m ([.ref o] : List Value).toArray below meth c H locs 0 0 (MQ below (QG none (OM D aC o ad zq) A) ([.ref o] : List Value).toArray s 0 0 A) (F0 m 113 ls []) := by
        intro f
        induction f with
        | zero =>
          intro v1 z H locs ls h
          rw [FX2_goDay_L113] at h
          cases h
        | succ f ih11 =>
          intro v1 z H locs ls h hO hS hl
          rw [FX2_goDay_L113] at h
          refine lv_iload_n hx hb dX2_goDay_113 rfl (lv_at hl 1 rfl) ?_
          refine lv_aload_n hx hb dX2_goDay_114 rfl (lv_at hl 0 rfl) ?_
          refine X2_getF hx hb hts hown hK hO 2 (by decide) rfl (hts _ q1539) dX2_goDay_115 ?_
          refine lv_icmp_ge (tgt := 152) hx hb dX2_goDay_118 (by decide) (fun c12 => ?_) (fun c12 => ?_)
          · have h := it_t c12 h
            exact hk6 _ _ _ _ h hO hS (lv_sub hl [0] rfl)
          · have h := it_f c12 h
            refine lv_aload_n hx hb dX2_goDay_121 rfl (lv_at hl 0 rfl) ?_
            refine lv_iload_n hx hb dX2_goDay_122 rfl (lv_at hl 1 rfl) ?_
            refine lv_iconst (v := 3) hx hb dX2_goDay_123 (by decide) ?_
            refine lv_aload_n hx hb dX2_goDay_124 rfl (lv_at hl 0 rfl) ?_
            refine lv_iload_n hx hb dX2_goDay_125 rfl (lv_at hl 1 rfl) ?_
            refine lv_iconst (v := 3) hx hb dX2_goDay_126 (by decide) ?_
            obtain ⟨r13, e14, h⟩ := bn1_e h
            refine clX2_number_2 hf hK hO (metX2_number_2 l D aC o ad v1 3 z r13 e14) q1771 hl.1 (Nat.le_of_ble_eq_true rfl) ⟨Nat.le_of_ble_eq_true rfl, Nat.le_of_ble_eq_true rfl⟩ ⟨Nat.le_of_ble_eq_true rfl, Nat.le_of_ble_eq_true rfl⟩ dX2_goDay_127 ?_
            refine lv_aload_n hx hb dX2_goDay_130 rfl (lv_at hl 0 rfl) ?_
            refine X2_getA hx hb hts hown hK hO 21 (by decide) rfl (hts _ q1558) dX2_goDay_131 ?_
            refine lv_iload_n hx hb dX2_goDay_134 rfl (lv_at hl 1 rfl) ?_
            obtain ⟨g15, h⟩ := grd h
            refine X2_iaload hx hb hK hO 21 (by decide) rfl rfl g15 dX2_goDay_135 ?_
            refine lv_iadd hx hb dX2_goDay_136 ?_
            refine lv_iconst (v := 0) hx hb dX2_goDay_137 (by decide) ?_
            refine lv_bipush (v := 99) hx hb dX2_goDay_138 (by decide) ?_
            refine clX2_bound hf (metX2_bound l (r13 + (gI z 21 v1)) 0 99 _ rfl) q1787 hl.1 (Nat.le_of_ble_eq_true rfl) ⟨Nat.le_of_ble_eq_true rfl, Nat.le_of_ble_eq_true rfl⟩ ⟨Nat.le_of_ble_eq_true rfl, Nat.le_of_ble_eq_true rfl⟩ dX2_goDay_140 ?_
            obtain ⟨z16, e17, h⟩ := bn1_e h
            refine clX2_change hf hK hO hS (metX2_change l D aC o ad A hD v1 3 (FX2_bound (r13 + (gI z 21 v1)) 0 99) z z16 e17) q1682 hl.1 (Nat.le_of_ble_eq_true rfl) ⟨Nat.le_of_ble_eq_true rfl, Nat.le_of_ble_eq_true rfl⟩ ⟨Nat.le_of_ble_eq_true rfl, Nat.le_of_ble_eq_true rfl⟩ dX2_goDay_143 (fun H locs hO hS => ?_)
            refine lv_iinc (v := (v1 + 1)) (lv' := [(1, .int (v1 + 1)), (0, .ref o)]) hx hb dX2_goDay_146 hl (k := 1) rfl rfl (by decide) rfl (fun ls hl => ?_)
            refine lv_goto (tgt := 113) hx hb dX2_goDay_149 (by decide) ?_
            exact ih11 _ _ _ _ _ h hO hS (lv_sub hl [1, 0] rfl)
      exact key18 FU _ _ _ _ _ h hO hS (lv_sub hl [1, 0] rfl)
    have key37 : ∀ (f : Nat) (v1 : Int32) (z : GS) (H : Heap) (locs : List Loc) (ls : Array Slot), FX2_goDay_L56 k4 f v1 z = some zq → OM D aC o ad z H → va_S A s.heap H locs → lv_has ls 3 [(0, .ref o), (1, .int v1)] → W p l e ({ frames := 57, cells := 0, slots := 0, locals := 1301 }) s m ([.ref o] : List Value).toArray below meth c H locs 0 0 (MQ below (QG none (OM D aC o ad zq) A) ([.ref o] : List Value).toArray s 0 0 A) (F0 m 56 ls []) := by
      intro f
      induction f with
      | zero =>
        intro v1 z H locs ls h
        rw [FX2_goDay_L56] at h
        cases h
      | succ f ih20 =>
        intro v1 z H locs ls h hO hS hl
        rw [FX2_goDay_L56] at h
        refine lv_iload_n hx hb dX2_goDay_56 rfl (lv_at hl 1 rfl) ?_
        refine lv_aload_n hx hb dX2_goDay_57 rfl (lv_at hl 0 rfl) ?_
        refine X2_getF hx hb hts hown hK hO 2 (by decide) rfl (hts _ q1539) dX2_goDay_58 ?_
        refine lv_icmp_ge (tgt := 111) hx hb dX2_goDay_61 (by decide) (fun c21 => ?_) (fun c21 => ?_)
        · have h := it_t c21 h
          exact hk4 _ _ _ _ h hO hS (lv_sub hl [0] rfl)
        · have h := it_f c21 h
          refine lv_aload_n hx hb dX2_goDay_64 rfl (lv_at hl 0 rfl) ?_
          refine lv_iload_n hx hb dX2_goDay_65 rfl (lv_at hl 1 rfl) ?_
          obtain ⟨r22, z23, e24, h⟩ := bnd_e h
          refine clX2_comesFrom hf hK hO hS (metX2_comesFrom l D aC o ad A hD v1 z r22 z23 e24) q1767 hl.1 (Nat.le_of_ble_eq_true rfl) ⟨Nat.le_of_ble_eq_true rfl, Nat.le_of_ble_eq_true rfl⟩ ⟨Nat.le_of_ble_eq_true rfl, Nat.le_of_ble_eq_true rfl⟩ dX2_goDay_66 (fun H locs hO hS => ?_)
          refine lv_istore_n (lv' := [(2, .int r22), (0, .ref o), (1, .int v1)]) hx hb dX2_goDay_69 rfl hl (by decide) rfl (fun ls hl => ?_)
          refine lv_aload_n hx hb dX2_goDay_70 rfl (lv_at hl 1 rfl) ?_
          refine lv_iload_n hx hb dX2_goDay_71 rfl (lv_at hl 2 rfl) ?_
          refine lv_iconst (v := 4) hx hb dX2_goDay_72 (by decide) ?_
          obtain ⟨r25, e26, h⟩ := bn1_e h
          refine clX2_number_2 hf hK hO (metX2_number_2 l D aC o ad v1 4 z23 r25 e26) q1771 hl.1 (Nat.le_of_ble_eq_true rfl) ⟨Nat.le_of_ble_eq_true rfl, Nat.le_of_ble_eq_true rfl⟩ ⟨Nat.le_of_ble_eq_true rfl, Nat.le_of_ble_eq_true rfl⟩ dX2_goDay_73 ?_
          refine lv_iconst (v := (-1)) hx hb dX2_goDay_76 (by decide) ?_
          obtain ⟨k27, e36, h⟩ := pin_nm h
          have hk27 : ∀  (z28 : GS) (H : Heap) (locs : List Loc) (ls : Array Slot), k27  z28 = some zq → OM D aC o ad z28 H → va_S A s.heap H locs → lv_has ls 3 [(0, .ref o), (1, .int v1)] → W p l e ({ frames := 57, cells := 0, slots := 0, locals := 1301 }) s m ([.ref o] : List Value).toArray below meth c H locs 0 0 (MQ below (QG none (OM D aC o ad zq) A) ([.ref o] : List Value).toArray s 0 0 A) (F0 m 105 ls []) := by
            intro  z28 H locs ls h hO hS hl
            rw [e36] at h
            refine lv_iinc (v := (v1 + 1)) (lv' := [(1, .int (v1 + 1)), (0, .ref o)]) hx hb dX2_goDay_105 hl (k := 1) rfl rfl (by decide) rfl (fun ls hl => ?_)
            refine lv_goto (tgt := 56) hx hb dX2_goDay_108 (by decide) ?_
            exact ih20 _ _ _ _ _ h hO hS (lv_sub hl [1, 0] rfl)
          refine lv_icmp_eq (tgt := 105) hx hb dX2_goDay_77 (by decide) (fun c29 => ?_) (fun c29 => ?_)
          · have h := it_t c29 h
            exact hk27 _ _ _ _ h hO hS (lv_sub hl [1, 2] rfl)
          · have h := it_f c29 h
            refine lv_aload_n hx hb dX2_goDay_80 rfl (lv_at hl 1 rfl) ?_
            refine X2_getA hx hb hts hown hK hO 21 (by decide) rfl (hts _ q1558) dX2_goDay_81 ?_
            refine lv_aload_n hx hb dX2_goDay_84 rfl (lv_at hl 1 rfl) ?_
            refine lv_iload_n hx hb dX2_goDay_85 rfl (lv_at hl 2 rfl) ?_
            refine lv_iconst (v := 4) hx hb dX2_goDay_86 (by decide) ?_
            obtain ⟨r30, e31, h⟩ := bn1_e h
            refine clX2_number_2 hf hK hO (metX2_number_2 l D aC o ad v1 4 z23 r30 e31) q1771 hl.1 (Nat.le_of_ble_eq_true rfl) ⟨Nat.le_of_ble_eq_true rfl, Nat.le_of_ble_eq_true rfl⟩ ⟨Nat.le_of_ble_eq_true rfl, Nat.le_of_ble_eq_true rfl⟩ dX2_goDay_87 ?_
            refine lv_dup2_11 hx hb dX2_goDay_90 rfl rfl ?_
            obtain ⟨g32, h⟩ := grd h
            refine X2_iaload hx hb hK hO 21 (by decide) rfl rfl g32 dX2_goDay_91 ?_
            refine lv_iload_n hx hb dX2_goDay_92 rfl (lv_at hl 0 rfl) ?_
            refine lv_iadd hx hb dX2_goDay_93 ?_
            obtain ⟨g33, h⟩ := grd h
            refine X2_iastore hx hb hK hO hD hS 21 (by decide) rfl rfl g33 dX2_goDay_94 (fun H locs z34 ez34 hO hS => ?_)
            have h := pin_to ez34 h
            refine lv_aload_n hx hb dX2_goDay_95 rfl (lv_at hl 1 rfl) ?_
            refine lv_dup hx hb dX2_goDay_96 rfl ?_
            refine X2_getF hx hb hts hown hK hO 22 (by decide) rfl (hts _ q1559) dX2_goDay_97 ?_
            refine lv_iload_n hx hb dX2_goDay_100 rfl (lv_at hl 0 rfl) ?_
            refine lv_iadd hx hb dX2_goDay_101 ?_
            refine X2_putF hx hb hts hown hK hO hD hS 22 (by decide) rfl (hts _ q1559) rfl (ty := .int) rfl rfl rfl dX2_goDay_102 (fun H locs z35 ez35 hO hS => ?_)
            have h := pin_to ez35 h
            exact hk27 _ _ _ _ h hO hS (lv_sub hl [1, 2] rfl)
    exact key37 FU _ _ _ _ _ h hO hS (lv_sub hl [1, 0] rfl)
  have key52 : ∀ (f : Nat) (v1 : Int32) (z : GS) (H : Heap) (locs : List Loc) (ls : Array Slot), FX2_goDay_L7 k2 f v1 z = some zq → OM D aC o ad z H → va_S A s.heap H locs → lv_has ls 3 [(0, .ref o), (1, .int v1)] → W p l e ({ frames := 57, cells := 0, slots := 0, locals := 1301 }) s m ([.ref o] : List Value).toArray below meth c H locs 0 0 (MQ below (QG none (OM D aC o ad zq) A) ([.ref o] : List Value).toArray s 0 0 A) (F0 m 7 ls []) := by
    intro f
    induction f with
    | zero =>
      intro v1 z H locs ls h
      rw [FX2_goDay_L7] at h
      cases h
    | succ f ih39 =>
      intro v1 z H locs ls h hO hS hl
      rw [FX2_goDay_L7] at h
      refine lv_iload_n hx hb dX2_goDay_7 rfl (lv_at hl 1 rfl) ?_
      refine lv_aload_n hx hb dX2_goDay_8 rfl (lv_at hl 0 rfl) ?_
      refine X2_getF hx hb hts hown hK hO 2 (by decide) rfl (hts _ q1539) dX2_goDay_9 ?_
      refine lv_icmp_ge (tgt := 54) hx hb dX2_goDay_12 (by decide) (fun c40 => ?_) (fun c40 => ?_)
      · have h := it_t c40 h
        exact hk2 _ _ _ _ h hO hS (lv_sub hl [0] rfl)
      · have h := it_f c40 h
        refine lv_aload_n hx hb dX2_goDay_15 rfl (lv_at hl 0 rfl) ?_
        refine X2_getA hx hb hts hown hK hO 21 (by decide) rfl (hts _ q1558) dX2_goDay_16 ?_
        refine lv_iload_n hx hb dX2_goDay_19 rfl (lv_at hl 1 rfl) ?_
        refine lv_aload_n hx hb dX2_goDay_20 rfl (lv_at hl 0 rfl) ?_
        refine lv_iload_n hx hb dX2_goDay_21 rfl (lv_at hl 1 rfl) ?_
        refine lv_iconst (v := 2) hx hb dX2_goDay_22 (by decide) ?_
        obtain ⟨r41, e42, h⟩ := bn1_e h
        refine clX2_number_2 hf hK hO (metX2_number_2 l D aC o ad v1 2 z r41 e42) q1771 hl.1 (Nat.le_of_ble_eq_true rfl) ⟨Nat.le_of_ble_eq_true rfl, Nat.le_of_ble_eq_true rfl⟩ ⟨Nat.le_of_ble_eq_true rfl, Nat.le_of_ble_eq_true rfl⟩ dX2_goDay_23 ?_
        refine lv_ineg hx hb dX2_goDay_26 ?_
        refine lv_aload_n hx hb dX2_goDay_27 rfl (lv_at hl 0 rfl) ?_
        refine lv_iload_n hx hb dX2_goDay_28 rfl (lv_at hl 1 rfl) ?_
        obtain ⟨r43, e44, h⟩ := bn1_e h
        refine clX2_carers hf hK hO (metX2_carers l D aC o ad v1 z r43 e44) q1779 hl.1 (Nat.le_of_ble_eq_true rfl) ⟨Nat.le_of_ble_eq_true rfl, Nat.le_of_ble_eq_true rfl⟩ ⟨Nat.le_of_ble_eq_true rfl, Nat.le_of_ble_eq_true rfl⟩ dX2_goDay_29 ?_
        obtain ⟨k45, e51, h⟩ := pin_nm h
        have hk45 : ∀ (u46 : Int32) (ls : Array Slot), k45 u46 = some zq → lv_has ls 3 [(0, .ref o), (1, .int v1)] → W p l e ({ frames := 57, cells := 0, slots := 0, locals := 1301 }) s m ([.ref o] : List Value).toArray below meth c H locs 0 0 (MQ below (QG none (OM D aC o ad zq) A) ([.ref o] : List Value).toArray s 0 0 A) (F0 m 46 ls [.int u46, .int (-r41), .int v1, .ref (ad 21)]) := by
          intro u46 ls h hl
          rw [e51] at h
          refine lv_isub hx hb dX2_goDay_46 ?_
          obtain ⟨g47, h⟩ := grd h
          refine X2_iastore hx hb hK hO hD hS 21 (by decide) rfl rfl g47 dX2_goDay_47 (fun H locs z48 ez48 hO hS => ?_)
          have h := pin_to ez48 h
          refine lv_iinc (v := (v1 + 1)) (lv' := [(1, .int (v1 + 1)), (0, .ref o)]) hx hb dX2_goDay_48 hl (k := 1) rfl rfl (by decide) rfl (fun ls hl => ?_)
          refine lv_goto (tgt := 7) hx hb dX2_goDay_51 (by decide) ?_
          exact ih39 _ _ _ _ _ h hO hS (lv_sub hl [1, 0] rfl)
        refine lv_if_ne (tgt := 45) hx hb dX2_goDay_32 (by decide) (fun c49 => ?_) (fun c49 => ?_)
        · have h := it_f c49 h
          refine lv_iconst (v := 0) hx hb dX2_goDay_45 (by decide) ?_
          exact hk45 _ _ h (lv_sub hl [0, 1] rfl)
        · have h := it_t c49 h
          refine lv_aload_n hx hb dX2_goDay_35 rfl (lv_at hl 0 rfl) ?_
          refine X2_getA hx hb hts hown hK hO 0 (by decide) rfl (hts _ q1537) dX2_goDay_36 ?_
          refine lv_bipush (v := 40) hx hb dX2_goDay_39 (by decide) ?_
          obtain ⟨g50, h⟩ := grd h
          refine X2_iaload hx hb hK hO 0 (by decide) rfl rfl g50 dX2_goDay_41 ?_
          refine lv_goto (tgt := 46) hx hb dX2_goDay_42 (by decide) ?_
          exact hk45 _ _ h (lv_sub hl [0, 1] rfl)
  exact key52 FU _ _ _ _ _ h hO hS (lv_sub hl [1, 0] rfl)
theorem clX2_goDay {p : Program} {l : Launch} {e : Env} {R : Room} {s : State} {m : MethodId} {args : Array Value} {below : List Frame} {meth : Method} {c : Code} {H : Heap} {locs : List Loc} {cells slots : Nat} {Q : State → Prop} {cc : ByteArray} {pc nL idx fr lo : Nat} {ls : Array Slot} {rest : List Value} {own : String} {D : va_G} {aC : Nat → ClassId} {o : Nat} {ad : Nat → Nat} {z : GS} {zq : GS} {A : Nat → Prop}   (hf : CallFix p m c cc nL s args lw_all own) (hK : va_K D vwCl (tysG aC) s) (hO : OM D aC o ad z H) (hS : va_S A s.heap H locs) (hM : Met l yX2_goDay (ws_ yX2_goDay cX2_goDay 3 none) ({ frames := fr, cells := 0, slots := 0, locals := lo }) (va_Pc [.ref o] (PM D aC o ad z)) (QG none (OM D aC o ad zq) A) 0 0 A) (hq : Cond.methodLink own idx yX2_goDay ∈ lw_all) (hs : ls.size = nL) (hr : (rest.map fun v => v.category).sum ≤ 8) (hR : fr + 1 ≤ R.frames ∧ 8 + (3 + 11) + lo ≤ R.locals) (hcs : cells + 0 ≤ R.cells ∧ slots + 0 ≤ R.slots) (hd : decode cc pc = .ok (.invokevirtual idx, 3)) (kk : ∀ (H1 : Heap) (locs1 : List Loc), OM D aC o ad zq H1 → va_S A s.heap H1 locs1 → W p l e R s m args below meth c H1 locs1 cells slots Q (F0 m (pc + 3) ls (rest))) : W p l e R s m args below meth c H locs cells slots Q (F0 m pc ls (.ref o :: rest)) :=
  g_callG (W.runV (As := []) (rest := rest) hf hM (cwV 0 hf.2.2.2.2 (lw_V hq q1806 qs71 q92 q1807) rfl rfl rfl (by decide +kernel) hR) ⟨fun a U g mk q => ⟨q.1, q.2.1, va_K.moved (u := U) (U := U.calling g mk a) (Vm.Alike.refl U.vm) q.2.2⟩, OA.recv hK hO rfl, fun U hU hW => ⟨rfl, by rw [hU]; exact hO, va_K.moved hW.alike hK⟩⟩ rfl rfl hs rfl (lv_room hr) hd hcs) hS (fun H1 locs1 hP hS _ _ => kk H1 locs1 hP hS)
theorem metX2_goDays (l : Launch) (D : va_G) (aC : Nat → ClassId) (o : Nat) (ad : Nat → Nat) (A : Nat → Prop) (hD : OD A 44 kdM o ad) (x1 : Int32) (z : GS)  (zq : GS) (h : FX2_goDays x1 z = some zq) : Met l yX2_goDays (ws_ yX2_goDays cX2_goDays 3 none) ({ frames := 58, cells := 0, slots := 0, locals := 1323 }) (va_Pc [.ref o, .int x1] (PM D aC o ad z)) (QG none (OM D aC o ad zq) A) 0 0 A := by
  refine g_ofW (cc := cX2_goDays) (maxL := 3) (ret := none) (own := RX2) (by decide) rfl rfl [.ref o, .int x1] (PM D aC o ad z) (Nat.le_of_ble_eq_true rfl) ?_
  intro p e s m below meth c ls hx hb hr hml hts hown hlocks hnm hPre hl
  obtain ⟨hO, hK⟩ := hPre
  have hf : CallFix p m c cX2_goDays 3 s _ lw_all RX2 := ⟨hx, hb, hml, hown, hts⟩
  have hl : lv_has ls 3 [(0, .ref o), (1, .int x1)] := hl
  refine g_open (A := A) (OM D aC o ad z) hO (fun H locs hO hS => ?_)
  unfold FX2_goDays at h
  refine lv_iconst (v := 0) hx hb dX2_goDays_0 (by decide) ?_
  refine lv_istore_n (lv' := [(2, .int 0), (0, .ref o), (1, .int x1)]) hx hb dX2_goDays_1 rfl hl (by decide) rfl (fun ls hl => ?_)
  have key5 : ∀ (f : Nat) (v2 : Int32) (z : GS) (H : Heap) (locs : List Loc) (ls : Array Slot), FX2_goDays_L2 x1 f v2 z = some zq → OM D aC o ad z H → va_S A s.heap H locs → lv_has ls 3 [(0, .ref o), (1, .int x1), (2, .int v2)] → W p l e ({ frames := 58, cells := 0, slots := 0, locals := 1323 }) s m ([.ref o, .int x1] : List Value).toArray below meth c H locs 0 0 (MQ below (QG none (OM D aC o ad zq) A) ([.ref o, .int x1] : List Value).toArray s 0 0 A) (F0 m 2 ls []) := by
    intro f
    induction f with
    | zero =>
      intro v2 z H locs ls h
      rw [FX2_goDays_L2] at h
      cases h
    | succ f ih1 =>
      intro v2 z H locs ls h hO hS hl
      rw [FX2_goDays_L2] at h
      refine lv_iload_n hx hb dX2_goDays_2 rfl (lv_at hl 2 rfl) ?_
      refine lv_iload_n hx hb dX2_goDays_3 rfl (lv_at hl 1 rfl) ?_
      refine lv_icmp_ge (tgt := 17) hx hb dX2_goDays_4 (by decide) (fun c2 => ?_) (fun c2 => ?_)
      · have h := it_t c2 h
        cases Option.some.inj h
        exact g_retGv hx hb hr hlocks hO hS dX2_goDays_17
      · have h := it_f c2 h
        refine lv_aload_n hx hb dX2_goDays_7 rfl (lv_at hl 0 rfl) ?_
        obtain ⟨z3, e4, h⟩ := bn1_e h
        refine clX2_goDay hf hK hO hS (metX2_goDay l D aC o ad A hD z z3 e4) q1804 hl.1 (Nat.le_of_ble_eq_true rfl) ⟨Nat.le_of_ble_eq_true rfl, Nat.le_of_ble_eq_true rfl⟩ ⟨Nat.le_of_ble_eq_true rfl, Nat.le_of_ble_eq_true rfl⟩ dX2_goDays_8 (fun H locs hO hS => ?_)
        refine lv_iinc (v := (v2 + 1)) (lv' := [(2, .int (v2 + 1)), (0, .ref o), (1, .int x1)]) hx hb dX2_goDays_11 hl (k := 2) rfl rfl (by decide) rfl (fun ls hl => ?_)
        refine lv_goto (tgt := 2) hx hb dX2_goDays_14 (by decide) ?_
        exact ih1 _ _ _ _ _ h hO hS (lv_sub hl [1, 2, 0] rfl)
  exact key5 FU _ _ _ _ _ h hO hS (lv_sub hl [1, 2, 0] rfl)
theorem clX2_goDays {p : Program} {l : Launch} {e : Env} {R : Room} {s : State} {m : MethodId} {args : Array Value} {below : List Frame} {meth : Method} {c : Code} {H : Heap} {locs : List Loc} {cells slots : Nat} {Q : State → Prop} {cc : ByteArray} {pc nL idx fr lo : Nat} {ls : Array Slot} {rest : List Value} {own : String} {D : va_G} {aC : Nat → ClassId} {o : Nat} {ad : Nat → Nat} {z : GS} {zq : GS} {A : Nat → Prop} {x1 : Int32}  (hf : CallFix p m c cc nL s args lw_all own) (hK : va_K D vwCl (tysG aC) s) (hO : OM D aC o ad z H) (hS : va_S A s.heap H locs) (hM : Met l yX2_goDays (ws_ yX2_goDays cX2_goDays 3 none) ({ frames := fr, cells := 0, slots := 0, locals := lo }) (va_Pc [.ref o, .int x1] (PM D aC o ad z)) (QG none (OM D aC o ad zq) A) 0 0 A) (hq : Cond.methodLink own idx yX2_goDays ∈ lw_all) (hs : ls.size = nL) (hr : (rest.map fun v => v.category).sum ≤ 8) (hR : fr + 1 ≤ R.frames ∧ 8 + (3 + 11) + lo ≤ R.locals) (hcs : cells + 0 ≤ R.cells ∧ slots + 0 ≤ R.slots) (hd : decode cc pc = .ok (.invokevirtual idx, 3)) (kk : ∀ (H1 : Heap) (locs1 : List Loc), OM D aC o ad zq H1 → va_S A s.heap H1 locs1 → W p l e R s m args below meth c H1 locs1 cells slots Q (F0 m (pc + 3) ls (rest))) : W p l e R s m args below meth c H locs cells slots Q (F0 m pc ls (.int x1 :: .ref o :: rest)) :=
  g_callG (W.runV (As := [.int x1]) (rest := rest) hf hM (cwV 1 hf.2.2.2.2 (lw_V hq q1802 qs70 q92 q1803) rfl rfl rfl (by decide +kernel) hR) ⟨fun a U g mk q => ⟨q.1, q.2.1, va_K.moved (u := U) (U := U.calling g mk a) (Vm.Alike.refl U.vm) q.2.2⟩, OA.recv hK hO rfl, fun U hU hW => ⟨rfl, by rw [hU]; exact hO, va_K.moved hW.alike hK⟩⟩ rfl rfl hs rfl (lv_room hr) hd hcs) hS (fun H1 locs1 hP hS _ _ => kk H1 locs1 hP hS)
theorem metX2_stores (l : Launch) (D : va_G) (aC : Nat → ClassId) (o : Nat) (ad : Nat → Nat)  (z : GS) (r : Int32) (h : FX2_stores z = some r) : Met l yX2_stores (ws_ yX2_stores cX2_stores 3 (some .int)) ({ frames := 1, cells := 0, slots := 0, locals := 22 }) (va_Pc [.ref o] (PM D aC o ad z)) (QR (some (.int r))) 0 0 (fun _ => False) := by
  refine g_ofW (cc := cX2_stores) (maxL := 3) (ret := (some .int)) (own := RX2) (by decide) rfl rfl [.ref o] (PM D aC o ad z) (Nat.le_of_ble_eq_true rfl) ?_
  intro p e s m below meth c ls hx hb hr hml hts hown hlocks hnm hPre hl
  obtain ⟨hO, hK⟩ := hPre
  have hf : CallFix p m c cX2_stores 3 s _ lw_all RX2 := ⟨hx, hb, hml, hown, hts⟩
  have hl : lv_has ls 3 [(0, .ref o)] := hl
  unfold FX2_stores at h
  refine lv_iconst (v := 0) hx hb dX2_stores_0 (by decide) ?_
  refine lv_istore_n (lv' := [(1, .int 0), (0, .ref o)]) hx hb dX2_stores_1 rfl hl (by decide) rfl (fun ls hl => ?_)
  refine lv_iconst (v := 0) hx hb dX2_stores_2 (by decide) ?_
  refine lv_istore_n (lv' := [(2, .int 0), (1, .int 0), (0, .ref o)]) hx hb dX2_stores_3 rfl hl (by decide) rfl (fun ls hl => ?_)
  have key6 : ∀ (f : Nat) (v1 : Int32) (v2 : Int32) (ls : Array Slot), FX2_stores_L4 z f v1 v2 = some r → lv_has ls 3 [(0, .ref o), (1, .int v1), (2, .int v2)] → W p l e ({ frames := 1, cells := 0, slots := 0, locals := 22 }) s m ([.ref o] : List Value).toArray below meth c s.heap [] 0 0 (MQ below (QR (some (.int r))) ([.ref o] : List Value).toArray s 0 0 (fun _ => False)) (F0 m 4 ls []) := by
    intro f
    induction f with
    | zero =>
      intro v1 v2 ls h
      rw [FX2_stores_L4] at h
      cases h
    | succ f ih1 =>
      intro v1 v2 ls h hl
      rw [FX2_stores_L4] at h
      refine lv_iload_n hx hb dX2_stores_4 rfl (lv_at hl 2 rfl) ?_
      refine lv_aload_n hx hb dX2_stores_5 rfl (lv_at hl 0 rfl) ?_
      refine X2_getF hx hb hts hown hK hO 2 (by decide) rfl (hts _ q1539) dX2_stores_6 ?_
      refine lv_icmp_ge (tgt := 27) hx hb dX2_stores_9 (by decide) (fun c2 => ?_) (fun c2 => ?_)
      · have h := it_t c2 h
        refine lv_iload_n hx hb dX2_stores_27 rfl (lv_at hl 1 rfl) ?_
        exact g_retR hx hb hr hlocks (Option.some.inj h) dX2_stores_28
      · have h := it_f c2 h
        refine lv_iload_n hx hb dX2_stores_12 rfl (lv_at hl 1 rfl) ?_
        refine lv_aload_n hx hb dX2_stores_13 rfl (lv_at hl 0 rfl) ?_
        refine lv_iload_n hx hb dX2_stores_14 rfl (lv_at hl 2 rfl) ?_
        refine lv_iconst (v := 3) hx hb dX2_stores_15 (by decide) ?_
        obtain ⟨r3, e4, h⟩ := bn1_e h
        refine clX2_number_2 hf hK hO (metX2_number_2 l D aC o ad v2 3 z r3 e4) q1771 hl.1 (Nat.le_of_ble_eq_true rfl) ⟨Nat.le_of_ble_eq_true rfl, Nat.le_of_ble_eq_true rfl⟩ ⟨Nat.le_of_ble_eq_true rfl, Nat.le_of_ble_eq_true rfl⟩ dX2_stores_16 ?_
        refine lv_iadd hx hb dX2_stores_19 ?_
        refine lv_topi (fun y5 ey5 => ?_)
        have h := pin_to ey5 h
        refine lv_istore_n (lv' := [(1, .int y5), (0, .ref o), (2, .int v2)]) hx hb dX2_stores_20 rfl hl (by decide) rfl (fun ls hl => ?_)
        refine lv_iinc (v := (v2 + 1)) (lv' := [(2, .int (v2 + 1)), (1, .int y5), (0, .ref o)]) hx hb dX2_stores_21 hl (k := 2) rfl rfl (by decide) rfl (fun ls hl => ?_)
        refine lv_goto (tgt := 4) hx hb dX2_stores_24 (by decide) ?_
        exact ih1 _ _ _ h (lv_sub hl [2, 1, 0] rfl)
  exact key6 FU _ _ _ h (lv_sub hl [2, 1, 0] rfl)
theorem clX2_stores {p : Program} {l : Launch} {e : Env} {R : Room} {s : State} {m : MethodId} {args : Array Value} {below : List Frame} {meth : Method} {c : Code} {H : Heap} {locs : List Loc} {cells slots : Nat} {Q : State → Prop} {cc : ByteArray} {pc nL idx fr lo : Nat} {ls : Array Slot} {rest : List Value} {own : String} {D : va_G} {aC : Nat → ClassId} {o : Nat} {ad : Nat → Nat} {z : GS}  {r : Int32} (hf : CallFix p m c cc nL s args lw_all own) (hK : va_K D vwCl (tysG aC) s) (hO : OM D aC o ad z H) (hM : Met l yX2_stores (ws_ yX2_stores cX2_stores 3 (some .int)) ({ frames := fr, cells := 0, slots := 0, locals := lo }) (va_Pc [.ref o] (PM D aC o ad z)) (QR (some (.int r))) 0 0 (fun _ => False)) (hq : Cond.methodLink own idx yX2_stores ∈ lw_all) (hs : ls.size = nL) (hr : (rest.map fun v => v.category).sum ≤ 8) (hR : fr + 1 ≤ R.frames ∧ 8 + (3 + 11) + lo ≤ R.locals) (hcs : cells + 0 ≤ R.cells ∧ slots + 0 ≤ R.slots) (hd : decode cc pc = .ok (.invokevirtual idx, 3)) (kk : W p l e R s m args below meth c H locs cells slots Q (F0 m (pc + 3) ls (.int r :: rest))) : W p l e R s m args below meth c H locs cells slots Q (F0 m pc ls (.ref o :: rest)) :=
  g_callR (W.runV (As := []) (rest := rest) hf hM (cwV 0 hf.2.2.2.2 (lw_V hq q1810 qs72 q92 q1811) rfl rfl rfl (by decide +kernel) hR) ⟨fun a U g mk q => ⟨q.1, q.2.1, va_K.moved (u := U) (U := U.calling g mk a) (Vm.Alike.refl U.vm) q.2.2⟩, OA.recv hK hO rfl, fun U hU hW => ⟨rfl, by rw [hU]; exact hO, va_K.moved hW.alike hK⟩⟩ rfl rfl hs rfl (lv_room hr) hd hcs) kk
theorem metX2_layAll (l : Launch) (D : va_G) (aC : Nat → ClassId) (o : Nat) (ad : Nat → Nat) (A : Nat → Prop) (hD : OD A 44 kdM o ad) (x1 : Int32) (z : GS)  (zq : GS) (h : FX2_layAll x1 z = some zq) : Met l yX2_layAll (ws_ yX2_layAll cX2_layAll 3 none) ({ frames := 0, cells := 0, slots := 0, locals := 0 }) (va_Pc [.ref o, .int x1] (PM D aC o ad z)) (QG none (OM D aC o ad zq) A) 0 0 A := by
  refine g_ofW (cc := cX2_layAll) (maxL := 3) (ret := none) (own := RX2) (by decide) rfl rfl [.ref o, .int x1] (PM D aC o ad z) (Nat.le_of_ble_eq_true rfl) ?_
  intro p e s m below meth c ls hx hb hr hml hts hown hlocks hnm hPre hl
  obtain ⟨hO, hK⟩ := hPre
  have hf : CallFix p m c cX2_layAll 3 s _ lw_all RX2 := ⟨hx, hb, hml, hown, hts⟩
  have hl : lv_has ls 3 [(0, .ref o), (1, .int x1)] := hl
  refine g_open (A := A) (OM D aC o ad z) hO (fun H locs hO hS => ?_)
  unfold FX2_layAll at h
  refine lv_iconst (v := 0) hx hb dX2_layAll_0 (by decide) ?_
  refine lv_istore_n (lv' := [(2, .int 0), (0, .ref o), (1, .int x1)]) hx hb dX2_layAll_1 rfl hl (by decide) rfl (fun ls hl => ?_)
  have key6 : ∀ (f : Nat) (v2 : Int32) (z : GS) (H : Heap) (locs : List Loc) (ls : Array Slot), FX2_layAll_L2 x1 f v2 z = some zq → OM D aC o ad z H → va_S A s.heap H locs → lv_has ls 3 [(0, .ref o), (1, .int x1), (2, .int v2)] → W p l e ({ frames := 0, cells := 0, slots := 0, locals := 0 }) s m ([.ref o, .int x1] : List Value).toArray below meth c H locs 0 0 (MQ below (QG none (OM D aC o ad zq) A) ([.ref o, .int x1] : List Value).toArray s 0 0 A) (F0 m 2 ls []) := by
    intro f
    induction f with
    | zero =>
      intro v2 z H locs ls h
      rw [FX2_layAll_L2] at h
      cases h
    | succ f ih1 =>
      intro v2 z H locs ls h hO hS hl
      rw [FX2_layAll_L2] at h
      refine lv_iload_n hx hb dX2_layAll_2 rfl (lv_at hl 2 rfl) ?_
      refine lv_bipush (v := 42) hx hb dX2_layAll_3 (by decide) ?_
      refine lv_icmp_ge (tgt := 31) hx hb dX2_layAll_5 (by decide) (fun c2 => ?_) (fun c2 => ?_)
      · have h := it_t c2 h
        cases Option.some.inj h
        exact g_retGv hx hb hr hlocks hO hS dX2_layAll_31
      · have h := it_f c2 h
        refine lv_aload_n hx hb dX2_layAll_8 rfl (lv_at hl 0 rfl) ?_
        refine X2_getA hx hb hts hown hK hO 0 (by decide) rfl (hts _ q1537) dX2_layAll_9 ?_
        refine lv_iload_n hx hb dX2_layAll_12 rfl (lv_at hl 2 rfl) ?_
        refine lv_aload_n hx hb dX2_layAll_13 rfl (lv_at hl 0 rfl) ?_
        refine X2_getA hx hb hts hown hK hO 1 (by decide) rfl (hts _ q1538) dX2_layAll_14 ?_
        refine lv_bipush (v := 42) hx hb dX2_layAll_17 (by decide) ?_
        refine lv_iload_n hx hb dX2_layAll_19 rfl (lv_at hl 1 rfl) ?_
        refine lv_imul hx hb dX2_layAll_20 ?_
        refine lv_iload_n hx hb dX2_layAll_21 rfl (lv_at hl 2 rfl) ?_
        refine lv_iadd hx hb dX2_layAll_22 ?_
        obtain ⟨g3, h⟩ := grd h
        refine X2_iaload hx hb hK hO 1 (by decide) rfl rfl g3 dX2_layAll_23 ?_
        obtain ⟨g4, h⟩ := grd h
        refine X2_iastore hx hb hK hO hD hS 0 (by decide) rfl rfl g4 dX2_layAll_24 (fun H locs z5 ez5 hO hS => ?_)
        have h := pin_to ez5 h
        refine lv_iinc (v := (v2 + 1)) (lv' := [(2, .int (v2 + 1)), (0, .ref o), (1, .int x1)]) hx hb dX2_layAll_25 hl (k := 2) rfl rfl (by decide) rfl (fun ls hl => ?_)
        refine lv_goto (tgt := 2) hx hb dX2_layAll_28 (by decide) ?_
        exact ih1 _ _ _ _ _ h hO hS (lv_sub hl [1, 2, 0] rfl)
  exact key6 FU _ _ _ _ _ h hO hS (lv_sub hl [1, 2, 0] rfl)
theorem clX2_layAll {p : Program} {l : Launch} {e : Env} {R : Room} {s : State} {m : MethodId} {args : Array Value} {below : List Frame} {meth : Method} {c : Code} {H : Heap} {locs : List Loc} {cells slots : Nat} {Q : State → Prop} {cc : ByteArray} {pc nL idx fr lo : Nat} {ls : Array Slot} {rest : List Value} {own : String} {D : va_G} {aC : Nat → ClassId} {o : Nat} {ad : Nat → Nat} {z : GS} {zq : GS} {A : Nat → Prop} {x1 : Int32}  (hf : CallFix p m c cc nL s args lw_all own) (hK : va_K D vwCl (tysG aC) s) (hO : OM D aC o ad z H) (hS : va_S A s.heap H locs) (hM : Met l yX2_layAll (ws_ yX2_layAll cX2_layAll 3 none) ({ frames := fr, cells := 0, slots := 0, locals := lo }) (va_Pc [.ref o, .int x1] (PM D aC o ad z)) (QG none (OM D aC o ad zq) A) 0 0 A) (hq : Cond.methodLink own idx yX2_layAll ∈ lw_all) (hs : ls.size = nL) (hr : (rest.map fun v => v.category).sum ≤ 8) (hR : fr + 1 ≤ R.frames ∧ 8 + (3 + 11) + lo ≤ R.locals) (hcs : cells + 0 ≤ R.cells ∧ slots + 0 ≤ R.slots) (hd : decode cc pc = .ok (.invokevirtual idx, 3)) (kk : ∀ (H1 : Heap) (locs1 : List Loc), OM D aC o ad zq H1 → va_S A s.heap H1 locs1 → W p l e R s m args below meth c H1 locs1 cells slots Q (F0 m (pc + 3) ls (rest))) : W p l e R s m args below meth c H locs cells slots Q (F0 m pc ls (.int x1 :: .ref o :: rest)) :=
  g_callG (W.runV (As := [.int x1]) (rest := rest) hf hM (cwV 1 hf.2.2.2.2 (lw_V hq q1814 qs73 q92 q1815) rfl rfl rfl (by decide +kernel) hR) ⟨fun a U g mk q => ⟨q.1, q.2.1, va_K.moved (u := U) (U := U.calling g mk a) (Vm.Alike.refl U.vm) q.2.2⟩, OA.recv hK hO rfl, fun U hU hW => ⟨rfl, by rw [hU]; exact hO, va_K.moved hW.alike hK⟩⟩ rfl rfl hs rfl (lv_room hr) hd hcs) hS (fun H1 locs1 hP hS _ _ => kk H1 locs1 hP hS)
theorem metX2_later (l : Launch) (D : va_G) (aC : Nat → ClassId) (o : Nat) (ad : Nat → Nat) (A : Nat → Prop) (hD : OD A 44 kdM o ad) (x1 : Int32) (x2 : Int32) (z : GS) (r : Int32) (zq : GS) (h : FX2_later x1 x2 z = some (r, zq)) : Met l yX2_later (ws_ yX2_later cX2_later 4 (some .int)) ({ frames := 59, cells := 0, slots := 0, locals := 1345 }) (va_Pc [.ref o, .int x1, .int x2] (PM D aC o ad z)) (QG (some (.int r)) (OM D aC o ad zq) A) 0 0 A := by
  refine g_ofW (cc := cX2_later) (maxL := 4) (ret := (some .int)) (own := RX2) (by decide) rfl rfl [.ref o, .int x1, .int x2] (PM D aC o ad z) (Nat.le_of_ble_eq_true rfl) ?_
  intro p e s m below meth c ls hx hb hr hml hts hown hlocks hnm hPre hl
  obtain ⟨hO, hK⟩ := hPre
  have hf : CallFix p m c cX2_later 4 s _ lw_all RX2 := ⟨hx, hb, hml, hown, hts⟩
  have hl : lv_has ls 4 [(0, .ref o), (1, .int x1), (2, .int x2)] := hl
  refine g_open (A := A) (OM D aC o ad z) hO (fun H locs hO hS => ?_)
  unfold FX2_later at h
  refine lv_iload_n hx hb dX2_later_0 rfl (lv_at hl 1 rfl) ?_
  refine lv_iconst (v := 0) hx hb dX2_later_1 (by decide) ?_
  refine lv_bipush (v := 40) hx hb dX2_later_2 (by decide) ?_
  refine clX2_isIn hf (metX2_isIn l x1 0 40 _ rfl) q1675 hl.1 (Nat.le_of_ble_eq_true rfl) ⟨Nat.le_of_ble_eq_true rfl, Nat.le_of_ble_eq_true rfl⟩ ⟨Nat.le_of_ble_eq_true rfl, Nat.le_of_ble_eq_true rfl⟩ dX2_later_4 ?_
  refine lv_if_eq (tgt := 23) hx hb dX2_later_7 (by decide) (fun c1 => ?_) (fun c1 => ?_)
  · have h := it_t c1 h
    refine lv_iconst (v := (-1)) hx hb dX2_later_23 (by decide) ?_
    obtain ⟨e8, rfl⟩ := Prod.mk.inj (Option.some.inj h)
    exact g_retG hx hb hr hlocks e8 hO hS dX2_later_24
  · have h := it_f c1 h
    refine lv_iload_n hx hb dX2_later_10 rfl (lv_at hl 2 rfl) ?_
    refine lv_iconst (v := (-1)) hx hb dX2_later_11 (by decide) ?_
    obtain ⟨k2, e19, h⟩ := pin_nm h
    have hk2 : ∀  (ls : Array Slot), k2  = some (r, zq) → lv_has ls 4 [(0, .ref o), (1, .int x1), (2, .int x2)] → W p l e ({ frames := 59, cells := 0, slots := 0, locals := 1345 }) s m ([.ref o, .int x1, .int x2] : List Value).toArray below meth c H locs 0 0 (MQ below (QG (some (.int r)) (OM D aC o ad zq) A) ([.ref o, .int x1, .int x2] : List Value).toArray s 0 0 A) (F0 m 25 ls []) := by
      intro  ls h hl
      rw [e19] at h
      refine lv_aload_n hx hb dX2_later_25 rfl (lv_at hl 0 rfl) ?_
      refine lv_iconst (v := 0) hx hb dX2_later_26 (by decide) ?_
      obtain ⟨z3, e4, h⟩ := bn1_e h
      refine clX2_keepAll hf hK hO hS (metX2_keepAll l D aC o ad A hD 0 z z3 e4) q1796 hl.1 (Nat.le_of_ble_eq_true rfl) ⟨Nat.le_of_ble_eq_true rfl, Nat.le_of_ble_eq_true rfl⟩ ⟨Nat.le_of_ble_eq_true rfl, Nat.le_of_ble_eq_true rfl⟩ dX2_later_27 (fun H locs hO hS => ?_)
      refine lv_aload_n hx hb dX2_later_30 rfl (lv_at hl 0 rfl) ?_
      refine lv_iload_n hx hb dX2_later_31 rfl (lv_at hl 1 rfl) ?_
      obtain ⟨z5, e6, h⟩ := bn1_e h
      refine clX2_goDays hf hK hO hS (metX2_goDays l D aC o ad A hD x1 z3 z5 e6) q1800 hl.1 (Nat.le_of_ble_eq_true rfl) ⟨Nat.le_of_ble_eq_true rfl, Nat.le_of_ble_eq_true rfl⟩ ⟨Nat.le_of_ble_eq_true rfl, Nat.le_of_ble_eq_true rfl⟩ dX2_later_32 (fun H locs hO hS => ?_)
      refine lv_iload_n hx hb dX2_later_35 rfl (lv_at hl 2 rfl) ?_
      refine lv_iconst (v := (-1)) hx hb dX2_later_36 (by decide) ?_
      obtain ⟨k7, e16, h⟩ := pin_nm h
      have hk7 : ∀ (u8 : Int32) (ls : Array Slot), k7 u8 = some (r, zq) → lv_has ls 4 [(0, .ref o)] → W p l e ({ frames := 59, cells := 0, slots := 0, locals := 1345 }) s m ([.ref o, .int x1, .int x2] : List Value).toArray below meth c H locs 0 0 (MQ below (QG (some (.int r)) (OM D aC o ad zq) A) ([.ref o, .int x1, .int x2] : List Value).toArray s 0 0 A) (F0 m 53 ls [.int u8]) := by
        intro u8 ls h hl
        rw [e16] at h
        refine lv_istore_n (lv' := [(3, .int u8), (0, .ref o)]) hx hb dX2_later_53 rfl hl (by decide) rfl (fun ls hl => ?_)
        refine lv_aload_n hx hb dX2_later_54 rfl (lv_at hl 1 rfl) ?_
        refine lv_iconst (v := 0) hx hb dX2_later_55 (by decide) ?_
        obtain ⟨z9, e10, h⟩ := bn1_e h
        refine clX2_layAll hf hK hO hS (metX2_layAll l D aC o ad A hD 0 z5 z9 e10) q1812 hl.1 (Nat.le_of_ble_eq_true rfl) ⟨Nat.le_of_ble_eq_true rfl, Nat.le_of_ble_eq_true rfl⟩ ⟨Nat.le_of_ble_eq_true rfl, Nat.le_of_ble_eq_true rfl⟩ dX2_later_56 (fun H locs hO hS => ?_)
        refine lv_iload_n hx hb dX2_later_59 rfl (lv_at hl 0 rfl) ?_
        obtain ⟨e8, rfl⟩ := Prod.mk.inj (Option.some.inj h)
        exact g_retG hx hb hr hlocks e8 hO hS dX2_later_60
      refine lv_icmp_ne (tgt := 47) hx hb dX2_later_37 (by decide) (fun c11 => ?_) (fun c11 => ?_)
      · have h := it_f c11 h
        refine lv_aload_n hx hb dX2_later_47 rfl (lv_at hl 0 rfl) ?_
        refine lv_iload_n hx hb dX2_later_48 rfl (lv_at hl 2 rfl) ?_
        refine lv_iconst (v := 3) hx hb dX2_later_49 (by decide) ?_
        obtain ⟨r12, e13, h⟩ := bn1_e h
        refine clX2_number_2 hf hK hO (metX2_number_2 l D aC o ad x2 3 z5 r12 e13) q1771 hl.1 (Nat.le_of_ble_eq_true rfl) ⟨Nat.le_of_ble_eq_true rfl, Nat.le_of_ble_eq_true rfl⟩ ⟨Nat.le_of_ble_eq_true rfl, Nat.le_of_ble_eq_true rfl⟩ dX2_later_50 ?_
        exact hk7 _ _ h (lv_sub hl [0] rfl)
      · have h := it_t c11 h
        refine lv_aload_n hx hb dX2_later_40 rfl (lv_at hl 0 rfl) ?_
        obtain ⟨r14, e15, h⟩ := bn1_e h
        refine clX2_stores hf hK hO (metX2_stores l D aC o ad z5 r14 e15) q1808 hl.1 (Nat.le_of_ble_eq_true rfl) ⟨Nat.le_of_ble_eq_true rfl, Nat.le_of_ble_eq_true rfl⟩ ⟨Nat.le_of_ble_eq_true rfl, Nat.le_of_ble_eq_true rfl⟩ dX2_later_41 ?_
        refine lv_goto (tgt := 53) hx hb dX2_later_44 (by decide) ?_
        exact hk7 _ _ h (lv_sub hl [0] rfl)
    refine lv_icmp_eq (tgt := 25) hx hb dX2_later_12 (by decide) (fun c17 => ?_) (fun c17 => ?_)
    · have h := it_t c17 h
      exact hk2 _ h (lv_sub hl [0, 1, 2] rfl)
    · have h := it_f c17 h
      refine lv_aload_n hx hb dX2_later_15 rfl (lv_at hl 0 rfl) ?_
      refine lv_iload_n hx hb dX2_later_16 rfl (lv_at hl 2 rfl) ?_
      refine clX2_isOne hf hK hO (metX2_isOne l D aC o ad x2 z _ rfl) q1694 hl.1 (Nat.le_of_ble_eq_true rfl) ⟨Nat.le_of_ble_eq_true rfl, Nat.le_of_ble_eq_true rfl⟩ ⟨Nat.le_of_ble_eq_true rfl, Nat.le_of_ble_eq_true rfl⟩ dX2_later_17 ?_
      refine lv_if_ne (tgt := 25) hx hb dX2_later_20 (by decide) (fun c18 => ?_) (fun c18 => ?_)
      · have h := it_f c18 h
        exact hk2 _ h (lv_sub hl [0, 1, 2] rfl)
      · have h := it_t c18 h
        refine lv_iconst (v := (-1)) hx hb dX2_later_23 (by decide) ?_
        obtain ⟨e8, rfl⟩ := Prod.mk.inj (Option.some.inj h)
        exact g_retG hx hb hr hlocks e8 hO hS dX2_later_24
theorem clX2_later {p : Program} {l : Launch} {e : Env} {R : Room} {s : State} {m : MethodId} {args : Array Value} {below : List Frame} {meth : Method} {c : Code} {H : Heap} {locs : List Loc} {cells slots : Nat} {Q : State → Prop} {cc : ByteArray} {pc nL idx fr lo : Nat} {ls : Array Slot} {rest : List Value} {own : String} {D : va_G} {aC : Nat → ClassId} {o : Nat} {ad : Nat → Nat} {z : GS} {zq : GS} {A : Nat → Prop} {x1 : Int32} {x2 : Int32} {r : Int32} (hf : CallFix p m c cc nL s args lw_all own) (hK : va_K D vwCl (tysG aC) s) (hO : OM D aC o ad z H) (hS : va_S A s.heap H locs) (hM : Met l yX2_later (ws_ yX2_later cX2_later 4 (some .int)) ({ frames := fr, cells := 0, slots := 0, locals := lo }) (va_Pc [.ref o, .int x1, .int x2] (PM D aC o ad z)) (QG (some (.int r)) (OM D aC o ad zq) A) 0 0 A) (hq : Cond.methodLink own idx yX2_later ∈ lw_all) (hs : ls.size = nL) (hr : (rest.map fun v => v.category).sum ≤ 8) (hR : fr + 1 ≤ R.frames ∧ 8 + (4 + 11) + lo ≤ R.locals) (hcs : cells + 0 ≤ R.cells ∧ slots + 0 ≤ R.slots) (hd : decode cc pc = .ok (.invokevirtual idx, 3)) (kk : ∀ (H1 : Heap) (locs1 : List Loc), OM D aC o ad zq H1 → va_S A s.heap H1 locs1 → W p l e R s m args below meth c H1 locs1 cells slots Q (F0 m (pc + 3) ls (.int r :: rest))) : W p l e R s m args below meth c H locs cells slots Q (F0 m pc ls (.int x2 :: .int x1 :: .ref o :: rest)) :=
  g_callG (W.runV (As := [.int x1, .int x2]) (rest := rest) hf hM (cwV 2 hf.2.2.2.2 (lw_V hq q1793 q1794 q92 q1795) rfl rfl rfl (by decide +kernel) hR) ⟨fun a U g mk q => ⟨q.1, q.2.1, va_K.moved (u := U) (U := U.calling g mk a) (Vm.Alike.refl U.vm) q.2.2⟩, OA.recv hK hO rfl, fun U hU hW => ⟨rfl, by rw [hU]; exact hO, va_K.moved hW.alike hK⟩⟩ rfl rfl hs rfl (lv_room hr) hd hcs) hS (fun H1 locs1 hP hS _ _ => kk H1 locs1 hP hS)
theorem metX2_lacks (l : Launch) (D : va_G) (aC : Nat → ClassId) (o : Nat) (ad : Nat → Nat)  (z : GS) (r : Int32) (h : FX2_lacks z = some r) : Met l yX2_lacks (ws_ yX2_lacks cX2_lacks 3 (some .int)) ({ frames := 1, cells := 0, slots := 0, locals := 22 }) (va_Pc [.ref o] (PM D aC o ad z)) (QR (some (.int r))) 0 0 (fun _ => False) := by
  refine g_ofW (cc := cX2_lacks) (maxL := 3) (ret := (some .int)) (own := RX2) (by decide) rfl rfl [.ref o] (PM D aC o ad z) (Nat.le_of_ble_eq_true rfl) ?_
  intro p e s m below meth c ls hx hb hr hml hts hown hlocks hnm hPre hl
  obtain ⟨hO, hK⟩ := hPre
  have hf : CallFix p m c cX2_lacks 3 s _ lw_all RX2 := ⟨hx, hb, hml, hown, hts⟩
  have hl : lv_has ls 3 [(0, .ref o)] := hl
  unfold FX2_lacks at h
  refine lv_iconst (v := 0) hx hb dX2_lacks_0 (by decide) ?_
  refine lv_istore_n (lv' := [(1, .int 0), (0, .ref o)]) hx hb dX2_lacks_1 rfl hl (by decide) rfl (fun ls hl => ?_)
  refine lv_iconst (v := 0) hx hb dX2_lacks_2 (by decide) ?_
  refine lv_istore_n (lv' := [(2, .int 0), (1, .int 0), (0, .ref o)]) hx hb dX2_lacks_3 rfl hl (by decide) rfl (fun ls hl => ?_)
  have key11 : ∀ (f : Nat) (v1 : Int32) (v2 : Int32) (ls : Array Slot), FX2_lacks_L4 z f v1 v2 = some r → lv_has ls 3 [(0, .ref o), (1, .int v1), (2, .int v2)] → W p l e ({ frames := 1, cells := 0, slots := 0, locals := 22 }) s m ([.ref o] : List Value).toArray below meth c s.heap [] 0 0 (MQ below (QR (some (.int r))) ([.ref o] : List Value).toArray s 0 0 (fun _ => False)) (F0 m 4 ls []) := by
    intro f
    induction f with
    | zero =>
      intro v1 v2 ls h
      rw [FX2_lacks_L4] at h
      cases h
    | succ f ih1 =>
      intro v1 v2 ls h hl
      rw [FX2_lacks_L4] at h
      refine lv_iload_n hx hb dX2_lacks_4 rfl (lv_at hl 2 rfl) ?_
      refine lv_aload_n hx hb dX2_lacks_5 rfl (lv_at hl 0 rfl) ?_
      refine X2_getF hx hb hts hown hK hO 2 (by decide) rfl (hts _ q1539) dX2_lacks_6 ?_
      refine lv_icmp_ge (tgt := 45) hx hb dX2_lacks_9 (by decide) (fun c2 => ?_) (fun c2 => ?_)
      · have h := it_t c2 h
        refine lv_iload_n hx hb dX2_lacks_45 rfl (lv_at hl 1 rfl) ?_
        exact g_retR hx hb hr hlocks (Option.some.inj h) dX2_lacks_46
      · have h := it_f c2 h
        refine lv_iload_n hx hb dX2_lacks_12 rfl (lv_at hl 1 rfl) ?_
        refine lv_aload_n hx hb dX2_lacks_13 rfl (lv_at hl 0 rfl) ?_
        refine lv_iload_n hx hb dX2_lacks_14 rfl (lv_at hl 2 rfl) ?_
        refine lv_iconst (v := 3) hx hb dX2_lacks_15 (by decide) ?_
        obtain ⟨r3, e4, h⟩ := bn1_e h
        refine clX2_number_2 hf hK hO (metX2_number_2 l D aC o ad v2 3 z r3 e4) q1771 hl.1 (Nat.le_of_ble_eq_true rfl) ⟨Nat.le_of_ble_eq_true rfl, Nat.le_of_ble_eq_true rfl⟩ ⟨Nat.le_of_ble_eq_true rfl, Nat.le_of_ble_eq_true rfl⟩ dX2_lacks_16 ?_
        obtain ⟨k6, e8, h⟩ := pin_nm2 h
        have hk6 : ∀ (u5 : Int32) (ls : Array Slot), k6 u5 = some r → lv_has ls 3 [(0, .ref o), (2, .int v2)] → W p l e ({ frames := 1, cells := 0, slots := 0, locals := 22 }) s m ([.ref o] : List Value).toArray below meth c s.heap [] 0 0 (MQ below (QR (some (.int r))) ([.ref o] : List Value).toArray s 0 0 (fun _ => False)) (F0 m 37 ls [.int u5, .int v1]) := by
          intro u5 ls h hl
          rw [e8] at h
          refine lv_ior hx hb dX2_lacks_37 ?_
          refine lv_topi (fun y7 ey7 => ?_)
          have h := pin_to ey7 h
          refine lv_istore_n (lv' := [(1, .int y7), (0, .ref o), (2, .int v2)]) hx hb dX2_lacks_38 rfl hl (by decide) rfl (fun ls hl => ?_)
          refine lv_iinc (v := (v2 + 1)) (lv' := [(2, .int (v2 + 1)), (1, .int y7), (0, .ref o)]) hx hb dX2_lacks_39 hl (k := 2) rfl rfl (by decide) rfl (fun ls hl => ?_)
          refine lv_goto (tgt := 4) hx hb dX2_lacks_42 (by decide) ?_
          exact ih1 _ _ _ h (lv_sub hl [2, 1, 0] rfl)
        refine lv_if_ne (tgt := 36) hx hb dX2_lacks_19 (by decide) (fun c9 => ?_) (fun c9 => ?_)
        · have h := pt_f (k := k6) c9 h
          refine lv_iconst (v := 0) hx hb dX2_lacks_36 (by decide) ?_
          exact hk6 _ _ h (lv_sub hl [0, 2] rfl)
        · have h := pt_t (k := k6) c9 h
          refine lv_iload_n hx hb dX2_lacks_22 rfl (lv_at hl 2 rfl) ?_
          refine lv_aload_n hx hb dX2_lacks_23 rfl (lv_at hl 0 rfl) ?_
          refine X2_getF hx hb hts hown hK hO 20 (by decide) rfl (hts _ q1557) dX2_lacks_24 ?_
          refine lv_icmp_eq (tgt := 36) hx hb dX2_lacks_27 (by decide) (fun c10 => ?_) (fun c10 => ?_)
          · have h := pt_t (k := k6) c10 h
            refine lv_iconst (v := 0) hx hb dX2_lacks_36 (by decide) ?_
            exact hk6 _ _ h (lv_sub hl [0, 2] rfl)
          · have h := pt_f (k := k6) c10 h
            refine lv_iconst (v := 1) hx hb dX2_lacks_30 (by decide) ?_
            refine lv_iload_n hx hb dX2_lacks_31 rfl (lv_at hl 2 rfl) ?_
            refine g_ishl hx hb dX2_lacks_32 ?_
            refine lv_goto (tgt := 37) hx hb dX2_lacks_33 (by decide) ?_
            exact hk6 _ _ h (lv_sub hl [0, 2] rfl)
  exact key11 FU _ _ _ h (lv_sub hl [2, 1, 0] rfl)
theorem clX2_lacks {p : Program} {l : Launch} {e : Env} {R : Room} {s : State} {m : MethodId} {args : Array Value} {below : List Frame} {meth : Method} {c : Code} {H : Heap} {locs : List Loc} {cells slots : Nat} {Q : State → Prop} {cc : ByteArray} {pc nL idx fr lo : Nat} {ls : Array Slot} {rest : List Value} {own : String} {D : va_G} {aC : Nat → ClassId} {o : Nat} {ad : Nat → Nat} {z : GS}  {r : Int32} (hf : CallFix p m c cc nL s args lw_all own) (hK : va_K D vwCl (tysG aC) s) (hO : OM D aC o ad z H) (hM : Met l yX2_lacks (ws_ yX2_lacks cX2_lacks 3 (some .int)) ({ frames := fr, cells := 0, slots := 0, locals := lo }) (va_Pc [.ref o] (PM D aC o ad z)) (QR (some (.int r))) 0 0 (fun _ => False)) (hq : Cond.methodLink own idx yX2_lacks ∈ lw_all) (hs : ls.size = nL) (hr : (rest.map fun v => v.category).sum ≤ 8) (hR : fr + 1 ≤ R.frames ∧ 8 + (3 + 11) + lo ≤ R.locals) (hcs : cells + 0 ≤ R.cells ∧ slots + 0 ≤ R.slots) (hd : decode cc pc = .ok (.invokevirtual idx, 3)) (kk : W p l e R s m args below meth c H locs cells slots Q (F0 m (pc + 3) ls (.int r :: rest))) : W p l e R s m args below meth c H locs cells slots Q (F0 m pc ls (.ref o :: rest)) :=
  g_callR (W.runV (As := []) (rest := rest) hf hM (cwV 0 hf.2.2.2.2 (lw_V hq q1822 qs74 q92 q1823) rfl rfl rfl (by decide +kernel) hR) ⟨fun a U g mk q => ⟨q.1, q.2.1, va_K.moved (u := U) (U := U.calling g mk a) (Vm.Alike.refl U.vm) q.2.2⟩, OA.recv hK hO rfl, fun U hU hW => ⟨rfl, by rw [hU]; exact hO, va_K.moved hW.alike hK⟩⟩ rfl rfl hs rfl (lv_room hr) hd hcs) kk
theorem metX2_lacking (l : Launch) (D : va_G) (aC : Nat → ClassId) (o : Nat) (ad : Nat → Nat) (A : Nat → Prop) (hD : OD A 44 kdM o ad) (x1 : Int32) (z : GS) (r : Int32) (zq : GS) (h : FX2_lacking x1 z = some (r, zq)) : Met l yX2_lacking (ws_ yX2_lacking cX2_lacking 3 (some .int)) ({ frames := 59, cells := 0, slots := 0, locals := 1345 }) (va_Pc [.ref o, .int x1] (PM D aC o ad z)) (QG (some (.int r)) (OM D aC o ad zq) A) 0 0 A := by
  refine g_ofW (cc := cX2_lacking) (maxL := 3) (ret := (some .int)) (own := RX2) (by decide) rfl rfl [.ref o, .int x1] (PM D aC o ad z) (Nat.le_of_ble_eq_true rfl) ?_
  intro p e s m below meth c ls hx hb hr hml hts hown hlocks hnm hPre hl
  obtain ⟨hO, hK⟩ := hPre
  have hf : CallFix p m c cX2_lacking 3 s _ lw_all RX2 := ⟨hx, hb, hml, hown, hts⟩
  have hl : lv_has ls 3 [(0, .ref o), (1, .int x1)] := hl
  refine g_open (A := A) (OM D aC o ad z) hO (fun H locs hO hS => ?_)
  unfold FX2_lacking at h
  refine lv_iload_n hx hb dX2_lacking_0 rfl (lv_at hl 1 rfl) ?_
  refine lv_iconst (v := 0) hx hb dX2_lacking_1 (by decide) ?_
  refine lv_bipush (v := 40) hx hb dX2_lacking_2 (by decide) ?_
  refine clX2_isIn hf (metX2_isIn l x1 0 40 _ rfl) q1675 hl.1 (Nat.le_of_ble_eq_true rfl) ⟨Nat.le_of_ble_eq_true rfl, Nat.le_of_ble_eq_true rfl⟩ ⟨Nat.le_of_ble_eq_true rfl, Nat.le_of_ble_eq_true rfl⟩ dX2_lacking_4 ?_
  refine lv_if_ne (tgt := 12) hx hb dX2_lacking_7 (by decide) (fun c1 => ?_) (fun c1 => ?_)
  · have h := it_f c1 h
    refine lv_aload_n hx hb dX2_lacking_12 rfl (lv_at hl 0 rfl) ?_
    refine lv_iconst (v := 0) hx hb dX2_lacking_13 (by decide) ?_
    obtain ⟨z2, e3, h⟩ := bn1_e h
    refine clX2_keepAll hf hK hO hS (metX2_keepAll l D aC o ad A hD 0 z z2 e3) q1796 hl.1 (Nat.le_of_ble_eq_true rfl) ⟨Nat.le_of_ble_eq_true rfl, Nat.le_of_ble_eq_true rfl⟩ ⟨Nat.le_of_ble_eq_true rfl, Nat.le_of_ble_eq_true rfl⟩ dX2_lacking_14 (fun H locs hO hS => ?_)
    refine lv_aload_n hx hb dX2_lacking_17 rfl (lv_at hl 0 rfl) ?_
    refine lv_iload_n hx hb dX2_lacking_18 rfl (lv_at hl 1 rfl) ?_
    obtain ⟨z4, e5, h⟩ := bn1_e h
    refine clX2_goDays hf hK hO hS (metX2_goDays l D aC o ad A hD x1 z2 z4 e5) q1800 hl.1 (Nat.le_of_ble_eq_true rfl) ⟨Nat.le_of_ble_eq_true rfl, Nat.le_of_ble_eq_true rfl⟩ ⟨Nat.le_of_ble_eq_true rfl, Nat.le_of_ble_eq_true rfl⟩ dX2_lacking_19 (fun H locs hO hS => ?_)
    refine lv_aload_n hx hb dX2_lacking_22 rfl (lv_at hl 0 rfl) ?_
    obtain ⟨r6, e7, h⟩ := bn1_e h
    refine clX2_lacks hf hK hO (metX2_lacks l D aC o ad z4 r6 e7) q1820 hl.1 (Nat.le_of_ble_eq_true rfl) ⟨Nat.le_of_ble_eq_true rfl, Nat.le_of_ble_eq_true rfl⟩ ⟨Nat.le_of_ble_eq_true rfl, Nat.le_of_ble_eq_true rfl⟩ dX2_lacking_23 ?_
    refine lv_istore_n (lv' := [(2, .int r6), (0, .ref o), (1, .int x1)]) hx hb dX2_lacking_26 rfl hl (by decide) rfl (fun ls hl => ?_)
    refine lv_aload_n hx hb dX2_lacking_27 rfl (lv_at hl 1 rfl) ?_
    refine lv_iconst (v := 0) hx hb dX2_lacking_28 (by decide) ?_
    obtain ⟨z8, e9, h⟩ := bn1_e h
    refine clX2_layAll hf hK hO hS (metX2_layAll l D aC o ad A hD 0 z4 z8 e9) q1812 hl.1 (Nat.le_of_ble_eq_true rfl) ⟨Nat.le_of_ble_eq_true rfl, Nat.le_of_ble_eq_true rfl⟩ ⟨Nat.le_of_ble_eq_true rfl, Nat.le_of_ble_eq_true rfl⟩ dX2_lacking_29 (fun H locs hO hS => ?_)
    refine lv_iload_n hx hb dX2_lacking_32 rfl (lv_at hl 0 rfl) ?_
    obtain ⟨e8, rfl⟩ := Prod.mk.inj (Option.some.inj h)
    exact g_retG hx hb hr hlocks e8 hO hS dX2_lacking_33
  · have h := it_t c1 h
    refine lv_iconst (v := (-1)) hx hb dX2_lacking_10 (by decide) ?_
    obtain ⟨e8, rfl⟩ := Prod.mk.inj (Option.some.inj h)
    exact g_retG hx hb hr hlocks e8 hO hS dX2_lacking_11
theorem clX2_lacking {p : Program} {l : Launch} {e : Env} {R : Room} {s : State} {m : MethodId} {args : Array Value} {below : List Frame} {meth : Method} {c : Code} {H : Heap} {locs : List Loc} {cells slots : Nat} {Q : State → Prop} {cc : ByteArray} {pc nL idx fr lo : Nat} {ls : Array Slot} {rest : List Value} {own : String} {D : va_G} {aC : Nat → ClassId} {o : Nat} {ad : Nat → Nat} {z : GS} {zq : GS} {A : Nat → Prop} {x1 : Int32} {r : Int32} (hf : CallFix p m c cc nL s args lw_all own) (hK : va_K D vwCl (tysG aC) s) (hO : OM D aC o ad z H) (hS : va_S A s.heap H locs) (hM : Met l yX2_lacking (ws_ yX2_lacking cX2_lacking 3 (some .int)) ({ frames := fr, cells := 0, slots := 0, locals := lo }) (va_Pc [.ref o, .int x1] (PM D aC o ad z)) (QG (some (.int r)) (OM D aC o ad zq) A) 0 0 A) (hq : Cond.methodLink own idx yX2_lacking ∈ lw_all) (hs : ls.size = nL) (hr : (rest.map fun v => v.category).sum ≤ 8) (hR : fr + 1 ≤ R.frames ∧ 8 + (3 + 11) + lo ≤ R.locals) (hcs : cells + 0 ≤ R.cells ∧ slots + 0 ≤ R.slots) (hd : decode cc pc = .ok (.invokevirtual idx, 3)) (kk : ∀ (H1 : Heap) (locs1 : List Loc), OM D aC o ad zq H1 → va_S A s.heap H1 locs1 → W p l e R s m args below meth c H1 locs1 cells slots Q (F0 m (pc + 3) ls (.int r :: rest))) : W p l e R s m args below meth c H locs cells slots Q (F0 m pc ls (.int x1 :: .ref o :: rest)) :=
  g_callG (W.runV (As := [.int x1]) (rest := rest) hf hM (cwV 1 hf.2.2.2.2 (lw_V hq q1817 q1818 q92 q1819) rfl rfl rfl (by decide +kernel) hR) ⟨fun a U g mk q => ⟨q.1, q.2.1, va_K.moved (u := U) (U := U.calling g mk a) (Vm.Alike.refl U.vm) q.2.2⟩, OA.recv hK hO rfl, fun U hU hW => ⟨rfl, by rw [hU]; exact hO, va_K.moved hW.alike hK⟩⟩ rfl rfl hs rfl (lv_room hr) hd hcs) hS (fun H1 locs1 hP hS _ _ => kk H1 locs1 hP hS)
theorem metX2_first (l : Launch) (D : va_G) (aC : Nat → ClassId) (o : Nat) (ad : Nat → Nat) (A : Nat → Prop) (hD : OD A 44 kdM o ad) (x1 : Int32) (z : GS) (r : Int32) (zq : GS) (h : FX2_first x1 z = some (r, zq)) : Met l yX2_first (ws_ yX2_first cX2_first 5 (some .int)) ({ frames := 58, cells := 0, slots := 0, locals := 1323 }) (va_Pc [.ref o, .int x1] (PM D aC o ad z)) (QG (some (.int r)) (OM D aC o ad zq) A) 0 0 A := by
  refine g_ofW (cc := cX2_first) (maxL := 5) (ret := (some .int)) (own := RX2) (by decide) rfl rfl [.ref o, .int x1] (PM D aC o ad z) (Nat.le_of_ble_eq_true rfl) ?_
  intro p e s m below meth c ls hx hb hr hml hts hown hlocks hnm hPre hl
  obtain ⟨hO, hK⟩ := hPre
  have hf : CallFix p m c cX2_first 5 s _ lw_all RX2 := ⟨hx, hb, hml, hown, hts⟩
  have hl : lv_has ls 5 [(0, .ref o), (1, .int x1)] := hl
  refine g_open (A := A) (OM D aC o ad z) hO (fun H locs hO hS => ?_)
  unfold FX2_first at h
  refine lv_iload_n hx hb dX2_first_0 rfl (lv_at hl 1 rfl) ?_
  refine lv_iconst (v := (-1)) hx hb dX2_first_1 (by decide) ?_
  obtain ⟨k1, e26, h⟩ := pin_nm h
  have hk1 : ∀  (ls : Array Slot), k1  = some (r, zq) → lv_has ls 5 [(0, .ref o), (1, .int x1)] → W p l e ({ frames := 58, cells := 0, slots := 0, locals := 1323 }) s m ([.ref o, .int x1] : List Value).toArray below meth c H locs 0 0 (MQ below (QG (some (.int r)) (OM D aC o ad zq) A) ([.ref o, .int x1] : List Value).toArray s 0 0 A) (F0 m 15 ls []) := by
    intro  ls h hl
    rw [e26] at h
    refine lv_aload_n hx hb dX2_first_15 rfl (lv_at hl 0 rfl) ?_
    refine lv_iconst (v := 0) hx hb dX2_first_16 (by decide) ?_
    obtain ⟨z2, e3, h⟩ := bn1_e h
    refine clX2_keepAll hf hK hO hS (metX2_keepAll l D aC o ad A hD 0 z z2 e3) q1796 hl.1 (Nat.le_of_ble_eq_true rfl) ⟨Nat.le_of_ble_eq_true rfl, Nat.le_of_ble_eq_true rfl⟩ ⟨Nat.le_of_ble_eq_true rfl, Nat.le_of_ble_eq_true rfl⟩ dX2_first_17 (fun H locs hO hS => ?_)
    refine lv_bipush (v := (-2)) hx hb dX2_first_20 (by decide) ?_
    refine lv_istore_n (lv' := [(2, .int (-2)), (0, .ref o), (1, .int x1)]) hx hb dX2_first_22 rfl hl (by decide) rfl (fun ls hl => ?_)
    refine lv_iconst (v := 0) hx hb dX2_first_23 (by decide) ?_
    refine lv_istore_n (lv' := [(3, .int 0), (2, .int (-2)), (0, .ref o), (1, .int x1)]) hx hb dX2_first_24 rfl hl (by decide) rfl (fun ls hl => ?_)
    obtain ⟨k4, e23, h⟩ := pin_nm h
    have hk4 : ∀ (v5 : Int32) (z6 : GS) (H : Heap) (locs : List Loc) (ls : Array Slot), k4 v5 z6 = some (r, zq) → OM D aC o ad z6 H → va_S A s.heap H locs → lv_has ls 5 [(0, .ref o), (2, .int v5)] → W p l e ({ frames := 58, cells := 0, slots := 0, locals := 1323 }) s m ([.ref o, .int x1] : List Value).toArray below meth c H locs 0 0 (MQ below (QG (some (.int r)) (OM D aC o ad zq) A) ([.ref o, .int x1] : List Value).toArray s 0 0 A) (F0 m 93 ls []) := by
      intro v5 z6 H locs ls h hO hS hl
      rw [e23] at h
      refine lv_aload_n hx hb dX2_first_93 rfl (lv_at hl 0 rfl) ?_
      refine lv_iconst (v := 0) hx hb dX2_first_94 (by decide) ?_
      obtain ⟨z7, e8, h⟩ := bn1_e h
      refine clX2_layAll hf hK hO hS (metX2_layAll l D aC o ad A hD 0 z6 z7 e8) q1812 hl.1 (Nat.le_of_ble_eq_true rfl) ⟨Nat.le_of_ble_eq_true rfl, Nat.le_of_ble_eq_true rfl⟩ ⟨Nat.le_of_ble_eq_true rfl, Nat.le_of_ble_eq_true rfl⟩ dX2_first_95 (fun H locs hO hS => ?_)
      refine lv_iload_n hx hb dX2_first_98 rfl (lv_at hl 1 rfl) ?_
      obtain ⟨e8, rfl⟩ := Prod.mk.inj (Option.some.inj h)
      exact g_retG hx hb hr hlocks e8 hO hS dX2_first_99
    have key22 : ∀ (f : Nat) (v2 : Int32) (v3 : Int32) (z : GS) (H : Heap) (locs : List Loc) (ls : Array Slot), FX2_first_L25 k4 x1 f v2 v3 z = some (r, zq) → OM D aC o ad z H → va_S A s.heap H locs → lv_has ls 5 [(0, .ref o), (1, .int x1), (2, .int v2), (3, .int v3)] → W p l e ({ frames := 58, cells := 0, slots := 0, locals := 1323 }) s m ([.ref o, .int x1] : List Value).toArray below meth c H locs 0 0 (MQ below (QG (some (.int r)) (OM D aC o ad zq) A) ([.ref o, .int x1] : List Value).toArray s 0 0 A) (F0 m 25 ls []) := by
      intro f
      induction f with
      | zero =>
        intro v2 v3 z H locs ls h
        rw [FX2_first_L25] at h
        cases h
      | succ f ih9 =>
        intro v2 v3 z H locs ls h hO hS hl
        rw [FX2_first_L25] at h
        refine lv_iload_n hx hb dX2_first_25 rfl (lv_at hl 3 rfl) ?_
        refine lv_bipush (v := 40) hx hb dX2_first_26 (by decide) ?_
        refine lv_icmp_gt (tgt := 93) hx hb dX2_first_28 (by decide) (fun c10 => ?_) (fun c10 => ?_)
        · have h := it_t c10 h
          exact hk4 _ _ _ _ _ h hO hS (lv_sub hl [0, 2] rfl)
        · have h := it_f c10 h
          refine lv_iload_n hx hb dX2_first_31 rfl (lv_at hl 2 rfl) ?_
          refine lv_bipush (v := (-2)) hx hb dX2_first_32 (by decide) ?_
          refine lv_icmp_ne (tgt := 93) hx hb dX2_first_34 (by decide) (fun c11 => ?_) (fun c11 => ?_)
          · have h := it_f c11 h
            exact hk4 _ _ _ _ _ h hO hS (lv_sub hl [0, 2] rfl)
          · have h := it_t c11 h
            refine lv_aload_n hx hb dX2_first_37 rfl (lv_at hl 0 rfl) ?_
            obtain ⟨r12, e13, h⟩ := bn1_e h
            refine clX2_lacks hf hK hO (metX2_lacks l D aC o ad z r12 e13) q1820 hl.1 (Nat.le_of_ble_eq_true rfl) ⟨Nat.le_of_ble_eq_true rfl, Nat.le_of_ble_eq_true rfl⟩ ⟨Nat.le_of_ble_eq_true rfl, Nat.le_of_ble_eq_true rfl⟩ dX2_first_38 ?_
            refine lv_istore (lv' := [(4, .int r12), (0, .ref o), (1, .int x1), (2, .int v2), (3, .int v3)]) hx hb dX2_first_41 hl (by decide) rfl (fun ls hl => ?_)
            refine lv_iload_n hx hb dX2_first_43 rfl (lv_at hl 2 rfl) ?_
            refine lv_iconst (v := (-1)) hx hb dX2_first_44 (by decide) ?_
            obtain ⟨k15, e18, h⟩ := pin_nm2 h
            have hk15 : ∀ (u14 : Int32) (ls : Array Slot), k15 u14 = some (r, zq) → lv_has ls 5 [(0, .ref o), (1, .int x1), (3, .int v3)] → W p l e ({ frames := 58, cells := 0, slots := 0, locals := 1323 }) s m ([.ref o, .int x1] : List Value).toArray below meth c H locs 0 0 (MQ below (QG (some (.int r)) (OM D aC o ad zq) A) ([.ref o, .int x1] : List Value).toArray s 0 0 A) (F0 m 82 ls [.int u14]) := by
              intro u14 ls h hl
              rw [e18] at h
              refine lv_istore_n (lv' := [(2, .int u14), (0, .ref o), (1, .int x1), (3, .int v3)]) hx hb dX2_first_82 rfl hl (by decide) rfl (fun ls hl => ?_)
              refine lv_aload_n hx hb dX2_first_83 rfl (lv_at hl 1 rfl) ?_
              obtain ⟨z16, e17, h⟩ := bn1_e h
              refine clX2_goDay hf hK hO hS (metX2_goDay l D aC o ad A hD z z16 e17) q1804 hl.1 (Nat.le_of_ble_eq_true rfl) ⟨Nat.le_of_ble_eq_true rfl, Nat.le_of_ble_eq_true rfl⟩ ⟨Nat.le_of_ble_eq_true rfl, Nat.le_of_ble_eq_true rfl⟩ dX2_first_84 (fun H locs hO hS => ?_)
              refine lv_iinc (v := (v3 + 1)) (lv' := [(3, .int (v3 + 1)), (2, .int u14), (0, .ref o), (1, .int x1)]) hx hb dX2_first_87 hl (k := 3) rfl rfl (by decide) rfl (fun ls hl => ?_)
              refine lv_goto (tgt := 25) hx hb dX2_first_90 (by decide) ?_
              exact ih9 _ _ _ _ _ _ h hO hS (lv_sub hl [2, 3, 1, 0] rfl)
            refine lv_icmp_ne (tgt := 66) hx hb dX2_first_45 (by decide) (fun c19 => ?_) (fun c19 => ?_)
            · have h := pt_f (k := k15) c19 h
              refine lv_iload hx hb dX2_first_66 (lv_at hl 0 rfl) ?_
              refine lv_iload_n hx hb dX2_first_68 rfl (lv_at hl 2 rfl) ?_
              refine g_ishr hx hb dX2_first_69 ?_
              refine lv_iconst (v := 1) hx hb dX2_first_70 (by decide) ?_
              refine lv_iand hx hb dX2_first_71 ?_
              refine lv_iconst (v := 1) hx hb dX2_first_72 (by decide) ?_
              refine lv_icmp_ne (tgt := 80) hx hb dX2_first_73 (by decide) (fun c20 => ?_) (fun c20 => ?_)
              · have h := pt_f (k := k15) c20 h
                refine lv_bipush (v := (-2)) hx hb dX2_first_80 (by decide) ?_
                exact hk15 _ _ h (lv_sub hl [1, 2, 4] rfl)
              · have h := pt_t (k := k15) c20 h
                refine lv_iload_n hx hb dX2_first_76 rfl (lv_at hl 4 rfl) ?_
                refine lv_goto (tgt := 82) hx hb dX2_first_77 (by decide) ?_
                exact hk15 _ _ h (lv_sub hl [1, 2, 4] rfl)
            · have h := pt_t (k := k15) c19 h
              refine lv_iload hx hb dX2_first_48 (lv_at hl 0 rfl) ?_
              refine lv_if_ne (tgt := 58) hx hb dX2_first_50 (by decide) (fun c21 => ?_) (fun c21 => ?_)
              · have h := pt_f (k := k15) c21 h
                refine lv_iload hx hb dX2_first_58 (lv_at hl 0 rfl) ?_
                refine clJ13_numberOfTrailingZeros hf (metJ13_numberOfTrailingZeros l r12 _ rfl) q1828 hl.1 (Nat.le_of_ble_eq_true rfl) ⟨Nat.le_of_ble_eq_true rfl, Nat.le_of_ble_eq_true rfl⟩ ⟨Nat.le_of_ble_eq_true rfl, Nat.le_of_ble_eq_true rfl⟩ dX2_first_60 ?_
                refine lv_goto (tgt := 82) hx hb dX2_first_63 (by decide) ?_
                exact hk15 _ _ h (lv_sub hl [1, 2, 4] rfl)
              · have h := pt_t (k := k15) c21 h
                refine lv_bipush (v := (-2)) hx hb dX2_first_53 (by decide) ?_
                refine lv_goto (tgt := 82) hx hb dX2_first_55 (by decide) ?_
                exact hk15 _ _ h (lv_sub hl [1, 2, 4] rfl)
    exact key22 FU _ _ _ _ _ _ h hO hS (lv_sub hl [2, 3, 1, 0] rfl)
  refine lv_icmp_eq (tgt := 15) hx hb dX2_first_2 (by decide) (fun c24 => ?_) (fun c24 => ?_)
  · have h := it_t c24 h
    exact hk1 _ h (lv_sub hl [0, 1] rfl)
  · have h := it_f c24 h
    refine lv_aload_n hx hb dX2_first_5 rfl (lv_at hl 0 rfl) ?_
    refine lv_iload_n hx hb dX2_first_6 rfl (lv_at hl 1 rfl) ?_
    refine clX2_isOne hf hK hO (metX2_isOne l D aC o ad x1 z _ rfl) q1694 hl.1 (Nat.le_of_ble_eq_true rfl) ⟨Nat.le_of_ble_eq_true rfl, Nat.le_of_ble_eq_true rfl⟩ ⟨Nat.le_of_ble_eq_true rfl, Nat.le_of_ble_eq_true rfl⟩ dX2_first_7 ?_
    refine lv_if_ne (tgt := 15) hx hb dX2_first_10 (by decide) (fun c25 => ?_) (fun c25 => ?_)
    · have h := it_f c25 h
      exact hk1 _ h (lv_sub hl [0, 1] rfl)
    · have h := it_t c25 h
      refine lv_iconst (v := (-1)) hx hb dX2_first_13 (by decide) ?_
      obtain ⟨e8, rfl⟩ := Prod.mk.inj (Option.some.inj h)
      exact g_retG hx hb hr hlocks e8 hO hS dX2_first_14
theorem clX2_first {p : Program} {l : Launch} {e : Env} {R : Room} {s : State} {m : MethodId} {args : Array Value} {below : List Frame} {meth : Method} {c : Code} {H : Heap} {locs : List Loc} {cells slots : Nat} {Q : State → Prop} {cc : ByteArray} {pc nL idx fr lo : Nat} {ls : Array Slot} {rest : List Value} {own : String} {D : va_G} {aC : Nat → ClassId} {o : Nat} {ad : Nat → Nat} {z : GS} {zq : GS} {A : Nat → Prop} {x1 : Int32} {r : Int32} (hf : CallFix p m c cc nL s args lw_all own) (hK : va_K D vwCl (tysG aC) s) (hO : OM D aC o ad z H) (hS : va_S A s.heap H locs) (hM : Met l yX2_first (ws_ yX2_first cX2_first 5 (some .int)) ({ frames := fr, cells := 0, slots := 0, locals := lo }) (va_Pc [.ref o, .int x1] (PM D aC o ad z)) (QG (some (.int r)) (OM D aC o ad zq) A) 0 0 A) (hq : Cond.methodLink own idx yX2_first ∈ lw_all) (hs : ls.size = nL) (hr : (rest.map fun v => v.category).sum ≤ 8) (hR : fr + 1 ≤ R.frames ∧ 8 + (5 + 11) + lo ≤ R.locals) (hcs : cells + 0 ≤ R.cells ∧ slots + 0 ≤ R.slots) (hd : decode cc pc = .ok (.invokevirtual idx, 3)) (kk : ∀ (H1 : Heap) (locs1 : List Loc), OM D aC o ad zq H1 → va_S A s.heap H1 locs1 → W p l e R s m args below meth c H1 locs1 cells slots Q (F0 m (pc + 3) ls (.int r :: rest))) : W p l e R s m args below meth c H locs cells slots Q (F0 m pc ls (.int x1 :: .ref o :: rest)) :=
  g_callG (W.runV (As := [.int x1]) (rest := rest) hf hM (cwV 1 hf.2.2.2.2 (lw_V hq q1825 q1826 q92 q1827) rfl rfl rfl (by decide +kernel) hR) ⟨fun a U g mk q => ⟨q.1, q.2.1, va_K.moved (u := U) (U := U.calling g mk a) (Vm.Alike.refl U.vm) q.2.2⟩, OA.recv hK hO rfl, fun U hU hW => ⟨rfl, by rw [hU]; exact hO, va_K.moved hW.alike hK⟩⟩ rfl rfl hs rfl (lv_room hr) hd hcs) hS (fun H1 locs1 hP hS _ _ => kk H1 locs1 hP hS)
theorem metX2_care (l : Launch) (D : va_G) (aC : Nat → ClassId) (o : Nat) (ad : Nat → Nat) (x1 : Int32) (x2 : Int32) (z : GS) (r : Int32) (h : FX2_care x1 x2 z = some r) : Met l yX2_care (ws_ yX2_care cX2_care 6 (some .int)) ({ frames := 2, cells := 0, slots := 0, locals := 43 }) (va_Pc [.ref o, .int x1, .int x2] (PM D aC o ad z)) (QR (some (.int r))) 0 0 (fun _ => False) := by
  refine g_ofW (cc := cX2_care) (maxL := 6) (ret := (some .int)) (own := RX2) (by decide) rfl rfl [.ref o, .int x1, .int x2] (PM D aC o ad z) (Nat.le_of_ble_eq_true rfl) ?_
  intro p e s m below meth c ls hx hb hr hml hts hown hlocks hnm hPre hl
  obtain ⟨hO, hK⟩ := hPre
  have hf : CallFix p m c cX2_care 6 s _ lw_all RX2 := ⟨hx, hb, hml, hown, hts⟩
  have hl : lv_has ls 6 [(0, .ref o), (1, .int x1), (2, .int x2)] := hl
  unfold FX2_care at h
  refine lv_aload_n hx hb dX2_care_0 rfl (lv_at hl 0 rfl) ?_
  refine lv_iload_n hx hb dX2_care_1 rfl (lv_at hl 1 rfl) ?_
  refine clX2_isOne hf hK hO (metX2_isOne l D aC o ad x1 z _ rfl) q1694 hl.1 (Nat.le_of_ble_eq_true rfl) ⟨Nat.le_of_ble_eq_true rfl, Nat.le_of_ble_eq_true rfl⟩ ⟨Nat.le_of_ble_eq_true rfl, Nat.le_of_ble_eq_true rfl⟩ dX2_care_2 ?_
  refine lv_if_eq (tgt := 17) hx hb dX2_care_5 (by decide) (fun c1 => ?_) (fun c1 => ?_)
  · have h := it_t c1 h
    refine lv_iconst (v := (-1)) hx hb dX2_care_17 (by decide) ?_
    exact g_retR hx hb hr hlocks (Option.some.inj h) dX2_care_18
  · have h := it_f c1 h
    refine lv_iload_n hx hb dX2_care_8 rfl (lv_at hl 2 rfl) ?_
    refine lv_iconst (v := 0) hx hb dX2_care_9 (by decide) ?_
    refine lv_iconst (v := 1) hx hb dX2_care_10 (by decide) ?_
    refine clX2_isIn hf (metX2_isIn l x2 0 1 _ rfl) q1675 hl.1 (Nat.le_of_ble_eq_true rfl) ⟨Nat.le_of_ble_eq_true rfl, Nat.le_of_ble_eq_true rfl⟩ ⟨Nat.le_of_ble_eq_true rfl, Nat.le_of_ble_eq_true rfl⟩ dX2_care_11 ?_
    refine lv_if_ne (tgt := 19) hx hb dX2_care_14 (by decide) (fun c2 => ?_) (fun c2 => ?_)
    · have h := it_f c2 h
      refine lv_iload_n hx hb dX2_care_19 rfl (lv_at hl 1 rfl) ?_
      refine lv_istore_n (lv' := [(3, .int x1), (0, .ref o), (1, .int x1), (2, .int x2)]) hx hb dX2_care_20 rfl hl (by decide) rfl (fun ls hl => ?_)
      refine lv_iconst (v := 0) hx hb dX2_care_21 (by decide) ?_
      refine lv_istore (lv' := [(4, .int 0), (3, .int x1), (0, .ref o), (1, .int x1), (2, .int x2)]) hx hb dX2_care_22 hl (by decide) rfl (fun ls hl => ?_)
      obtain ⟨k3, e29, h⟩ := pin_nm h
      have hk3 : ∀ (v4 : Int32) (ls : Array Slot), k3 v4 = some r → lv_has ls 6 [(0, .ref o), (2, .int x2), (3, .int v4)] → W p l e ({ frames := 2, cells := 0, slots := 0, locals := 43 }) s m ([.ref o, .int x1, .int x2] : List Value).toArray below meth c s.heap [] 0 0 (MQ below (QR (some (.int r))) ([.ref o, .int x1, .int x2] : List Value).toArray s 0 0 (fun _ => False)) (F0 m 86 ls []) := by
        intro v4 ls h hl
        rw [e29] at h
        refine lv_iload_n hx hb dX2_care_86 rfl (lv_at hl 1 rfl) ?_
        refine lv_if_ne (tgt := 104) hx hb dX2_care_87 (by decide) (fun c5 => ?_) (fun c5 => ?_)
        · have h := it_f c5 h
          refine lv_bipush (v := (-2)) hx hb dX2_care_104 (by decide) ?_
          exact g_retR hx hb hr hlocks (Option.some.inj h) dX2_care_106
        · have h := it_t c5 h
          refine lv_aload_n hx hb dX2_care_90 rfl (lv_at hl 0 rfl) ?_
          refine lv_iload_n hx hb dX2_care_91 rfl (lv_at hl 2 rfl) ?_
          refine lv_iconst (v := 4) hx hb dX2_care_92 (by decide) ?_
          obtain ⟨r6, e7, h⟩ := bn1_e h
          refine clX2_number_2 hf hK hO (metX2_number_2 l D aC o ad v4 4 z r6 e7) q1771 hl.1 (Nat.le_of_ble_eq_true rfl) ⟨Nat.le_of_ble_eq_true rfl, Nat.le_of_ble_eq_true rfl⟩ ⟨Nat.le_of_ble_eq_true rfl, Nat.le_of_ble_eq_true rfl⟩ dX2_care_93 ?_
          refine lv_iconst (v := (-1)) hx hb dX2_care_96 (by decide) ?_
          refine lv_icmp_ne (tgt := 104) hx hb dX2_care_97 (by decide) (fun c8 => ?_) (fun c8 => ?_)
          · have h := it_f c8 h
            refine lv_bipush (v := (-2)) hx hb dX2_care_104 (by decide) ?_
            exact g_retR hx hb hr hlocks (Option.some.inj h) dX2_care_106
          · have h := it_t c8 h
            refine lv_iload_n hx hb dX2_care_100 rfl (lv_at hl 2 rfl) ?_
            refine lv_goto (tgt := 106) hx hb dX2_care_101 (by decide) ?_
            exact g_retR hx hb hr hlocks (Option.some.inj h) dX2_care_106
      obtain ⟨k9, e28, h⟩ := pin_nm h
      have hk9 : ∀ (v10 : Int32) (ls : Array Slot), k9 v10 = some r → lv_has ls 6 [(0, .ref o), (4, .int v10)] → W p l e ({ frames := 2, cells := 0, slots := 0, locals := 43 }) s m ([.ref o, .int x1, .int x2] : List Value).toArray below meth c s.heap [] 0 0 (MQ below (QR (some (.int r))) ([.ref o, .int x1, .int x2] : List Value).toArray s 0 0 (fun _ => False)) (F0 m 62 ls []) := by
        intro v10 ls h hl
        rw [e28] at h
        refine lv_iload hx hb dX2_care_62 (lv_at hl 1 rfl) ?_
        refine lv_iconst (v := 1) hx hb dX2_care_64 (by decide) ?_
        refine lv_iadd hx hb dX2_care_65 ?_
        exact g_retR hx hb hr hlocks (Option.some.inj h) dX2_care_66
      have key27 : ∀ (f : Nat) (v3 : Int32) (v4 : Int32) (ls : Array Slot), FX2_care_L24 k3 k9 x1 x2 z f v3 v4 = some r → lv_has ls 6 [(0, .ref o), (1, .int x1), (2, .int x2), (3, .int v3), (4, .int v4)] → W p l e ({ frames := 2, cells := 0, slots := 0, locals := 43 }) s m ([.ref o, .int x1, .int x2] : List Value).toArray below meth c s.heap [] 0 0 (MQ below (QR (some (.int r))) ([.ref o, .int x1, .int x2] : List Value).toArray s 0 0 (fun _ => False)) (F0 m 24 ls []) := by
        intro f
        induction f with
        | zero =>
          intro v3 v4 ls h
          rw [FX2_care_L24] at h
          cases h
        | succ f ih11 =>
          intro v3 v4 ls h hl
          rw [FX2_care_L24] at h
          refine lv_iload hx hb dX2_care_24 (lv_at hl 4 rfl) ?_
          refine lv_bipush (v := 8) hx hb dX2_care_26 (by decide) ?_
          refine lv_icmp_ge (tgt := 86) hx hb dX2_care_28 (by decide) (fun c12 => ?_) (fun c12 => ?_)
          · have h := it_t c12 h
            exact hk3 _ _ h (lv_sub hl [0, 2, 3] rfl)
          · have h := it_f c12 h
            refine lv_aload_n hx hb dX2_care_31 rfl (lv_at hl 0 rfl) ?_
            refine lv_iload_n hx hb dX2_care_32 rfl (lv_at hl 3 rfl) ?_
            refine lv_iconst (v := 4) hx hb dX2_care_33 (by decide) ?_
            obtain ⟨r13, e14, h⟩ := bn1_e h
            refine clX2_number_2 hf hK hO (metX2_number_2 l D aC o ad v3 4 z r13 e14) q1771 hl.1 (Nat.le_of_ble_eq_true rfl) ⟨Nat.le_of_ble_eq_true rfl, Nat.le_of_ble_eq_true rfl⟩ ⟨Nat.le_of_ble_eq_true rfl, Nat.le_of_ble_eq_true rfl⟩ dX2_care_34 ?_
            refine lv_istore (lv' := [(5, .int r13), (0, .ref o), (1, .int x1), (2, .int x2), (3, .int v3), (4, .int v4)]) hx hb dX2_care_37 hl (by decide) rfl (fun ls hl => ?_)
            refine lv_iload_n hx hb dX2_care_39 rfl (lv_at hl 3 rfl) ?_
            obtain ⟨k15, e26, h⟩ := pin_nm h
            have hk15 : ∀  (ls : Array Slot), k15  = some r → lv_has ls 6 [(0, .ref o), (1, .int x1), (2, .int x2), (3, .int v3), (4, .int v4), (5, .int r13)] → W p l e ({ frames := 2, cells := 0, slots := 0, locals := 43 }) s m ([.ref o, .int x1, .int x2] : List Value).toArray below meth c s.heap [] 0 0 (MQ below (QR (some (.int r))) ([.ref o, .int x1, .int x2] : List Value).toArray s 0 0 (fun _ => False)) (F0 m 51 ls []) := by
              intro  ls h hl
              rw [e26] at h
              refine lv_iload_n hx hb dX2_care_51 rfl (lv_at hl 2 rfl) ?_
              refine lv_iconst (v := 1) hx hb dX2_care_52 (by decide) ?_
              obtain ⟨k16, e23, h⟩ := pin_nm h
              have hk16 : ∀  (ls : Array Slot), k16  = some r → lv_has ls 6 [(0, .ref o), (1, .int x1), (2, .int x2), (3, .int v3), (4, .int v4), (5, .int r13)] → W p l e ({ frames := 2, cells := 0, slots := 0, locals := 43 }) s m ([.ref o, .int x1, .int x2] : List Value).toArray below meth c s.heap [] 0 0 (MQ below (QR (some (.int r))) ([.ref o, .int x1, .int x2] : List Value).toArray s 0 0 (fun _ => False)) (F0 m 67 ls []) := by
                intro  ls h hl
                rw [e23] at h
                refine lv_iload hx hb dX2_care_67 (lv_at hl 5 rfl) ?_
                refine lv_iconst (v := (-1)) hx hb dX2_care_69 (by decide) ?_
                obtain ⟨k18, e19, h⟩ := pin_nm2 h
                have hk18 : ∀ (u17 : Int32) (ls : Array Slot), k18 u17 = some r → lv_has ls 6 [(0, .ref o), (1, .int x1), (2, .int x2), (4, .int v4)] → W p l e ({ frames := 2, cells := 0, slots := 0, locals := 43 }) s m ([.ref o, .int x1, .int x2] : List Value).toArray below meth c s.heap [] 0 0 (MQ below (QR (some (.int r))) ([.ref o, .int x1, .int x2] : List Value).toArray s 0 0 (fun _ => False)) (F0 m 79 ls [.int u17]) := by
                  intro u17 ls h hl
                  rw [e19] at h
                  refine lv_istore_n (lv' := [(3, .int u17), (0, .ref o), (1, .int x1), (2, .int x2), (4, .int v4)]) hx hb dX2_care_79 rfl hl (by decide) rfl (fun ls hl => ?_)
                  refine lv_iinc (v := (v4 + 1)) (lv' := [(4, .int (v4 + 1)), (3, .int u17), (0, .ref o), (1, .int x1), (2, .int x2)]) hx hb dX2_care_80 hl (k := 4) rfl rfl (by decide) rfl (fun ls hl => ?_)
                  refine lv_goto (tgt := 24) hx hb dX2_care_83 (by decide) ?_
                  exact ih11 _ _ _ h (lv_sub hl [2, 3, 4, 1, 0] rfl)
                refine lv_icmp_ne (tgt := 77) hx hb dX2_care_70 (by decide) (fun c20 => ?_) (fun c20 => ?_)
                · have h := pt_f (k := k18) c20 h
                  refine lv_iload hx hb dX2_care_77 (lv_at hl 5 rfl) ?_
                  exact hk18 _ _ h (lv_sub hl [0, 1, 2, 4] rfl)
                · have h := pt_t (k := k18) c20 h
                  refine lv_iload_n hx hb dX2_care_73 rfl (lv_at hl 3 rfl) ?_
                  refine lv_goto (tgt := 79) hx hb dX2_care_74 (by decide) ?_
                  exact hk18 _ _ h (lv_sub hl [0, 1, 2, 4] rfl)
              refine lv_icmp_ne (tgt := 67) hx hb dX2_care_53 (by decide) (fun c21 => ?_) (fun c21 => ?_)
              · have h := it_f c21 h
                exact hk16 _ h (lv_sub hl [0, 1, 2, 3, 4, 5] rfl)
              · have h := it_t c21 h
                refine lv_iload hx hb dX2_care_56 (lv_at hl 5 rfl) ?_
                refine lv_iload_n hx hb dX2_care_58 rfl (lv_at hl 1 rfl) ?_
                refine lv_icmp_ne (tgt := 67) hx hb dX2_care_59 (by decide) (fun c22 => ?_) (fun c22 => ?_)
                · have h := it_f c22 h
                  exact hk16 _ h (lv_sub hl [0, 1, 2, 3, 4, 5] rfl)
                · have h := it_t c22 h
                  exact hk9 _ _ h (lv_sub hl [0, 4] rfl)
            refine lv_if_ne (tgt := 51) hx hb dX2_care_40 (by decide) (fun c24 => ?_) (fun c24 => ?_)
            · have h := it_f c24 h
              exact hk15 _ h (lv_sub hl [1, 2, 3, 4, 5, 0] rfl)
            · have h := it_t c24 h
              refine lv_iload hx hb dX2_care_43 (lv_at hl 0 rfl) ?_
              refine lv_iconst (v := (-1)) hx hb dX2_care_45 (by decide) ?_
              refine lv_icmp_ne (tgt := 51) hx hb dX2_care_46 (by decide) (fun c25 => ?_) (fun c25 => ?_)
              · have h := it_f c25 h
                exact hk15 _ h (lv_sub hl [1, 2, 3, 4, 5, 0] rfl)
              · have h := it_t c25 h
                refine lv_iload_n hx hb dX2_care_49 rfl (lv_at hl 4 rfl) ?_
                exact g_retR hx hb hr hlocks (Option.some.inj h) dX2_care_50
      exact key27 FU _ _ _ h (lv_sub hl [2, 3, 4, 1, 0] rfl)
    · have h := it_t c2 h
      refine lv_iconst (v := (-1)) hx hb dX2_care_17 (by decide) ?_
      exact g_retR hx hb hr hlocks (Option.some.inj h) dX2_care_18
theorem clX2_care {p : Program} {l : Launch} {e : Env} {R : Room} {s : State} {m : MethodId} {args : Array Value} {below : List Frame} {meth : Method} {c : Code} {H : Heap} {locs : List Loc} {cells slots : Nat} {Q : State → Prop} {cc : ByteArray} {pc nL idx fr lo : Nat} {ls : Array Slot} {rest : List Value} {own : String} {D : va_G} {aC : Nat → ClassId} {o : Nat} {ad : Nat → Nat} {z : GS} {x1 : Int32} {x2 : Int32} {r : Int32} (hf : CallFix p m c cc nL s args lw_all own) (hK : va_K D vwCl (tysG aC) s) (hO : OM D aC o ad z H) (hM : Met l yX2_care (ws_ yX2_care cX2_care 6 (some .int)) ({ frames := fr, cells := 0, slots := 0, locals := lo }) (va_Pc [.ref o, .int x1, .int x2] (PM D aC o ad z)) (QR (some (.int r))) 0 0 (fun _ => False)) (hq : Cond.methodLink own idx yX2_care ∈ lw_all) (hs : ls.size = nL) (hr : (rest.map fun v => v.category).sum ≤ 8) (hR : fr + 1 ≤ R.frames ∧ 8 + (6 + 11) + lo ≤ R.locals) (hcs : cells + 0 ≤ R.cells ∧ slots + 0 ≤ R.slots) (hd : decode cc pc = .ok (.invokevirtual idx, 3)) (kk : W p l e R s m args below meth c H locs cells slots Q (F0 m (pc + 3) ls (.int r :: rest))) : W p l e R s m args below meth c H locs cells slots Q (F0 m pc ls (.int x2 :: .int x1 :: .ref o :: rest)) :=
  g_callR (W.runV (As := [.int x1, .int x2]) (rest := rest) hf hM (cwV 2 hf.2.2.2.2 (lw_V hq q1830 q1831 q92 q1832) rfl rfl rfl (by decide +kernel) hR) ⟨fun a U g mk q => ⟨q.1, q.2.1, va_K.moved (u := U) (U := U.calling g mk a) (Vm.Alike.refl U.vm) q.2.2⟩, OA.recv hK hO rfl, fun U hU hW => ⟨rfl, by rw [hU]; exact hO, va_K.moved hW.alike hK⟩⟩ rfl rfl hs rfl (lv_room hr) hd hcs) kk
theorem metX2_cared (l : Launch) (D : va_G) (aC : Nat → ClassId) (o : Nat) (ad : Nat → Nat) (x1 : Int32) (z : GS) (r : Int32) (h : FX2_cared x1 z = some r) : Met l yX2_cared (ws_ yX2_cared cX2_cared 4 (some .int)) ({ frames := 2, cells := 0, slots := 0, locals := 45 }) (va_Pc [.ref o, .int x1] (PM D aC o ad z)) (QR (some (.int r))) 0 0 (fun _ => False) := by
  refine g_ofW (cc := cX2_cared) (maxL := 4) (ret := (some .int)) (own := RX2) (by decide) rfl rfl [.ref o, .int x1] (PM D aC o ad z) (Nat.le_of_ble_eq_true rfl) ?_
  intro p e s m below meth c ls hx hb hr hml hts hown hlocks hnm hPre hl
  obtain ⟨hO, hK⟩ := hPre
  have hf : CallFix p m c cX2_cared 4 s _ lw_all RX2 := ⟨hx, hb, hml, hown, hts⟩
  have hl : lv_has ls 4 [(0, .ref o), (1, .int x1)] := hl
  unfold FX2_cared at h
  refine lv_iload_n hx hb dX2_cared_0 rfl (lv_at hl 1 rfl) ?_
  refine lv_iconst (v := 0) hx hb dX2_cared_1 (by decide) ?_
  refine lv_iconst (v := 1) hx hb dX2_cared_2 (by decide) ?_
  refine clX2_isIn hf (metX2_isIn l x1 0 1 _ rfl) q1675 hl.1 (Nat.le_of_ble_eq_true rfl) ⟨Nat.le_of_ble_eq_true rfl, Nat.le_of_ble_eq_true rfl⟩ ⟨Nat.le_of_ble_eq_true rfl, Nat.le_of_ble_eq_true rfl⟩ dX2_cared_3 ?_
  refine lv_if_ne (tgt := 11) hx hb dX2_cared_6 (by decide) (fun c1 => ?_) (fun c1 => ?_)
  · have h := it_f c1 h
    refine lv_iconst (v := 0) hx hb dX2_cared_11 (by decide) ?_
    refine lv_istore_n (lv' := [(2, .int 0), (0, .ref o), (1, .int x1)]) hx hb dX2_cared_12 rfl hl (by decide) rfl (fun ls hl => ?_)
    refine lv_iconst (v := 0) hx hb dX2_cared_13 (by decide) ?_
    refine lv_istore_n (lv' := [(3, .int 0), (2, .int 0), (0, .ref o), (1, .int x1)]) hx hb dX2_cared_14 rfl hl (by decide) rfl (fun ls hl => ?_)
    have key19 : ∀ (f : Nat) (v2 : Int32) (v3 : Int32) (ls : Array Slot), FX2_cared_L15 x1 z f v2 v3 = some r → lv_has ls 4 [(0, .ref o), (1, .int x1), (2, .int v2), (3, .int v3)] → W p l e ({ frames := 2, cells := 0, slots := 0, locals := 45 }) s m ([.ref o, .int x1] : List Value).toArray below meth c s.heap [] 0 0 (MQ below (QR (some (.int r))) ([.ref o, .int x1] : List Value).toArray s 0 0 (fun _ => False)) (F0 m 15 ls []) := by
      intro f
      induction f with
      | zero =>
        intro v2 v3 ls h
        rw [FX2_cared_L15] at h
        cases h
      | succ f ih2 =>
        intro v2 v3 ls h hl
        rw [FX2_cared_L15] at h
        refine lv_iload_n hx hb dX2_cared_15 rfl (lv_at hl 3 rfl) ?_
        refine lv_aload_n hx hb dX2_cared_16 rfl (lv_at hl 0 rfl) ?_
        refine X2_getF hx hb hts hown hK hO 2 (by decide) rfl (hts _ q1539) dX2_cared_17 ?_
        refine lv_icmp_ge (tgt := 63) hx hb dX2_cared_20 (by decide) (fun c3 => ?_) (fun c3 => ?_)
        · have h := it_t c3 h
          refine lv_iload_n hx hb dX2_cared_63 rfl (lv_at hl 2 rfl) ?_
          exact g_retR hx hb hr hlocks (Option.some.inj h) dX2_cared_64
        · have h := it_f c3 h
          refine lv_iload_n hx hb dX2_cared_23 rfl (lv_at hl 2 rfl) ?_
          refine lv_iload_n hx hb dX2_cared_24 rfl (lv_at hl 1 rfl) ?_
          obtain ⟨k4, e18, h⟩ := pin_nm h
          have hk4 : ∀ (u5 : Int32) (ls : Array Slot), k4 u5 = some r → lv_has ls 4 [(0, .ref o), (1, .int x1), (3, .int v3)] → W p l e ({ frames := 2, cells := 0, slots := 0, locals := 45 }) s m ([.ref o, .int x1] : List Value).toArray below meth c s.heap [] 0 0 (MQ below (QR (some (.int r))) ([.ref o, .int x1] : List Value).toArray s 0 0 (fun _ => False)) (F0 m 55 ls [.int u5, .int v2]) := by
            intro u5 ls h hl
            rw [e18] at h
            refine lv_ior hx hb dX2_cared_55 ?_
            refine lv_topi (fun y6 ey6 => ?_)
            have h := pin_to ey6 h
            refine lv_istore_n (lv' := [(2, .int y6), (0, .ref o), (1, .int x1), (3, .int v3)]) hx hb dX2_cared_56 rfl hl (by decide) rfl (fun ls hl => ?_)
            refine lv_iinc (v := (v3 + 1)) (lv' := [(3, .int (v3 + 1)), (2, .int y6), (0, .ref o), (1, .int x1)]) hx hb dX2_cared_57 hl (k := 3) rfl rfl (by decide) rfl (fun ls hl => ?_)
            refine lv_goto (tgt := 15) hx hb dX2_cared_60 (by decide) ?_
            exact ih2 _ _ _ h (lv_sub hl [2, 3, 1, 0] rfl)
          obtain ⟨k7, e17, h⟩ := pin_nm h
          have hk7 : ∀  (ls : Array Slot), k7  = some r → lv_has ls 4 [(0, .ref o), (1, .int x1), (3, .int v3)] → W p l e ({ frames := 2, cells := 0, slots := 0, locals := 45 }) s m ([.ref o, .int x1] : List Value).toArray below meth c s.heap [] 0 0 (MQ below (QR (some (.int r))) ([.ref o, .int x1] : List Value).toArray s 0 0 (fun _ => False)) (F0 m 54 ls [.int v2]) := by
            intro  ls h hl
            rw [e17] at h
            refine lv_iconst (v := 0) hx hb dX2_cared_54 (by decide) ?_
            exact hk4 _ _ h (lv_sub hl [0, 1, 2] rfl)
          obtain ⟨k8, e16, h⟩ := pin_nm h
          have hk8 : ∀  (ls : Array Slot), k8  = some r → lv_has ls 4 [(0, .ref o), (1, .int x1), (3, .int v3)] → W p l e ({ frames := 2, cells := 0, slots := 0, locals := 45 }) s m ([.ref o, .int x1] : List Value).toArray below meth c s.heap [] 0 0 (MQ below (QR (some (.int r))) ([.ref o, .int x1] : List Value).toArray s 0 0 (fun _ => False)) (F0 m 48 ls [.int v2]) := by
            intro  ls h hl
            rw [e16] at h
            refine lv_iconst (v := 1) hx hb dX2_cared_48 (by decide) ?_
            refine lv_iload_n hx hb dX2_cared_49 rfl (lv_at hl 2 rfl) ?_
            refine g_ishl hx hb dX2_cared_50 ?_
            refine lv_goto (tgt := 55) hx hb dX2_cared_51 (by decide) ?_
            exact hk4 _ _ h (lv_sub hl [0, 1, 2] rfl)
          refine lv_if_ne (tgt := 39) hx hb dX2_cared_25 (by decide) (fun c9 => ?_) (fun c9 => ?_)
          · have h := it_f c9 h
            refine lv_aload_n hx hb dX2_cared_39 rfl (lv_at hl 0 rfl) ?_
            refine lv_iload_n hx hb dX2_cared_40 rfl (lv_at hl 3 rfl) ?_
            obtain ⟨r10, e11, h⟩ := bn1_e h
            refine clX2_carers hf hK hO (metX2_carers l D aC o ad v3 z r10 e11) q1779 hl.1 (Nat.le_of_ble_eq_true rfl) ⟨Nat.le_of_ble_eq_true rfl, Nat.le_of_ble_eq_true rfl⟩ ⟨Nat.le_of_ble_eq_true rfl, Nat.le_of_ble_eq_true rfl⟩ dX2_cared_41 ?_
            refine lv_iconst (v := 1) hx hb dX2_cared_44 (by decide) ?_
            refine lv_icmp_le (tgt := 54) hx hb dX2_cared_45 (by decide) (fun c12 => ?_) (fun c12 => ?_)
            · have h := it_t c12 h
              exact hk7 _ h (lv_sub hl [0, 1, 3] rfl)
            · have h := it_f c12 h
              exact hk8 _ h (lv_sub hl [0, 1, 3] rfl)
          · have h := it_t c9 h
            refine lv_aload_n hx hb dX2_cared_28 rfl (lv_at hl 0 rfl) ?_
            refine lv_iload_n hx hb dX2_cared_29 rfl (lv_at hl 3 rfl) ?_
            obtain ⟨r13, e14, h⟩ := bn1_e h
            refine clX2_carers hf hK hO (metX2_carers l D aC o ad v3 z r13 e14) q1779 hl.1 (Nat.le_of_ble_eq_true rfl) ⟨Nat.le_of_ble_eq_true rfl, Nat.le_of_ble_eq_true rfl⟩ ⟨Nat.le_of_ble_eq_true rfl, Nat.le_of_ble_eq_true rfl⟩ dX2_cared_30 ?_
            refine lv_if_ne (tgt := 54) hx hb dX2_cared_33 (by decide) (fun c15 => ?_) (fun c15 => ?_)
            · have h := it_f c15 h
              exact hk7 _ h (lv_sub hl [0, 1, 3] rfl)
            · have h := it_t c15 h
              refine lv_goto (tgt := 48) hx hb dX2_cared_36 (by decide) ?_
              exact hk8 _ h (lv_sub hl [0, 1, 3] rfl)
    exact key19 FU _ _ _ h (lv_sub hl [2, 3, 1, 0] rfl)
  · have h := it_t c1 h
    refine lv_iconst (v := (-1)) hx hb dX2_cared_9 (by decide) ?_
    exact g_retR hx hb hr hlocks (Option.some.inj h) dX2_cared_10
theorem clX2_cared {p : Program} {l : Launch} {e : Env} {R : Room} {s : State} {m : MethodId} {args : Array Value} {below : List Frame} {meth : Method} {c : Code} {H : Heap} {locs : List Loc} {cells slots : Nat} {Q : State → Prop} {cc : ByteArray} {pc nL idx fr lo : Nat} {ls : Array Slot} {rest : List Value} {own : String} {D : va_G} {aC : Nat → ClassId} {o : Nat} {ad : Nat → Nat} {z : GS} {x1 : Int32} {r : Int32} (hf : CallFix p m c cc nL s args lw_all own) (hK : va_K D vwCl (tysG aC) s) (hO : OM D aC o ad z H) (hM : Met l yX2_cared (ws_ yX2_cared cX2_cared 4 (some .int)) ({ frames := fr, cells := 0, slots := 0, locals := lo }) (va_Pc [.ref o, .int x1] (PM D aC o ad z)) (QR (some (.int r))) 0 0 (fun _ => False)) (hq : Cond.methodLink own idx yX2_cared ∈ lw_all) (hs : ls.size = nL) (hr : (rest.map fun v => v.category).sum ≤ 8) (hR : fr + 1 ≤ R.frames ∧ 8 + (4 + 11) + lo ≤ R.locals) (hcs : cells + 0 ≤ R.cells ∧ slots + 0 ≤ R.slots) (hd : decode cc pc = .ok (.invokevirtual idx, 3)) (kk : W p l e R s m args below meth c H locs cells slots Q (F0 m (pc + 3) ls (.int r :: rest))) : W p l e R s m args below meth c H locs cells slots Q (F0 m pc ls (.int x1 :: .ref o :: rest)) :=
  g_callR (W.runV (As := [.int x1]) (rest := rest) hf hM (cwV 1 hf.2.2.2.2 (lw_V hq q1834 q1835 q92 q1836) rfl rfl rfl (by decide +kernel) hR) ⟨fun a U g mk q => ⟨q.1, q.2.1, va_K.moved (u := U) (U := U.calling g mk a) (Vm.Alike.refl U.vm) q.2.2⟩, OA.recv hK hO rfl, fun U hU hW => ⟨rfl, by rw [hU]; exact hO, va_K.moved hW.alike hK⟩⟩ rfl rfl hs rfl (lv_room hr) hd hcs) kk
theorem metX2_begin (l : Launch) (D : va_G) (aC : Nat → ClassId) (o : Nat) (ad : Nat → Nat) (A : Nat → Prop) (hD : OD A 44 kdM o ad)  (z : GS)  (zq : GS) (h : FX2_begin z = some zq) : Met l yX2_begin (ws_ yX2_begin cX2_begin 1 none) ({ frames := 0, cells := 0, slots := 0, locals := 0 }) (va_Pc [.ref o] (PM D aC o ad z)) (QG none (OM D aC o ad zq) A) 0 0 A := by
  refine g_ofW (cc := cX2_begin) (maxL := 1) (ret := none) (own := RX2) (by decide) rfl rfl [.ref o] (PM D aC o ad z) (Nat.le_of_ble_eq_true rfl) ?_
  intro p e s m below meth c ls hx hb hr hml hts hown hlocks hnm hPre hl
  obtain ⟨hO, hK⟩ := hPre
  have hf : CallFix p m c cX2_begin 1 s _ lw_all RX2 := ⟨hx, hb, hml, hown, hts⟩
  have hl : lv_has ls 1 [(0, .ref o)] := hl
  refine g_open (A := A) (OM D aC o ad z) hO (fun H locs hO hS => ?_)
  unfold FX2_begin at h
  refine lv_aload_n hx hb dX2_begin_0 rfl (lv_at hl 0 rfl) ?_
  refine lv_ldcw (v := 2147483647) hx hb hown (hts _ q1845) dX2_begin_1 ?_
  refine X2_putF hx hb hts hown hK hO hD hS 25 (by decide) rfl (hts _ q1562) rfl (ty := .int) rfl rfl rfl dX2_begin_4 (fun H locs z1 ez1 hO hS => ?_)
  have h := pin_to ez1 h
  refine lv_aload_n hx hb dX2_begin_7 rfl (lv_at hl 0 rfl) ?_
  refine lv_iconst (v := (-1)) hx hb dX2_begin_8 (by decide) ?_
  refine X2_putF hx hb hts hown hK hO hD hS 26 (by decide) rfl (hts _ q1563) rfl (ty := .int) rfl rfl rfl dX2_begin_9 (fun H locs z2 ez2 hO hS => ?_)
  have h := pin_to ez2 h
  cases Option.some.inj h
  exact g_retGv hx hb hr hlocks hO hS dX2_begin_12
theorem clX2_begin {p : Program} {l : Launch} {e : Env} {R : Room} {s : State} {m : MethodId} {args : Array Value} {below : List Frame} {meth : Method} {c : Code} {H : Heap} {locs : List Loc} {cells slots : Nat} {Q : State → Prop} {cc : ByteArray} {pc nL idx fr lo : Nat} {ls : Array Slot} {rest : List Value} {own : String} {D : va_G} {aC : Nat → ClassId} {o : Nat} {ad : Nat → Nat} {z : GS} {zq : GS} {A : Nat → Prop}   (hf : CallFix p m c cc nL s args lw_all own) (hK : va_K D vwCl (tysG aC) s) (hO : OM D aC o ad z H) (hS : va_S A s.heap H locs) (hM : Met l yX2_begin (ws_ yX2_begin cX2_begin 1 none) ({ frames := fr, cells := 0, slots := 0, locals := lo }) (va_Pc [.ref o] (PM D aC o ad z)) (QG none (OM D aC o ad zq) A) 0 0 A) (hq : Cond.methodLink own idx yX2_begin ∈ lw_all) (hs : ls.size = nL) (hr : (rest.map fun v => v.category).sum ≤ 8) (hR : fr + 1 ≤ R.frames ∧ 8 + (1 + 11) + lo ≤ R.locals) (hcs : cells + 0 ≤ R.cells ∧ slots + 0 ≤ R.slots) (hd : decode cc pc = .ok (.invokevirtual idx, 3)) (kk : ∀ (H1 : Heap) (locs1 : List Loc), OM D aC o ad zq H1 → va_S A s.heap H1 locs1 → W p l e R s m args below meth c H1 locs1 cells slots Q (F0 m (pc + 3) ls (rest))) : W p l e R s m args below meth c H locs cells slots Q (F0 m pc ls (.ref o :: rest)) :=
  g_callG (W.runV (As := []) (rest := rest) hf hM (cwV 0 hf.2.2.2.2 (lw_V hq q1843 qs75 q92 q1844) rfl rfl rfl (by decide +kernel) hR) ⟨fun a U g mk q => ⟨q.1, q.2.1, va_K.moved (u := U) (U := U.calling g mk a) (Vm.Alike.refl U.vm) q.2.2⟩, OA.recv hK hO rfl, fun U hU hW => ⟨rfl, by rw [hU]; exact hO, va_K.moved hW.alike hK⟩⟩ rfl rfl hs rfl (lv_room hr) hd hcs) hS (fun H1 locs1 hP hS _ _ => kk H1 locs1 hP hS)
theorem metX2_take (l : Launch) (D : va_G) (aC : Nat → ClassId) (o : Nat) (ad : Nat → Nat) (A : Nat → Prop) (hD : OD A 44 kdM o ad) (x1 : Int32) (x2 : Int32) (z : GS)  (zq : GS) (h : FX2_take x1 x2 z = some zq) : Met l yX2_take (ws_ yX2_take cX2_take 4 none) ({ frames := 0, cells := 0, slots := 0, locals := 0 }) (va_Pc [.ref o, .int x1, .int x2] (PM D aC o ad z)) (QG none (OM D aC o ad zq) A) 0 0 A := by
  refine g_ofW (cc := cX2_take) (maxL := 4) (ret := none) (own := RX2) (by decide) rfl rfl [.ref o, .int x1, .int x2] (PM D aC o ad z) (Nat.le_of_ble_eq_true rfl) ?_
  intro p e s m below meth c ls hx hb hr hml hts hown hlocks hnm hPre hl
  obtain ⟨hO, hK⟩ := hPre
  have hf : CallFix p m c cX2_take 4 s _ lw_all RX2 := ⟨hx, hb, hml, hown, hts⟩
  have hl : lv_has ls 4 [(0, .ref o), (1, .int x1), (2, .int x2)] := hl
  refine g_open (A := A) (OM D aC o ad z) hO (fun H locs hO hS => ?_)
  unfold FX2_take at h
  refine lv_iload_n hx hb dX2_take_0 rfl (lv_at hl 1 rfl) ?_
  refine lv_aload_n hx hb dX2_take_1 rfl (lv_at hl 0 rfl) ?_
  refine X2_getF hx hb hts hown hK hO 25 (by decide) rfl (hts _ q1562) dX2_take_2 ?_
  obtain ⟨k1, e13, h⟩ := pin_nm h
  have hk1 : ∀  (ls : Array Slot), k1  = some zq → lv_has ls 4 [(0, .ref o), (1, .int x1), (2, .int x2)] → W p l e ({ frames := 0, cells := 0, slots := 0, locals := 0 }) s m ([.ref o, .int x1, .int x2] : List Value).toArray below meth c H locs 0 0 (MQ below (QG none (OM D aC o ad zq) A) ([.ref o, .int x1, .int x2] : List Value).toArray s 0 0 A) (F0 m 24 ls []) := by
    intro  ls h hl
    rw [e13] at h
    refine lv_aload_n hx hb dX2_take_24 rfl (lv_at hl 0 rfl) ?_
    refine lv_iload_n hx hb dX2_take_25 rfl (lv_at hl 1 rfl) ?_
    refine X2_putF hx hb hts hown hK hO hD hS 25 (by decide) rfl (hts _ q1562) rfl (ty := .int) rfl rfl rfl dX2_take_26 (fun H locs z2 ez2 hO hS => ?_)
    have h := pin_to ez2 h
    refine lv_aload_n hx hb dX2_take_29 rfl (lv_at hl 0 rfl) ?_
    refine lv_iload_n hx hb dX2_take_30 rfl (lv_at hl 2 rfl) ?_
    refine X2_putF hx hb hts hown hK hO hD hS 26 (by decide) rfl (hts _ q1563) rfl (ty := .int) rfl rfl rfl dX2_take_31 (fun H locs z3 ez3 hO hS => ?_)
    have h := pin_to ez3 h
    refine lv_iconst (v := 0) hx hb dX2_take_34 (by decide) ?_
    refine lv_istore_n (lv' := [(3, .int 0), (0, .ref o), (1, .int x1), (2, .int x2)]) hx hb dX2_take_35 rfl hl (by decide) rfl (fun ls hl => ?_)
    have key9 : ∀ (f : Nat) (v3 : Int32) (z : GS) (H : Heap) (locs : List Loc) (ls : Array Slot), FX2_take_L36 f v3 z = some zq → OM D aC o ad z H → va_S A s.heap H locs → lv_has ls 4 [(0, .ref o), (3, .int v3)] → W p l e ({ frames := 0, cells := 0, slots := 0, locals := 0 }) s m ([.ref o, .int x1, .int x2] : List Value).toArray below meth c H locs 0 0 (MQ below (QG none (OM D aC o ad zq) A) ([.ref o, .int x1, .int x2] : List Value).toArray s 0 0 A) (F0 m 36 ls []) := by
      intro f
      induction f with
      | zero =>
        intro v3 z H locs ls h
        rw [FX2_take_L36] at h
        cases h
      | succ f ih4 =>
        intro v3 z H locs ls h hO hS hl
        rw [FX2_take_L36] at h
        refine lv_iload_n hx hb dX2_take_36 rfl (lv_at hl 1 rfl) ?_
        refine lv_aload_n hx hb dX2_take_37 rfl (lv_at hl 0 rfl) ?_
        refine X2_getF hx hb hts hown hK hO 2 (by decide) rfl (hts _ q1539) dX2_take_38 ?_
        refine lv_icmp_ge (tgt := 62) hx hb dX2_take_41 (by decide) (fun c5 => ?_) (fun c5 => ?_)
        · have h := it_t c5 h
          cases Option.some.inj h
          exact g_retGv hx hb hr hlocks hO hS dX2_take_62
        · have h := it_f c5 h
          refine lv_aload_n hx hb dX2_take_44 rfl (lv_at hl 0 rfl) ?_
          refine X2_getA hx hb hts hown hK hO 24 (by decide) rfl (hts _ q1561) dX2_take_45 ?_
          refine lv_iload_n hx hb dX2_take_48 rfl (lv_at hl 1 rfl) ?_
          refine lv_aload_n hx hb dX2_take_49 rfl (lv_at hl 0 rfl) ?_
          refine X2_getA hx hb hts hown hK hO 23 (by decide) rfl (hts _ q1560) dX2_take_50 ?_
          refine lv_iload_n hx hb dX2_take_53 rfl (lv_at hl 1 rfl) ?_
          obtain ⟨g6, h⟩ := grd h
          refine X2_iaload hx hb hK hO 23 (by decide) rfl rfl g6 dX2_take_54 ?_
          obtain ⟨g7, h⟩ := grd h
          refine X2_iastore hx hb hK hO hD hS 24 (by decide) rfl rfl g7 dX2_take_55 (fun H locs z8 ez8 hO hS => ?_)
          have h := pin_to ez8 h
          refine lv_iinc (v := (v3 + 1)) (lv' := [(3, .int (v3 + 1)), (0, .ref o)]) hx hb dX2_take_56 hl (k := 1) rfl rfl (by decide) rfl (fun ls hl => ?_)
          refine lv_goto (tgt := 36) hx hb dX2_take_59 (by decide) ?_
          exact ih4 _ _ _ _ _ h hO hS (lv_sub hl [1, 0] rfl)
    exact key9 FU _ _ _ _ _ h hO hS (lv_sub hl [1, 0] rfl)
  refine lv_icmp_lt (tgt := 24) hx hb dX2_take_5 (by decide) (fun c10 => ?_) (fun c10 => ?_)
  · have h := it_t c10 h
    exact hk1 _ h (lv_sub hl [0, 1, 2] rfl)
  · have h := it_f c10 h
    refine lv_iload_n hx hb dX2_take_8 rfl (lv_at hl 1 rfl) ?_
    refine lv_aload_n hx hb dX2_take_9 rfl (lv_at hl 0 rfl) ?_
    refine X2_getF hx hb hts hown hK hO 25 (by decide) rfl (hts _ q1562) dX2_take_10 ?_
    refine lv_icmp_ne (tgt := 62) hx hb dX2_take_13 (by decide) (fun c11 => ?_) (fun c11 => ?_)
    · have h := it_f c11 h
      cases Option.some.inj h
      exact g_retGv hx hb hr hlocks hO hS dX2_take_62
    · have h := it_t c11 h
      refine lv_iload_n hx hb dX2_take_16 rfl (lv_at hl 2 rfl) ?_
      refine lv_aload_n hx hb dX2_take_17 rfl (lv_at hl 0 rfl) ?_
      refine X2_getF hx hb hts hown hK hO 26 (by decide) rfl (hts _ q1563) dX2_take_18 ?_
      refine lv_icmp_le (tgt := 62) hx hb dX2_take_21 (by decide) (fun c12 => ?_) (fun c12 => ?_)
      · have h := it_t c12 h
        cases Option.some.inj h
        exact g_retGv hx hb hr hlocks hO hS dX2_take_62
      · have h := it_f c12 h
        exact hk1 _ h (lv_sub hl [0, 1, 2] rfl)
theorem clX2_take {p : Program} {l : Launch} {e : Env} {R : Room} {s : State} {m : MethodId} {args : Array Value} {below : List Frame} {meth : Method} {c : Code} {H : Heap} {locs : List Loc} {cells slots : Nat} {Q : State → Prop} {cc : ByteArray} {pc nL idx fr lo : Nat} {ls : Array Slot} {rest : List Value} {own : String} {D : va_G} {aC : Nat → ClassId} {o : Nat} {ad : Nat → Nat} {z : GS} {zq : GS} {A : Nat → Prop} {x1 : Int32} {x2 : Int32}  (hf : CallFix p m c cc nL s args lw_all own) (hK : va_K D vwCl (tysG aC) s) (hO : OM D aC o ad z H) (hS : va_S A s.heap H locs) (hM : Met l yX2_take (ws_ yX2_take cX2_take 4 none) ({ frames := fr, cells := 0, slots := 0, locals := lo }) (va_Pc [.ref o, .int x1, .int x2] (PM D aC o ad z)) (QG none (OM D aC o ad zq) A) 0 0 A) (hq : Cond.methodLink own idx yX2_take ∈ lw_all) (hs : ls.size = nL) (hr : (rest.map fun v => v.category).sum ≤ 8) (hR : fr + 1 ≤ R.frames ∧ 8 + (4 + 11) + lo ≤ R.locals) (hcs : cells + 0 ≤ R.cells ∧ slots + 0 ≤ R.slots) (hd : decode cc pc = .ok (.invokevirtual idx, 3)) (kk : ∀ (H1 : Heap) (locs1 : List Loc), OM D aC o ad zq H1 → va_S A s.heap H1 locs1 → W p l e R s m args below meth c H1 locs1 cells slots Q (F0 m (pc + 3) ls (rest))) : W p l e R s m args below meth c H locs cells slots Q (F0 m pc ls (.int x2 :: .int x1 :: .ref o :: rest)) :=
  g_callG (W.runV (As := [.int x1, .int x2]) (rest := rest) hf hM (cwV 2 hf.2.2.2.2 (lw_V hq q1852 qs77 q92 q1853) rfl rfl rfl (by decide +kernel) hR) ⟨fun a U g mk q => ⟨q.1, q.2.1, va_K.moved (u := U) (U := U.calling g mk a) (Vm.Alike.refl U.vm) q.2.2⟩, OA.recv hK hO rfl, fun U hU hW => ⟨rfl, by rw [hU]; exact hO, va_K.moved hW.alike hK⟩⟩ rfl rfl hs rfl (lv_room hr) hd hcs) hS (fun H1 locs1 hP hS _ _ => kk H1 locs1 hP hS)
theorem metX2_isRing (l : Launch) (D : va_G) (aC : Nat → ClassId) (o : Nat) (ad : Nat → Nat)  (z : GS) (r : Int32) (h : FX2_isRing z = some r) : Met l yX2_isRing (ws_ yX2_isRing cX2_isRing 3 (some .boolean)) ({ frames := 0, cells := 0, slots := 0, locals := 0 }) (va_Pc [.ref o] (PM D aC o ad z)) (QR (some (.int r))) 0 0 (fun _ => False) := by
  refine g_ofW (cc := cX2_isRing) (maxL := 3) (ret := (some .boolean)) (own := RX2) (by decide) rfl rfl [.ref o] (PM D aC o ad z) (Nat.le_of_ble_eq_true rfl) ?_
  intro p e s m below meth c ls hx hb hr hml hts hown hlocks hnm hPre hl
  obtain ⟨hO, hK⟩ := hPre
  have hf : CallFix p m c cX2_isRing 3 s _ lw_all RX2 := ⟨hx, hb, hml, hown, hts⟩
  have hl : lv_has ls 3 [(0, .ref o)] := hl
  unfold FX2_isRing at h
  refine lv_iconst (v := 0) hx hb dX2_isRing_0 (by decide) ?_
  refine lv_istore_n (lv' := [(1, .int 0), (0, .ref o)]) hx hb dX2_isRing_1 rfl hl (by decide) rfl (fun ls hl => ?_)
  refine lv_iconst (v := 1) hx hb dX2_isRing_2 (by decide) ?_
  refine lv_istore_n (lv' := [(2, .int 1), (1, .int 0), (0, .ref o)]) hx hb dX2_isRing_3 rfl hl (by decide) rfl (fun ls hl => ?_)
  obtain ⟨k1, e11, h⟩ := pin_nm h
  have hk1 : ∀ (v2 : Int32) (ls : Array Slot), k1 v2 = some r → lv_has ls 3 [(0, .ref o), (1, .int v2)] → W p l e ({ frames := 0, cells := 0, slots := 0, locals := 0 }) s m ([.ref o] : List Value).toArray below meth c s.heap [] 0 0 (MQ below (QR (some (.int r))) ([.ref o] : List Value).toArray s 0 0 (fun _ => False)) (F0 m 31 ls []) := by
    intro v2 ls h hl
    rw [e11] at h
    refine lv_aload_n hx hb dX2_isRing_31 rfl (lv_at hl 0 rfl) ?_
    refine X2_getA hx hb hts hown hK hO 23 (by decide) rfl (hts _ q1560) dX2_isRing_32 ?_
    refine lv_iload_n hx hb dX2_isRing_35 rfl (lv_at hl 1 rfl) ?_
    obtain ⟨g3, h⟩ := grd h
    refine X2_iaload hx hb hK hO 23 (by decide) rfl rfl g3 dX2_isRing_36 ?_
    refine lv_if_ne (tgt := 44) hx hb dX2_isRing_37 (by decide) (fun c4 => ?_) (fun c4 => ?_)
    · have h := it_f c4 h
      refine lv_iconst (v := 0) hx hb dX2_isRing_44 (by decide) ?_
      exact g_retRz hx hb hr hlocks (Or.inl rfl) (Option.some.inj h) dX2_isRing_45
    · have h := it_t c4 h
      refine lv_iconst (v := 1) hx hb dX2_isRing_40 (by decide) ?_
      refine lv_goto (tgt := 45) hx hb dX2_isRing_41 (by decide) ?_
      exact g_retRz hx hb hr hlocks (Or.inr rfl) (Option.some.inj h) dX2_isRing_45
  have key10 : ∀ (f : Nat) (v1 : Int32) (v2 : Int32) (ls : Array Slot), FX2_isRing_L4 k1 z f v1 v2 = some r → lv_has ls 3 [(0, .ref o), (1, .int v1), (2, .int v2)] → W p l e ({ frames := 0, cells := 0, slots := 0, locals := 0 }) s m ([.ref o] : List Value).toArray below meth c s.heap [] 0 0 (MQ below (QR (some (.int r))) ([.ref o] : List Value).toArray s 0 0 (fun _ => False)) (F0 m 4 ls []) := by
    intro f
    induction f with
    | zero =>
      intro v1 v2 ls h
      rw [FX2_isRing_L4] at h
      cases h
    | succ f ih5 =>
      intro v1 v2 ls h hl
      rw [FX2_isRing_L4] at h
      refine lv_iload_n hx hb dX2_isRing_4 rfl (lv_at hl 2 rfl) ?_
      refine lv_aload_n hx hb dX2_isRing_5 rfl (lv_at hl 0 rfl) ?_
      refine X2_getF hx hb hts hown hK hO 2 (by decide) rfl (hts _ q1539) dX2_isRing_6 ?_
      refine lv_icmp_ge (tgt := 31) hx hb dX2_isRing_9 (by decide) (fun c6 => ?_) (fun c6 => ?_)
      · have h := it_t c6 h
        exact hk1 _ _ h (lv_sub hl [0, 1] rfl)
      · have h := it_f c6 h
        refine lv_aload_n hx hb dX2_isRing_12 rfl (lv_at hl 0 rfl) ?_
        refine X2_getA hx hb hts hown hK hO 23 (by decide) rfl (hts _ q1560) dX2_isRing_13 ?_
        refine lv_iload_n hx hb dX2_isRing_16 rfl (lv_at hl 1 rfl) ?_
        obtain ⟨g7, h⟩ := grd h
        refine X2_iaload hx hb hK hO 23 (by decide) rfl rfl g7 dX2_isRing_17 ?_
        refine lv_topi (fun y8 ey8 => ?_)
        have h := pin_to ey8 h
        refine lv_istore_n (lv' := [(1, .int y8), (0, .ref o), (2, .int v2)]) hx hb dX2_isRing_18 rfl hl (by decide) rfl (fun ls hl => ?_)
        refine lv_iload_n hx hb dX2_isRing_19 rfl (lv_at hl 0 rfl) ?_
        refine lv_if_ne (tgt := 25) hx hb dX2_isRing_20 (by decide) (fun c9 => ?_) (fun c9 => ?_)
        · have h := it_f c9 h
          refine lv_iinc (v := (v2 + 1)) (lv' := [(2, .int (v2 + 1)), (1, .int y8), (0, .ref o)]) hx hb dX2_isRing_25 hl (k := 2) rfl rfl (by decide) rfl (fun ls hl => ?_)
          refine lv_goto (tgt := 4) hx hb dX2_isRing_28 (by decide) ?_
          exact ih5 _ _ _ h (lv_sub hl [2, 1, 0] rfl)
        · have h := it_t c9 h
          refine lv_iconst (v := 0) hx hb dX2_isRing_23 (by decide) ?_
          exact g_retRz hx hb hr hlocks (Or.inl rfl) (Option.some.inj h) dX2_isRing_24
  exact key10 FU _ _ _ h (lv_sub hl [2, 1, 0] rfl)
theorem clX2_isRing {p : Program} {l : Launch} {e : Env} {R : Room} {s : State} {m : MethodId} {args : Array Value} {below : List Frame} {meth : Method} {c : Code} {H : Heap} {locs : List Loc} {cells slots : Nat} {Q : State → Prop} {cc : ByteArray} {pc nL idx fr lo : Nat} {ls : Array Slot} {rest : List Value} {own : String} {D : va_G} {aC : Nat → ClassId} {o : Nat} {ad : Nat → Nat} {z : GS}  {r : Int32} (hf : CallFix p m c cc nL s args lw_all own) (hK : va_K D vwCl (tysG aC) s) (hO : OM D aC o ad z H) (hM : Met l yX2_isRing (ws_ yX2_isRing cX2_isRing 3 (some .boolean)) ({ frames := fr, cells := 0, slots := 0, locals := lo }) (va_Pc [.ref o] (PM D aC o ad z)) (QR (some (.int r))) 0 0 (fun _ => False)) (hq : Cond.methodLink own idx yX2_isRing ∈ lw_all) (hs : ls.size = nL) (hr : (rest.map fun v => v.category).sum ≤ 8) (hR : fr + 1 ≤ R.frames ∧ 8 + (3 + 11) + lo ≤ R.locals) (hcs : cells + 0 ≤ R.cells ∧ slots + 0 ≤ R.slots) (hd : decode cc pc = .ok (.invokevirtual idx, 3)) (kk : W p l e R s m args below meth c H locs cells slots Q (F0 m (pc + 3) ls (.int r :: rest))) : W p l e R s m args below meth c H locs cells slots Q (F0 m pc ls (.ref o :: rest)) :=
  g_callR (W.runV (As := []) (rest := rest) hf hM (cwV 0 hf.2.2.2.2 (lw_V hq q1856 qs78 q92 q1857) rfl rfl rfl (by decide +kernel) hR) ⟨fun a U g mk q => ⟨q.1, q.2.1, va_K.moved (u := U) (U := U.calling g mk a) (Vm.Alike.refl U.vm) q.2.2⟩, OA.recv hK hO rfl, fun U hU hW => ⟨rfl, by rw [hU]; exact hO, va_K.moved hW.alike hK⟩⟩ rfl rfl hs rfl (lv_room hr) hd hcs) kk
theorem metX2_tryRound (l : Launch) (D : va_G) (aC : Nat → ClassId) (o : Nat) (ad : Nat → Nat) (A : Nat → Prop) (hD : OD A 44 kdM o ad)  (z : GS)  (zq : GS) (h : FX2_tryRound z = some zq) : Met l yX2_tryRound (ws_ yX2_tryRound cX2_tryRound 3 none) ({ frames := 59, cells := 0, slots := 0, locals := 1345 }) (va_Pc [.ref o] (PM D aC o ad z)) (QG none (OM D aC o ad zq) A) 0 0 A := by
  refine g_ofW (cc := cX2_tryRound) (maxL := 3) (ret := none) (own := RX2) (by decide) rfl rfl [.ref o] (PM D aC o ad z) (Nat.le_of_ble_eq_true rfl) ?_
  intro p e s m below meth c ls hx hb hr hml hts hown hlocks hnm hPre hl
  obtain ⟨hO, hK⟩ := hPre
  have hf : CallFix p m c cX2_tryRound 3 s _ lw_all RX2 := ⟨hx, hb, hml, hown, hts⟩
  have hl : lv_has ls 3 [(0, .ref o)] := hl
  refine g_open (A := A) (OM D aC o ad z) hO (fun H locs hO hS => ?_)
  unfold FX2_tryRound at h
  refine lv_aload_n hx hb dX2_tryRound_0 rfl (lv_at hl 0 rfl) ?_
  refine lv_iconst (v := 0) hx hb dX2_tryRound_1 (by decide) ?_
  obtain ⟨z1, e2, h⟩ := bn1_e h
  refine clX2_keepAll hf hK hO hS (metX2_keepAll l D aC o ad A hD 0 z z1 e2) q1796 hl.1 (Nat.le_of_ble_eq_true rfl) ⟨Nat.le_of_ble_eq_true rfl, Nat.le_of_ble_eq_true rfl⟩ ⟨Nat.le_of_ble_eq_true rfl, Nat.le_of_ble_eq_true rfl⟩ dX2_tryRound_2 (fun H locs hO hS => ?_)
  refine lv_iconst (v := 0) hx hb dX2_tryRound_5 (by decide) ?_
  refine lv_istore_n (lv' := [(1, .int 0), (0, .ref o)]) hx hb dX2_tryRound_6 rfl hl (by decide) rfl (fun ls hl => ?_)
  obtain ⟨k3, e22, h⟩ := pin_nm h
  have hk3 : ∀  (z4 : GS) (H : Heap) (locs : List Loc) (ls : Array Slot), k3  z4 = some zq → OM D aC o ad z4 H → va_S A s.heap H locs → lv_has ls 3 [(0, .ref o)] → W p l e ({ frames := 59, cells := 0, slots := 0, locals := 1345 }) s m ([.ref o] : List Value).toArray below meth c H locs 0 0 (MQ below (QG none (OM D aC o ad zq) A) ([.ref o] : List Value).toArray s 0 0 A) (F0 m 33 ls []) := by
    intro  z4 H locs ls h hO hS hl
    rw [e22] at h
    refine lv_aload_n hx hb dX2_tryRound_33 rfl (lv_at hl 0 rfl) ?_
    refine lv_aload_n hx hb dX2_tryRound_34 rfl (lv_at hl 0 rfl) ?_
    refine X2_getF hx hb hts hown hK hO 27 (by decide) rfl (hts _ q1564) dX2_tryRound_35 ?_
    obtain ⟨z5, e6, h⟩ := bn1_e h
    refine clX2_goDays hf hK hO hS (metX2_goDays l D aC o ad A hD (gF z4 27) z4 z5 e6) q1800 hl.1 (Nat.le_of_ble_eq_true rfl) ⟨Nat.le_of_ble_eq_true rfl, Nat.le_of_ble_eq_true rfl⟩ ⟨Nat.le_of_ble_eq_true rfl, Nat.le_of_ble_eq_true rfl⟩ dX2_tryRound_38 (fun H locs hO hS => ?_)
    refine lv_aload_n hx hb dX2_tryRound_41 rfl (lv_at hl 0 rfl) ?_
    obtain ⟨r7, e8, h⟩ := bn1_e h
    refine clX2_lacks hf hK hO (metX2_lacks l D aC o ad z5 r7 e8) q1820 hl.1 (Nat.le_of_ble_eq_true rfl) ⟨Nat.le_of_ble_eq_true rfl, Nat.le_of_ble_eq_true rfl⟩ ⟨Nat.le_of_ble_eq_true rfl, Nat.le_of_ble_eq_true rfl⟩ dX2_tryRound_42 ?_
    refine clJ13_bitCount hf (metJ13_bitCount l r7 _ rfl) q1862 hl.1 (Nat.le_of_ble_eq_true rfl) ⟨Nat.le_of_ble_eq_true rfl, Nat.le_of_ble_eq_true rfl⟩ ⟨Nat.le_of_ble_eq_true rfl, Nat.le_of_ble_eq_true rfl⟩ dX2_tryRound_45 ?_
    refine lv_topi (fun y9 ey9 => ?_)
    have h := pin_to ey9 h
    refine lv_istore_n (lv' := [(1, .int y9), (0, .ref o)]) hx hb dX2_tryRound_48 rfl hl (by decide) rfl (fun ls hl => ?_)
    refine lv_aload_n hx hb dX2_tryRound_49 rfl (lv_at hl 1 rfl) ?_
    obtain ⟨r10, e11, h⟩ := bn1_e h
    refine clX2_stores hf hK hO (metX2_stores l D aC o ad z5 r10 e11) q1808 hl.1 (Nat.le_of_ble_eq_true rfl) ⟨Nat.le_of_ble_eq_true rfl, Nat.le_of_ble_eq_true rfl⟩ ⟨Nat.le_of_ble_eq_true rfl, Nat.le_of_ble_eq_true rfl⟩ dX2_tryRound_50 ?_
    refine lv_istore_n (lv' := [(2, .int r10), (1, .int y9), (0, .ref o)]) hx hb dX2_tryRound_53 rfl hl (by decide) rfl (fun ls hl => ?_)
    refine lv_aload_n hx hb dX2_tryRound_54 rfl (lv_at hl 2 rfl) ?_
    refine lv_iconst (v := 0) hx hb dX2_tryRound_55 (by decide) ?_
    obtain ⟨z12, e13, h⟩ := bn1_e h
    refine clX2_layAll hf hK hO hS (metX2_layAll l D aC o ad A hD 0 z5 z12 e13) q1812 hl.1 (Nat.le_of_ble_eq_true rfl) ⟨Nat.le_of_ble_eq_true rfl, Nat.le_of_ble_eq_true rfl⟩ ⟨Nat.le_of_ble_eq_true rfl, Nat.le_of_ble_eq_true rfl⟩ dX2_tryRound_56 (fun H locs hO hS => ?_)
    refine lv_aload_n hx hb dX2_tryRound_59 rfl (lv_at hl 2 rfl) ?_
    refine lv_iload_n hx hb dX2_tryRound_60 rfl (lv_at hl 1 rfl) ?_
    refine lv_iload_n hx hb dX2_tryRound_61 rfl (lv_at hl 0 rfl) ?_
    obtain ⟨z14, e15, h⟩ := bn1_e h
    refine clX2_take hf hK hO hS (metX2_take l D aC o ad A hD y9 r10 z12 z14 e15) q1850 hl.1 (Nat.le_of_ble_eq_true rfl) ⟨Nat.le_of_ble_eq_true rfl, Nat.le_of_ble_eq_true rfl⟩ ⟨Nat.le_of_ble_eq_true rfl, Nat.le_of_ble_eq_true rfl⟩ dX2_tryRound_62 (fun H locs hO hS => ?_)
    cases Option.some.inj h
    exact g_retGv hx hb hr hlocks hO hS dX2_tryRound_65
  have key21 : ∀ (f : Nat) (v1 : Int32) (z : GS) (H : Heap) (locs : List Loc) (ls : Array Slot), FX2_tryRound_L7 k3 f v1 z = some zq → OM D aC o ad z H → va_S A s.heap H locs → lv_has ls 3 [(0, .ref o), (1, .int v1)] → W p l e ({ frames := 59, cells := 0, slots := 0, locals := 1345 }) s m ([.ref o] : List Value).toArray below meth c H locs 0 0 (MQ below (QG none (OM D aC o ad zq) A) ([.ref o] : List Value).toArray s 0 0 A) (F0 m 7 ls []) := by
    intro f
    induction f with
    | zero =>
      intro v1 z H locs ls h
      rw [FX2_tryRound_L7] at h
      cases h
    | succ f ih16 =>
      intro v1 z H locs ls h hO hS hl
      rw [FX2_tryRound_L7] at h
      refine lv_iload_n hx hb dX2_tryRound_7 rfl (lv_at hl 1 rfl) ?_
      refine lv_aload_n hx hb dX2_tryRound_8 rfl (lv_at hl 0 rfl) ?_
      refine X2_getF hx hb hts hown hK hO 2 (by decide) rfl (hts _ q1539) dX2_tryRound_9 ?_
      refine lv_icmp_ge (tgt := 33) hx hb dX2_tryRound_12 (by decide) (fun c17 => ?_) (fun c17 => ?_)
      · have h := it_t c17 h
        exact hk3 _ _ _ _ h hO hS (lv_sub hl [0] rfl)
      · have h := it_f c17 h
        refine lv_aload_n hx hb dX2_tryRound_15 rfl (lv_at hl 0 rfl) ?_
        refine lv_iload_n hx hb dX2_tryRound_16 rfl (lv_at hl 1 rfl) ?_
        refine lv_iconst (v := 4) hx hb dX2_tryRound_17 (by decide) ?_
        refine lv_aload_n hx hb dX2_tryRound_18 rfl (lv_at hl 0 rfl) ?_
        refine X2_getA hx hb hts hown hK hO 23 (by decide) rfl (hts _ q1560) dX2_tryRound_19 ?_
        refine lv_iload_n hx hb dX2_tryRound_22 rfl (lv_at hl 1 rfl) ?_
        obtain ⟨g18, h⟩ := grd h
        refine X2_iaload hx hb hK hO 23 (by decide) rfl rfl g18 dX2_tryRound_23 ?_
        obtain ⟨z19, e20, h⟩ := bn1_e h
        refine clX2_change hf hK hO hS (metX2_change l D aC o ad A hD v1 4 (gI z 23 v1) z z19 e20) q1682 hl.1 (Nat.le_of_ble_eq_true rfl) ⟨Nat.le_of_ble_eq_true rfl, Nat.le_of_ble_eq_true rfl⟩ ⟨Nat.le_of_ble_eq_true rfl, Nat.le_of_ble_eq_true rfl⟩ dX2_tryRound_24 (fun H locs hO hS => ?_)
        refine lv_iinc (v := (v1 + 1)) (lv' := [(1, .int (v1 + 1)), (0, .ref o)]) hx hb dX2_tryRound_27 hl (k := 1) rfl rfl (by decide) rfl (fun ls hl => ?_)
        refine lv_goto (tgt := 7) hx hb dX2_tryRound_30 (by decide) ?_
        exact ih16 _ _ _ _ _ h hO hS (lv_sub hl [1, 0] rfl)
  exact key21 FU _ _ _ _ _ h hO hS (lv_sub hl [1, 0] rfl)
theorem clX2_tryRound {p : Program} {l : Launch} {e : Env} {R : Room} {s : State} {m : MethodId} {args : Array Value} {below : List Frame} {meth : Method} {c : Code} {H : Heap} {locs : List Loc} {cells slots : Nat} {Q : State → Prop} {cc : ByteArray} {pc nL idx fr lo : Nat} {ls : Array Slot} {rest : List Value} {own : String} {D : va_G} {aC : Nat → ClassId} {o : Nat} {ad : Nat → Nat} {z : GS} {zq : GS} {A : Nat → Prop}   (hf : CallFix p m c cc nL s args lw_all own) (hK : va_K D vwCl (tysG aC) s) (hO : OM D aC o ad z H) (hS : va_S A s.heap H locs) (hM : Met l yX2_tryRound (ws_ yX2_tryRound cX2_tryRound 3 none) ({ frames := fr, cells := 0, slots := 0, locals := lo }) (va_Pc [.ref o] (PM D aC o ad z)) (QG none (OM D aC o ad zq) A) 0 0 A) (hq : Cond.methodLink own idx yX2_tryRound ∈ lw_all) (hs : ls.size = nL) (hr : (rest.map fun v => v.category).sum ≤ 8) (hR : fr + 1 ≤ R.frames ∧ 8 + (3 + 11) + lo ≤ R.locals) (hcs : cells + 0 ≤ R.cells ∧ slots + 0 ≤ R.slots) (hd : decode cc pc = .ok (.invokevirtual idx, 3)) (kk : ∀ (H1 : Heap) (locs1 : List Loc), OM D aC o ad zq H1 → va_S A s.heap H1 locs1 → W p l e R s m args below meth c H1 locs1 cells slots Q (F0 m (pc + 3) ls (rest))) : W p l e R s m args below meth c H locs cells slots Q (F0 m pc ls (.ref o :: rest)) :=
  g_callG (W.runV (As := []) (rest := rest) hf hM (cwV 0 hf.2.2.2.2 (lw_V hq q1860 qs79 q92 q1861) rfl rfl rfl (by decide +kernel) hR) ⟨fun a U g mk q => ⟨q.1, q.2.1, va_K.moved (u := U) (U := U.calling g mk a) (Vm.Alike.refl U.vm) q.2.2⟩, OA.recv hK hO rfl, fun U hU hW => ⟨rfl, by rw [hU]; exact hO, va_K.moved hW.alike hK⟩⟩ rfl rfl hs rfl (lv_room hr) hd hcs) hS (fun H1 locs1 hP hS _ _ => kk H1 locs1 hP hS)
theorem clX2_care_2 {p : Program} {l : Launch} {e : Env} {R : Room} {s : State} {m : MethodId} {args : Array Value} {below : List Frame} {meth : Method} {c : Code} {H : Heap} {locs : List Loc} {cells slots : Nat} {Q : State → Prop} {cc : ByteArray} {pc nL idx fr lo : Nat} {ls : Array Slot} {rest : List Value} {own : String} {D : va_G} {aC : Nat → ClassId} {o : Nat} {ad : Nat → Nat} {z : GS} {zq : GS} {A : Nat → Prop} {x1 : Int32} {x2 : Int32} {x3 : Int32} {x4 : Int32}  (hf : CallFix p m c cc nL s args lw_all own) (hK : va_K D vwCl (tysG aC) s) (hO : OM D aC o ad z H) (hS : va_S A s.heap H locs) (hM : Met l yX2_care_2 (ws_ yX2_care_2 cX2_care_2 6 none) ({ frames := fr, cells := 0, slots := 0, locals := lo }) (va_Pc [.ref o, .int x1, .int x2, .int x3, .int x4] (PM D aC o ad z)) (QG none (OM D aC o ad zq) A) 0 0 A) (hq : Cond.methodLink own idx yX2_care_2 ∈ lw_all) (hs : ls.size = nL) (hr : (rest.map fun v => v.category).sum ≤ 8) (hR : fr + 1 ≤ R.frames ∧ 8 + (6 + 11) + lo ≤ R.locals) (hcs : cells + 0 ≤ R.cells ∧ slots + 0 ≤ R.slots) (hd : decode cc pc = .ok (.invokevirtual idx, 3)) (kk : ∀ (H1 : Heap) (locs1 : List Loc), OM D aC o ad zq H1 → va_S A s.heap H1 locs1 → W p l e R s m args below meth c H1 locs1 cells slots Q (F0 m (pc + 3) ls (rest))) : W p l e R s m args below meth c H locs cells slots Q (F0 m pc ls (.int x4 :: .int x3 :: .int x2 :: .int x1 :: .ref o :: rest)) :=
  g_callG (W.runV (As := [.int x1, .int x2, .int x3, .int x4]) (rest := rest) hf hM (cwV 4 hf.2.2.2.2 (lw_V hq q1848 qs76 q92 q1849) rfl rfl rfl (by decide +kernel) hR) ⟨fun a U g mk q => ⟨q.1, q.2.1, va_K.moved (u := U) (U := U.calling g mk a) (Vm.Alike.refl U.vm) q.2.2⟩, OA.recv hK hO rfl, fun U hU hW => ⟨rfl, by rw [hU]; exact hO, va_K.moved hW.alike hK⟩⟩ rfl rfl hs rfl (lv_room hr) hd hcs) hS (fun H1 locs1 hP hS _ _ => kk H1 locs1 hP hS)
theorem metX2_care_2b (l : Launch) (D : va_G) (aC : Nat → ClassId) (o : Nat) (ad : Nat → Nat) (A : Nat → Prop) (hD : OD A 44 kdM o ad) (n : Nat) (rec : Int32 → Int32 → Int32 → Int32 → GS → Option GS) (hrec : ∀ (x1 : Int32) (x2 : Int32) (x3 : Int32) (x4 : Int32) (z : GS) (zq : GS), rec x1 x2 x3 x4 z = some zq → Met l yX2_care_2 (ws_ yX2_care_2 cX2_care_2 6 none) ({ frames := 60 * n, cells := 0, slots := 0, locals := 1367 * n }) (va_Pc [.ref o, .int x1, .int x2, .int x3, .int x4] (PM D aC o ad z)) (QG none (OM D aC o ad zq) A) 0 0 A) (x1 : Int32) (x2 : Int32) (x3 : Int32) (x4 : Int32) (z : GS)  (zq : GS) (h : FX2_care_2b rec x1 x2 x3 x4 z = some zq) : Met l yX2_care_2 (ws_ yX2_care_2 cX2_care_2 6 none) ({ frames := 60 * (n + 1), cells := 0, slots := 0, locals := 1367 * (n + 1) }) (va_Pc [.ref o, .int x1, .int x2, .int x3, .int x4] (PM D aC o ad z)) (QG none (OM D aC o ad zq) A) 0 0 A := by
  refine g_ofW (cc := cX2_care_2) (maxL := 6) (ret := none) (own := RX2) (by decide) rfl rfl [.ref o, .int x1, .int x2, .int x3, .int x4] (PM D aC o ad z) (Nat.le_of_ble_eq_true rfl) ?_
  intro p e s m below meth c ls hx hb hr hml hts hown hlocks hnm hPre hl
  obtain ⟨hO, hK⟩ := hPre
  have hf : CallFix p m c cX2_care_2 6 s _ lw_all RX2 := ⟨hx, hb, hml, hown, hts⟩
  have hl : lv_has ls 6 [(0, .ref o), (1, .int x1), (2, .int x2), (3, .int x3), (4, .int x4)] := hl
  refine g_open (A := A) (OM D aC o ad z) hO (fun H locs hO hS => ?_)
  unfold FX2_care_2b at h
  refine lv_iload_n hx hb dX2_care_2_0 rfl (lv_at hl 1 rfl) ?_
  refine lv_aload_n hx hb dX2_care_2_1 rfl (lv_at hl 0 rfl) ?_
  refine X2_getF hx hb hts hown hK hO 2 (by decide) rfl (hts _ q1539) dX2_care_2_2 ?_
  refine lv_icmp_ne (tgt := 34) hx hb dX2_care_2_5 (by decide) (fun c1 => ?_) (fun c1 => ?_)
  · have h := it_f c1 h
    refine lv_iconst (v := 0) hx hb dX2_care_2_34 (by decide) ?_
    refine lv_istore (lv' := [(5, .int 0), (0, .ref o), (1, .int x1), (2, .int x2), (3, .int x3), (4, .int x4)]) hx hb dX2_care_2_35 hl (by decide) rfl (fun ls hl => ?_)
    have key19 : ∀ (f : Nat) (v5 : Int32) (z : GS) (H : Heap) (locs : List Loc) (ls : Array Slot), FX2_care_2_L37 rec x1 x2 x3 x4 f v5 z = some zq → OM D aC o ad z H → va_S A s.heap H locs → lv_has ls 6 [(0, .ref o), (1, .int x1), (2, .int x2), (3, .int x3), (4, .int x4), (5, .int v5)] → W p l e ({ frames := 60 * (n + 1), cells := 0, slots := 0, locals := 1367 * (n + 1) }) s m ([.ref o, .int x1, .int x2, .int x3, .int x4] : List Value).toArray below meth c H locs 0 0 (MQ below (QG none (OM D aC o ad zq) A) ([.ref o, .int x1, .int x2, .int x3, .int x4] : List Value).toArray s 0 0 A) (F0 m 37 ls []) := by
      intro f
      induction f with
      | zero =>
        intro v5 z H locs ls h
        rw [FX2_care_2_L37] at h
        cases h
      | succ f ih2 =>
        intro v5 z H locs ls h hO hS hl
        rw [FX2_care_2_L37] at h
        refine lv_iload hx hb dX2_care_2_37 (lv_at hl 5 rfl) ?_
        refine lv_aload_n hx hb dX2_care_2_39 rfl (lv_at hl 0 rfl) ?_
        refine X2_getF hx hb hts hown hK hO 2 (by decide) rfl (hts _ q1539) dX2_care_2_40 ?_
        refine lv_icmp_ge (tgt := 108) hx hb dX2_care_2_43 (by decide) (fun c3 => ?_) (fun c3 => ?_)
        · have h := it_t c3 h
          cases Option.some.inj h
          exact g_retGv hx hb hr hlocks hO hS dX2_care_2_108
        · have h := it_f c3 h
          refine lv_iload hx hb dX2_care_2_46 (lv_at hl 5 rfl) ?_
          refine lv_iload_n hx hb dX2_care_2_48 rfl (lv_at hl 1 rfl) ?_
          obtain ⟨k4, e18, h⟩ := pin_nm h
          have hk4 : ∀  (z5 : GS) (H : Heap) (locs : List Loc) (ls : Array Slot), k4  z5 = some zq → OM D aC o ad z5 H → va_S A s.heap H locs → lv_has ls 6 [(0, .ref o), (1, .int x1), (2, .int x2), (3, .int x3), (4, .int x4), (5, .int v5)] → W p l e ({ frames := 60 * (n + 1), cells := 0, slots := 0, locals := 1367 * (n + 1) }) s m ([.ref o, .int x1, .int x2, .int x3, .int x4] : List Value).toArray below meth c H locs 0 0 (MQ below (QG none (OM D aC o ad zq) A) ([.ref o, .int x1, .int x2, .int x3, .int x4] : List Value).toArray s 0 0 A) (F0 m 102 ls []) := by
            intro  z5 H locs ls h hO hS hl
            rw [e18] at h
            refine lv_iinc (v := (v5 + 1)) (lv' := [(5, .int (v5 + 1)), (0, .ref o), (1, .int x1), (2, .int x2), (3, .int x3), (4, .int x4)]) hx hb dX2_care_2_102 hl (k := 5) rfl rfl (by decide) rfl (fun ls hl => ?_)
            refine lv_goto (tgt := 37) hx hb dX2_care_2_105 (by decide) ?_
            exact ih2 _ _ _ _ _ h hO hS (lv_sub hl [1, 2, 3, 4, 5, 0] rfl)
          refine lv_icmp_eq (tgt := 102) hx hb dX2_care_2_49 (by decide) (fun c6 => ?_) (fun c6 => ?_)
          · have h := it_t c6 h
            exact hk4 _ _ _ _ h hO hS (lv_sub hl [0, 1, 2, 3, 4, 5] rfl)
          · have h := it_f c6 h
            refine lv_iload_n hx hb dX2_care_2_52 rfl (lv_at hl 2 rfl) ?_
            refine lv_iload hx hb dX2_care_2_53 (lv_at hl 5 rfl) ?_
            refine g_ishr hx hb dX2_care_2_55 ?_
            refine lv_iconst (v := 1) hx hb dX2_care_2_56 (by decide) ?_
            refine lv_iand hx hb dX2_care_2_57 ?_
            refine lv_if_ne (tgt := 102) hx hb dX2_care_2_58 (by decide) (fun c7 => ?_) (fun c7 => ?_)
            · have h := it_f c7 h
              exact hk4 _ _ _ _ h hO hS (lv_sub hl [0, 1, 2, 3, 4, 5] rfl)
            · have h := it_t c7 h
              refine lv_aload_n hx hb dX2_care_2_61 rfl (lv_at hl 0 rfl) ?_
              refine X2_getA hx hb hts hown hK hO 23 (by decide) rfl (hts _ q1560) dX2_care_2_62 ?_
              refine lv_iload_n hx hb dX2_care_2_65 rfl (lv_at hl 1 rfl) ?_
              refine lv_iload hx hb dX2_care_2_66 (lv_at hl 5 rfl) ?_
              obtain ⟨g8, h⟩ := grd h
              refine X2_iastore hx hb hK hO hD hS 23 (by decide) rfl rfl g8 dX2_care_2_68 (fun H locs z9 ez9 hO hS => ?_)
              have h := pin_to ez9 h
              refine lv_aload_n hx hb dX2_care_2_69 rfl (lv_at hl 0 rfl) ?_
              refine lv_iload_n hx hb dX2_care_2_70 rfl (lv_at hl 1 rfl) ?_
              refine lv_iconst (v := 1) hx hb dX2_care_2_71 (by decide) ?_
              refine lv_iadd hx hb dX2_care_2_72 ?_
              refine lv_iload_n hx hb dX2_care_2_73 rfl (lv_at hl 2 rfl) ?_
              refine lv_iconst (v := 1) hx hb dX2_care_2_74 (by decide) ?_
              refine lv_iload hx hb dX2_care_2_75 (lv_at hl 5 rfl) ?_
              refine g_ishl hx hb dX2_care_2_77 ?_
              refine lv_ior hx hb dX2_care_2_78 ?_
              refine lv_iload_n hx hb dX2_care_2_79 rfl (lv_at hl 3 rfl) ?_
              refine lv_iload hx hb dX2_care_2_80 (lv_at hl 4 rfl) ?_
              refine lv_aload_n hx hb dX2_care_2_82 rfl (lv_at hl 0 rfl) ?_
              refine lv_iload_n hx hb dX2_care_2_83 rfl (lv_at hl 1 rfl) ?_
              refine lv_iconst (v := 4) hx hb dX2_care_2_84 (by decide) ?_
              obtain ⟨r10, e11, h⟩ := bn1_e h
              refine clX2_number_2 hf hK hO (metX2_number_2 l D aC o ad x1 4 z9 r10 e11) q1771 hl.1 (Nat.le_of_ble_eq_true rfl) ⟨by dsimp only; omega, by dsimp only; omega⟩ ⟨Nat.le_of_ble_eq_true rfl, Nat.le_of_ble_eq_true rfl⟩ dX2_care_2_85 ?_
              refine lv_iload hx hb dX2_care_2_88 (lv_at hl 5 rfl) ?_
              obtain ⟨k13, e16, h⟩ := pin_nm2 h
              have hk13 : ∀ (u12 : Int32) (ls : Array Slot), k13 u12 = some zq → lv_has ls 6 [(0, .ref o), (1, .int x1), (2, .int x2), (3, .int x3), (4, .int x4), (5, .int v5)] → W p l e ({ frames := 60 * (n + 1), cells := 0, slots := 0, locals := 1367 * (n + 1) }) s m ([.ref o, .int x1, .int x2, .int x3, .int x4] : List Value).toArray below meth c H locs 0 0 (MQ below (QG none (OM D aC o ad zq) A) ([.ref o, .int x1, .int x2, .int x3, .int x4] : List Value).toArray s 0 0 A) (F0 m 98 ls [.int u12, .int x4, .int x3, .int (x2 ||| (jshl 1 v5)), .int (x1 + 1), .ref o]) := by
                intro u12 ls h hl
                rw [e16] at h
                refine lv_iadd hx hb dX2_care_2_98 ?_
                obtain ⟨z14, e15, h⟩ := bn1_e h
                refine clX2_care_2 hf hK hO hS (hrec (x1 + 1) (x2 ||| (jshl 1 v5)) x3 (x4 + u12) z9 z14 e15) q1846 hl.1 (Nat.le_of_ble_eq_true rfl) ⟨by dsimp only; omega, by dsimp only; omega⟩ ⟨Nat.le_of_ble_eq_true rfl, Nat.le_of_ble_eq_true rfl⟩ dX2_care_2_99 (fun H locs hO hS => ?_)
                exact hk4 _ _ _ _ h hO hS (lv_sub hl [0, 1, 2, 3, 4, 5] rfl)
              refine lv_icmp_ne (tgt := 97) hx hb dX2_care_2_90 (by decide) (fun c17 => ?_) (fun c17 => ?_)
              · have h := pt_f (k := k13) c17 h
                refine lv_iconst (v := 1) hx hb dX2_care_2_97 (by decide) ?_
                exact hk13 _ _ h (lv_sub hl [0, 1, 2, 3, 4, 5] rfl)
              · have h := pt_t (k := k13) c17 h
                refine lv_iconst (v := 0) hx hb dX2_care_2_93 (by decide) ?_
                refine lv_goto (tgt := 98) hx hb dX2_care_2_94 (by decide) ?_
                exact hk13 _ _ h (lv_sub hl [0, 1, 2, 3, 4, 5] rfl)
    exact key19 FU _ _ _ _ _ h hO hS (lv_sub hl [1, 2, 3, 4, 5, 0] rfl)
  · have h := it_t c1 h
    refine lv_iload_n hx hb dX2_care_2_8 rfl (lv_at hl 3 rfl) ?_
    refine lv_if_ne (tgt := 22) hx hb dX2_care_2_9 (by decide) (fun c20 => ?_) (fun c20 => ?_)
    · have h := it_f c20 h
      refine lv_aload_n hx hb dX2_care_2_22 rfl (lv_at hl 0 rfl) ?_
      obtain ⟨r21, e22, h⟩ := bn1_e h
      refine clX2_isRing hf hK hO (metX2_isRing l D aC o ad z r21 e22) q1854 hl.1 (Nat.le_of_ble_eq_true rfl) ⟨by dsimp only; omega, by dsimp only; omega⟩ ⟨Nat.le_of_ble_eq_true rfl, Nat.le_of_ble_eq_true rfl⟩ dX2_care_2_23 ?_
      refine lv_if_eq (tgt := 33) hx hb dX2_care_2_26 (by decide) (fun c23 => ?_) (fun c23 => ?_)
      · have h := it_t c23 h
        cases Option.some.inj h
        exact g_retGv hx hb hr hlocks hO hS dX2_care_2_33
      · have h := it_f c23 h
        refine lv_aload_n hx hb dX2_care_2_29 rfl (lv_at hl 0 rfl) ?_
        obtain ⟨z24, e25, h⟩ := bn1_e h
        refine clX2_tryRound hf hK hO hS (metX2_tryRound l D aC o ad A hD z z24 e25) q1858 hl.1 (Nat.le_of_ble_eq_true rfl) ⟨by dsimp only; omega, by dsimp only; omega⟩ ⟨Nat.le_of_ble_eq_true rfl, Nat.le_of_ble_eq_true rfl⟩ dX2_care_2_30 (fun H locs hO hS => ?_)
        cases Option.some.inj h
        exact g_retGv hx hb hr hlocks hO hS dX2_care_2_33
    · have h := it_t c20 h
      refine lv_aload_n hx hb dX2_care_2_12 rfl (lv_at hl 0 rfl) ?_
      refine lv_iload hx hb dX2_care_2_13 (lv_at hl 4 rfl) ?_
      refine lv_iconst (v := 0) hx hb dX2_care_2_15 (by decide) ?_
      obtain ⟨z26, e27, h⟩ := bn1_e h
      refine clX2_take hf hK hO hS (metX2_take l D aC o ad A hD x4 0 z z26 e27) q1850 hl.1 (Nat.le_of_ble_eq_true rfl) ⟨by dsimp only; omega, by dsimp only; omega⟩ ⟨Nat.le_of_ble_eq_true rfl, Nat.le_of_ble_eq_true rfl⟩ dX2_care_2_16 (fun H locs hO hS => ?_)
      refine lv_goto (tgt := 33) hx hb dX2_care_2_19 (by decide) ?_
      cases Option.some.inj h
      exact g_retGv hx hb hr hlocks hO hS dX2_care_2_33
theorem metX2_care_2 (l : Launch) (D : va_G) (aC : Nat → ClassId) (o : Nat) (ad : Nat → Nat) (A : Nat → Prop) (hD : OD A 44 kdM o ad) (n : Nat) : ∀ (x1 : Int32) (x2 : Int32) (x3 : Int32) (x4 : Int32) (z : GS)  (zq : GS), FX2_care_2 n x1 x2 x3 x4 z = some zq → Met l yX2_care_2 (ws_ yX2_care_2 cX2_care_2 6 none) ({ frames := 60 * n, cells := 0, slots := 0, locals := 1367 * n }) (va_Pc [.ref o, .int x1, .int x2, .int x3, .int x4] (PM D aC o ad z)) (QG none (OM D aC o ad zq) A) 0 0 A := by
  induction n with
  | zero =>
    intro x1 x2 x3 x4 z zq h
    rw [FX2_care_2] at h
    cases h
  | succ n ih =>
    intro x1 x2 x3 x4 z zq h
    rw [FX2_care_2] at h
    exact metX2_care_2b l D aC o ad A hD n _ ih x1 x2 x3 x4 z zq h
theorem metX2_round (l : Launch) (D : va_G) (aC : Nat → ClassId) (o : Nat) (ad : Nat → Nat) (A : Nat → Prop) (hD : OD A 44 kdM o ad) (x1 : Int32) (x2 : Int32) (z : GS) (r : Int32) (zq : GS) (h : FX2_round x1 x2 z = some (r, zq)) : Met l yX2_round (ws_ yX2_round cX2_round 3 (some .int)) ({ frames := 601, cells := 0, slots := 0, locals := 13695 }) (va_Pc [.ref o, .int x1, .int x2] (PM D aC o ad z)) (QG (some (.int r)) (OM D aC o ad zq) A) 0 0 A := by
  refine g_ofW (cc := cX2_round) (maxL := 3) (ret := (some .int)) (own := RX2) (by decide) rfl rfl [.ref o, .int x1, .int x2] (PM D aC o ad z) (Nat.le_of_ble_eq_true rfl) ?_
  intro p e s m below meth c ls hx hb hr hml hts hown hlocks hnm hPre hl
  obtain ⟨hO, hK⟩ := hPre
  have hf : CallFix p m c cX2_round 3 s _ lw_all RX2 := ⟨hx, hb, hml, hown, hts⟩
  have hl : lv_has ls 3 [(0, .ref o), (1, .int x1), (2, .int x2)] := hl
  refine g_open (A := A) (OM D aC o ad z) hO (fun H locs hO hS => ?_)
  unfold FX2_round at h
  refine lv_iload_n hx hb dX2_round_0 rfl (lv_at hl 1 rfl) ?_
  refine lv_iconst (v := 0) hx hb dX2_round_1 (by decide) ?_
  refine lv_bipush (v := 6) hx hb dX2_round_2 (by decide) ?_
  refine clX2_isIn hf (metX2_isIn l x1 0 6 _ rfl) q1675 hl.1 (Nat.le_of_ble_eq_true rfl) ⟨Nat.le_of_ble_eq_true rfl, Nat.le_of_ble_eq_true rfl⟩ ⟨Nat.le_of_ble_eq_true rfl, Nat.le_of_ble_eq_true rfl⟩ dX2_round_4 ?_
  refine lv_if_eq (tgt := 25) hx hb dX2_round_7 (by decide) (fun c1 => ?_) (fun c1 => ?_)
  · have h := it_t c1 h
    refine lv_iconst (v := (-1)) hx hb dX2_round_25 (by decide) ?_
    obtain ⟨e8, rfl⟩ := Prod.mk.inj (Option.some.inj h)
    exact g_retG hx hb hr hlocks e8 hO hS dX2_round_26
  · have h := it_f c1 h
    refine lv_iload_n hx hb dX2_round_10 rfl (lv_at hl 2 rfl) ?_
    refine lv_bipush (v := (-2)) hx hb dX2_round_11 (by decide) ?_
    refine lv_aload_n hx hb dX2_round_13 rfl (lv_at hl 0 rfl) ?_
    refine X2_getF hx hb hts hown hK hO 2 (by decide) rfl (hts _ q1539) dX2_round_14 ?_
    refine lv_iconst (v := 1) hx hb dX2_round_17 (by decide) ?_
    refine lv_isub hx hb dX2_round_18 ?_
    refine clX2_isIn hf (metX2_isIn l x2 (-2) ((gF z 2) - 1) _ rfl) q1675 hl.1 (Nat.le_of_ble_eq_true rfl) ⟨Nat.le_of_ble_eq_true rfl, Nat.le_of_ble_eq_true rfl⟩ ⟨Nat.le_of_ble_eq_true rfl, Nat.le_of_ble_eq_true rfl⟩ dX2_round_19 ?_
    refine lv_if_ne (tgt := 27) hx hb dX2_round_22 (by decide) (fun c2 => ?_) (fun c2 => ?_)
    · have h := it_f c2 h
      refine lv_aload_n hx hb dX2_round_27 rfl (lv_at hl 0 rfl) ?_
      refine X2_getF hx hb hts hown hK hO 2 (by decide) rfl (hts _ q1539) dX2_round_28 ?_
      refine lv_iconst (v := 2) hx hb dX2_round_31 (by decide) ?_
      refine lv_icmp_ge (tgt := 38) hx hb dX2_round_32 (by decide) (fun c3 => ?_) (fun c3 => ?_)
      · have h := it_t c3 h
        refine lv_aload_n hx hb dX2_round_38 rfl (lv_at hl 0 rfl) ?_
        obtain ⟨z4, e5, h⟩ := bn1_e h
        refine clX2_begin hf hK hO hS (metX2_begin l D aC o ad A hD z z4 e5) q1841 hl.1 (Nat.le_of_ble_eq_true rfl) ⟨Nat.le_of_ble_eq_true rfl, Nat.le_of_ble_eq_true rfl⟩ ⟨Nat.le_of_ble_eq_true rfl, Nat.le_of_ble_eq_true rfl⟩ dX2_round_39 (fun H locs hO hS => ?_)
        refine lv_aload_n hx hb dX2_round_42 rfl (lv_at hl 0 rfl) ?_
        refine lv_iload_n hx hb dX2_round_43 rfl (lv_at hl 1 rfl) ?_
        refine X2_putF hx hb hts hown hK hO hD hS 27 (by decide) rfl (hts _ q1564) rfl (ty := .int) rfl rfl rfl dX2_round_44 (fun H locs z6 ez6 hO hS => ?_)
        have h := pin_to ez6 h
        refine lv_aload_n hx hb dX2_round_47 rfl (lv_at hl 0 rfl) ?_
        refine lv_iconst (v := 0) hx hb dX2_round_48 (by decide) ?_
        refine lv_iconst (v := 0) hx hb dX2_round_49 (by decide) ?_
        refine lv_iconst (v := 1) hx hb dX2_round_50 (by decide) ?_
        refine lv_iconst (v := 0) hx hb dX2_round_51 (by decide) ?_
        obtain ⟨z7, e8, h⟩ := bn1_e h
        refine clX2_care_2 hf hK hO hS (metX2_care_2 l D aC o ad A hD 10 0 0 1 0 z6 z7 e8) q1846 hl.1 (Nat.le_of_ble_eq_true rfl) ⟨Nat.le_of_ble_eq_true rfl, Nat.le_of_ble_eq_true rfl⟩ ⟨Nat.le_of_ble_eq_true rfl, Nat.le_of_ble_eq_true rfl⟩ dX2_round_52 (fun H locs hO hS => ?_)
        refine lv_iload_n hx hb dX2_round_55 rfl (lv_at hl 2 rfl) ?_
        refine lv_iconst (v := (-1)) hx hb dX2_round_56 (by decide) ?_
        refine lv_icmp_ne (tgt := 67) hx hb dX2_round_57 (by decide) (fun c9 => ?_) (fun c9 => ?_)
        · have h := it_f c9 h
          refine lv_iload_n hx hb dX2_round_67 rfl (lv_at hl 2 rfl) ?_
          refine lv_bipush (v := (-2)) hx hb dX2_round_68 (by decide) ?_
          refine lv_icmp_ne (tgt := 80) hx hb dX2_round_70 (by decide) (fun c10 => ?_) (fun c10 => ?_)
          · have h := it_f c10 h
            refine lv_aload_n hx hb dX2_round_80 rfl (lv_at hl 0 rfl) ?_
            refine X2_getA hx hb hts hown hK hO 24 (by decide) rfl (hts _ q1561) dX2_round_81 ?_
            refine lv_iload_n hx hb dX2_round_84 rfl (lv_at hl 2 rfl) ?_
            obtain ⟨g11, h⟩ := grd h
            refine X2_iaload hx hb hK hO 24 (by decide) rfl rfl g11 dX2_round_85 ?_
            obtain ⟨e8, rfl⟩ := Prod.mk.inj (Option.some.inj h)
            exact g_retG hx hb hr hlocks e8 hO hS dX2_round_86
          · have h := it_t c10 h
            refine lv_aload_n hx hb dX2_round_73 rfl (lv_at hl 0 rfl) ?_
            refine X2_getF hx hb hts hown hK hO 26 (by decide) rfl (hts _ q1563) dX2_round_74 ?_
            refine lv_goto (tgt := 86) hx hb dX2_round_77 (by decide) ?_
            obtain ⟨e8, rfl⟩ := Prod.mk.inj (Option.some.inj h)
            exact g_retG hx hb hr hlocks e8 hO hS dX2_round_86
        · have h := it_t c9 h
          refine lv_aload_n hx hb dX2_round_60 rfl (lv_at hl 0 rfl) ?_
          refine X2_getF hx hb hts hown hK hO 25 (by decide) rfl (hts _ q1562) dX2_round_61 ?_
          refine lv_goto (tgt := 86) hx hb dX2_round_64 (by decide) ?_
          obtain ⟨e8, rfl⟩ := Prod.mk.inj (Option.some.inj h)
          exact g_retG hx hb hr hlocks e8 hO hS dX2_round_86
      · have h := it_f c3 h
        refine lv_bipush (v := (-2)) hx hb dX2_round_35 (by decide) ?_
        obtain ⟨e8, rfl⟩ := Prod.mk.inj (Option.some.inj h)
        exact g_retG hx hb hr hlocks e8 hO hS dX2_round_37
    · have h := it_t c2 h
      refine lv_iconst (v := (-1)) hx hb dX2_round_25 (by decide) ?_
      obtain ⟨e8, rfl⟩ := Prod.mk.inj (Option.some.inj h)
      exact g_retG hx hb hr hlocks e8 hO hS dX2_round_26
theorem clX2_round {p : Program} {l : Launch} {e : Env} {R : Room} {s : State} {m : MethodId} {args : Array Value} {below : List Frame} {meth : Method} {c : Code} {H : Heap} {locs : List Loc} {cells slots : Nat} {Q : State → Prop} {cc : ByteArray} {pc nL idx fr lo : Nat} {ls : Array Slot} {rest : List Value} {own : String} {D : va_G} {aC : Nat → ClassId} {o : Nat} {ad : Nat → Nat} {z : GS} {zq : GS} {A : Nat → Prop} {x1 : Int32} {x2 : Int32} {r : Int32} (hf : CallFix p m c cc nL s args lw_all own) (hK : va_K D vwCl (tysG aC) s) (hO : OM D aC o ad z H) (hS : va_S A s.heap H locs) (hM : Met l yX2_round (ws_ yX2_round cX2_round 3 (some .int)) ({ frames := fr, cells := 0, slots := 0, locals := lo }) (va_Pc [.ref o, .int x1, .int x2] (PM D aC o ad z)) (QG (some (.int r)) (OM D aC o ad zq) A) 0 0 A) (hq : Cond.methodLink own idx yX2_round ∈ lw_all) (hs : ls.size = nL) (hr : (rest.map fun v => v.category).sum ≤ 8) (hR : fr + 1 ≤ R.frames ∧ 8 + (3 + 11) + lo ≤ R.locals) (hcs : cells + 0 ≤ R.cells ∧ slots + 0 ≤ R.slots) (hd : decode cc pc = .ok (.invokevirtual idx, 3)) (kk : ∀ (H1 : Heap) (locs1 : List Loc), OM D aC o ad zq H1 → va_S A s.heap H1 locs1 → W p l e R s m args below meth c H1 locs1 cells slots Q (F0 m (pc + 3) ls (.int r :: rest))) : W p l e R s m args below meth c H locs cells slots Q (F0 m pc ls (.int x2 :: .int x1 :: .ref o :: rest)) :=
  g_callG (W.runV (As := [.int x1, .int x2]) (rest := rest) hf hM (cwV 2 hf.2.2.2.2 (lw_V hq q1838 q1839 q92 q1840) rfl rfl rfl (by decide +kernel) hR) ⟨fun a U g mk q => ⟨q.1, q.2.1, va_K.moved (u := U) (U := U.calling g mk a) (Vm.Alike.refl U.vm) q.2.2⟩, OA.recv hK hO rfl, fun U hU hW => ⟨rfl, by rw [hU]; exact hO, va_K.moved hW.alike hK⟩⟩ rfl rfl hs rfl (lv_room hr) hd hcs) hS (fun H1 locs1 hP hS _ _ => kk H1 locs1 hP hS)
theorem metX2_mended (l : Launch) (D : va_G) (aC : Nat → ClassId) (o : Nat) (ad : Nat → Nat) (A : Nat → Prop) (hD : OD A 44 kdM o ad) (x1 : Int32) (z : GS) (r : Int32) (zq : GS) (h : FX2_mended x1 z = some (r, zq)) : Met l yX2_mended (ws_ yX2_mended cX2_mended 2 (some .int)) ({ frames := 601, cells := 0, slots := 0, locals := 13695 }) (va_Pc [.ref o, .int x1] (PM D aC o ad z)) (QG (some (.int r)) (OM D aC o ad zq) A) 0 0 A := by
  refine g_ofW (cc := cX2_mended) (maxL := 2) (ret := (some .int)) (own := RX2) (by decide) rfl rfl [.ref o, .int x1] (PM D aC o ad z) (Nat.le_of_ble_eq_true rfl) ?_
  intro p e s m below meth c ls hx hb hr hml hts hown hlocks hnm hPre hl
  obtain ⟨hO, hK⟩ := hPre
  have hf : CallFix p m c cX2_mended 2 s _ lw_all RX2 := ⟨hx, hb, hml, hown, hts⟩
  have hl : lv_has ls 2 [(0, .ref o), (1, .int x1)] := hl
  refine g_open (A := A) (OM D aC o ad z) hO (fun H locs hO hS => ?_)
  unfold FX2_mended at h
  refine lv_iload_n hx hb dX2_mended_0 rfl (lv_at hl 1 rfl) ?_
  refine lv_iconst (v := (-1)) hx hb dX2_mended_1 (by decide) ?_
  refine lv_aload_n hx hb dX2_mended_2 rfl (lv_at hl 0 rfl) ?_
  refine X2_getF hx hb hts hown hK hO 2 (by decide) rfl (hts _ q1539) dX2_mended_3 ?_
  refine lv_iconst (v := 1) hx hb dX2_mended_6 (by decide) ?_
  refine lv_isub hx hb dX2_mended_7 ?_
  refine clX2_isIn hf (metX2_isIn l x1 (-1) ((gF z 2) - 1) _ rfl) q1675 hl.1 (Nat.le_of_ble_eq_true rfl) ⟨Nat.le_of_ble_eq_true rfl, Nat.le_of_ble_eq_true rfl⟩ ⟨Nat.le_of_ble_eq_true rfl, Nat.le_of_ble_eq_true rfl⟩ dX2_mended_8 ?_
  refine lv_if_ne (tgt := 16) hx hb dX2_mended_11 (by decide) (fun c1 => ?_) (fun c1 => ?_)
  · have h := it_f c1 h
    refine lv_aload_n hx hb dX2_mended_16 rfl (lv_at hl 0 rfl) ?_
    obtain ⟨z2, e3, h⟩ := bn1_e h
    refine clX2_begin hf hK hO hS (metX2_begin l D aC o ad A hD z z2 e3) q1841 hl.1 (Nat.le_of_ble_eq_true rfl) ⟨Nat.le_of_ble_eq_true rfl, Nat.le_of_ble_eq_true rfl⟩ ⟨Nat.le_of_ble_eq_true rfl, Nat.le_of_ble_eq_true rfl⟩ dX2_mended_17 (fun H locs hO hS => ?_)
    refine lv_aload_n hx hb dX2_mended_20 rfl (lv_at hl 0 rfl) ?_
    refine lv_iconst (v := 0) hx hb dX2_mended_21 (by decide) ?_
    refine lv_iconst (v := 0) hx hb dX2_mended_22 (by decide) ?_
    refine lv_iconst (v := 0) hx hb dX2_mended_23 (by decide) ?_
    refine lv_iconst (v := 0) hx hb dX2_mended_24 (by decide) ?_
    obtain ⟨z4, e5, h⟩ := bn1_e h
    refine clX2_care_2 hf hK hO hS (metX2_care_2 l D aC o ad A hD 10 0 0 0 0 z2 z4 e5) q1846 hl.1 (Nat.le_of_ble_eq_true rfl) ⟨Nat.le_of_ble_eq_true rfl, Nat.le_of_ble_eq_true rfl⟩ ⟨Nat.le_of_ble_eq_true rfl, Nat.le_of_ble_eq_true rfl⟩ dX2_mended_25 (fun H locs hO hS => ?_)
    refine lv_aload_n hx hb dX2_mended_28 rfl (lv_at hl 0 rfl) ?_
    refine X2_getF hx hb hts hown hK hO 25 (by decide) rfl (hts _ q1562) dX2_mended_29 ?_
    refine lv_ldcw (v := 2147483647) hx hb hown (hts _ q1845) dX2_mended_32 ?_
    refine lv_icmp_ne (tgt := 43) hx hb dX2_mended_35 (by decide) (fun c6 => ?_) (fun c6 => ?_)
    · have h := it_f c6 h
      refine lv_iload_n hx hb dX2_mended_43 rfl (lv_at hl 1 rfl) ?_
      refine lv_iconst (v := (-1)) hx hb dX2_mended_44 (by decide) ?_
      refine lv_icmp_ne (tgt := 55) hx hb dX2_mended_45 (by decide) (fun c7 => ?_) (fun c7 => ?_)
      · have h := it_f c7 h
        refine lv_aload_n hx hb dX2_mended_55 rfl (lv_at hl 0 rfl) ?_
        refine X2_getA hx hb hts hown hK hO 24 (by decide) rfl (hts _ q1561) dX2_mended_56 ?_
        refine lv_iload_n hx hb dX2_mended_59 rfl (lv_at hl 1 rfl) ?_
        obtain ⟨g8, h⟩ := grd h
        refine X2_iaload hx hb hK hO 24 (by decide) rfl rfl g8 dX2_mended_60 ?_
        obtain ⟨e8, rfl⟩ := Prod.mk.inj (Option.some.inj h)
        exact g_retG hx hb hr hlocks e8 hO hS dX2_mended_61
      · have h := it_t c7 h
        refine lv_aload_n hx hb dX2_mended_48 rfl (lv_at hl 0 rfl) ?_
        refine X2_getF hx hb hts hown hK hO 25 (by decide) rfl (hts _ q1562) dX2_mended_49 ?_
        refine lv_goto (tgt := 61) hx hb dX2_mended_52 (by decide) ?_
        obtain ⟨e8, rfl⟩ := Prod.mk.inj (Option.some.inj h)
        exact g_retG hx hb hr hlocks e8 hO hS dX2_mended_61
    · have h := it_t c6 h
      refine lv_bipush (v := (-2)) hx hb dX2_mended_38 (by decide) ?_
      refine lv_goto (tgt := 61) hx hb dX2_mended_40 (by decide) ?_
      obtain ⟨e8, rfl⟩ := Prod.mk.inj (Option.some.inj h)
      exact g_retG hx hb hr hlocks e8 hO hS dX2_mended_61
  · have h := it_t c1 h
    refine lv_iconst (v := (-1)) hx hb dX2_mended_14 (by decide) ?_
    obtain ⟨e8, rfl⟩ := Prod.mk.inj (Option.some.inj h)
    exact g_retG hx hb hr hlocks e8 hO hS dX2_mended_15
theorem clX2_mended {p : Program} {l : Launch} {e : Env} {R : Room} {s : State} {m : MethodId} {args : Array Value} {below : List Frame} {meth : Method} {c : Code} {H : Heap} {locs : List Loc} {cells slots : Nat} {Q : State → Prop} {cc : ByteArray} {pc nL idx fr lo : Nat} {ls : Array Slot} {rest : List Value} {own : String} {D : va_G} {aC : Nat → ClassId} {o : Nat} {ad : Nat → Nat} {z : GS} {zq : GS} {A : Nat → Prop} {x1 : Int32} {r : Int32} (hf : CallFix p m c cc nL s args lw_all own) (hK : va_K D vwCl (tysG aC) s) (hO : OM D aC o ad z H) (hS : va_S A s.heap H locs) (hM : Met l yX2_mended (ws_ yX2_mended cX2_mended 2 (some .int)) ({ frames := fr, cells := 0, slots := 0, locals := lo }) (va_Pc [.ref o, .int x1] (PM D aC o ad z)) (QG (some (.int r)) (OM D aC o ad zq) A) 0 0 A) (hq : Cond.methodLink own idx yX2_mended ∈ lw_all) (hs : ls.size = nL) (hr : (rest.map fun v => v.category).sum ≤ 8) (hR : fr + 1 ≤ R.frames ∧ 8 + (2 + 11) + lo ≤ R.locals) (hcs : cells + 0 ≤ R.cells ∧ slots + 0 ≤ R.slots) (hd : decode cc pc = .ok (.invokevirtual idx, 3)) (kk : ∀ (H1 : Heap) (locs1 : List Loc), OM D aC o ad zq H1 → va_S A s.heap H1 locs1 → W p l e R s m args below meth c H1 locs1 cells slots Q (F0 m (pc + 3) ls (.int r :: rest))) : W p l e R s m args below meth c H locs cells slots Q (F0 m pc ls (.int x1 :: .ref o :: rest)) :=
  g_callG (W.runV (As := [.int x1]) (rest := rest) hf hM (cwV 1 hf.2.2.2.2 (lw_V hq q1864 q1865 q92 q1866) rfl rfl rfl (by decide +kernel) hR) ⟨fun a U g mk q => ⟨q.1, q.2.1, va_K.moved (u := U) (U := U.calling g mk a) (Vm.Alike.refl U.vm) q.2.2⟩, OA.recv hK hO rfl, fun U hU hW => ⟨rfl, by rw [hU]; exact hO, va_K.moved hW.alike hK⟩⟩ rfl rfl hs rfl (lv_room hr) hd hcs) hS (fun H1 locs1 hP hS _ _ => kk H1 locs1 hP hS)
theorem metX2_lackBut (l : Launch) (D : va_G) (aC : Nat → ClassId) (o : Nat) (ad : Nat → Nat) (A : Nat → Prop) (hD : OD A 44 kdM o ad) (x1 : Int32) (x2 : Int32) (z : GS) (r : Int32) (zq : GS) (h : FX2_lackBut x1 x2 z = some (r, zq)) : Met l yX2_lackBut (ws_ yX2_lackBut cX2_lackBut 4 (some .int)) ({ frames := 59, cells := 0, slots := 0, locals := 1345 }) (va_Pc [.ref o, .int x1, .int x2] (PM D aC o ad z)) (QG (some (.int r)) (OM D aC o ad zq) A) 0 0 A := by
  refine g_ofW (cc := cX2_lackBut) (maxL := 4) (ret := (some .int)) (own := RX2) (by decide) rfl rfl [.ref o, .int x1, .int x2] (PM D aC o ad z) (Nat.le_of_ble_eq_true rfl) ?_
  intro p e s m below meth c ls hx hb hr hml hts hown hlocks hnm hPre hl
  obtain ⟨hO, hK⟩ := hPre
  have hf : CallFix p m c cX2_lackBut 4 s _ lw_all RX2 := ⟨hx, hb, hml, hown, hts⟩
  have hl : lv_has ls 4 [(0, .ref o), (1, .int x1), (2, .int x2)] := hl
  refine g_open (A := A) (OM D aC o ad z) hO (fun H locs hO hS => ?_)
  unfold FX2_lackBut at h
  refine lv_aload_n hx hb dX2_lackBut_0 rfl (lv_at hl 0 rfl) ?_
  refine lv_iconst (v := 0) hx hb dX2_lackBut_1 (by decide) ?_
  obtain ⟨z1, e2, h⟩ := bn1_e h
  refine clX2_keepAll hf hK hO hS (metX2_keepAll l D aC o ad A hD 0 z z1 e2) q1796 hl.1 (Nat.le_of_ble_eq_true rfl) ⟨Nat.le_of_ble_eq_true rfl, Nat.le_of_ble_eq_true rfl⟩ ⟨Nat.le_of_ble_eq_true rfl, Nat.le_of_ble_eq_true rfl⟩ dX2_lackBut_2 (fun H locs hO hS => ?_)
  refine lv_iconst (v := 0) hx hb dX2_lackBut_5 (by decide) ?_
  refine lv_istore_n (lv' := [(3, .int 0), (0, .ref o), (1, .int x1), (2, .int x2)]) hx hb dX2_lackBut_6 rfl hl (by decide) rfl (fun ls hl => ?_)
  obtain ⟨k3, e30, h⟩ := pin_nm h
  have hk3 : ∀  (z4 : GS) (H : Heap) (locs : List Loc) (ls : Array Slot), k3  z4 = some (r, zq) → OM D aC o ad z4 H → va_S A s.heap H locs → lv_has ls 4 [(0, .ref o), (1, .int x1), (2, .int x2)] → W p l e ({ frames := 59, cells := 0, slots := 0, locals := 1345 }) s m ([.ref o, .int x1, .int x2] : List Value).toArray below meth c H locs 0 0 (MQ below (QG (some (.int r)) (OM D aC o ad zq) A) ([.ref o, .int x1, .int x2] : List Value).toArray s 0 0 A) (F0 m 52 ls []) := by
    intro  z4 H locs ls h hO hS hl
    rw [e30] at h
    refine lv_aload_n hx hb dX2_lackBut_52 rfl (lv_at hl 0 rfl) ?_
    refine lv_iload_n hx hb dX2_lackBut_53 rfl (lv_at hl 2 rfl) ?_
    refine X2_putF hx hb hts hown hK hO hD hS 20 (by decide) rfl (hts _ q1557) rfl (ty := .int) rfl rfl rfl dX2_lackBut_54 (fun H locs z5 ez5 hO hS => ?_)
    have h := pin_to ez5 h
    refine lv_aload_n hx hb dX2_lackBut_57 rfl (lv_at hl 0 rfl) ?_
    refine lv_iload_n hx hb dX2_lackBut_58 rfl (lv_at hl 1 rfl) ?_
    obtain ⟨z6, e7, h⟩ := bn1_e h
    refine clX2_goDays hf hK hO hS (metX2_goDays l D aC o ad A hD x1 z5 z6 e7) q1800 hl.1 (Nat.le_of_ble_eq_true rfl) ⟨Nat.le_of_ble_eq_true rfl, Nat.le_of_ble_eq_true rfl⟩ ⟨Nat.le_of_ble_eq_true rfl, Nat.le_of_ble_eq_true rfl⟩ dX2_lackBut_59 (fun H locs hO hS => ?_)
    refine lv_aload_n hx hb dX2_lackBut_62 rfl (lv_at hl 0 rfl) ?_
    obtain ⟨r8, e9, h⟩ := bn1_e h
    refine clX2_lacks hf hK hO (metX2_lacks l D aC o ad z6 r8 e9) q1820 hl.1 (Nat.le_of_ble_eq_true rfl) ⟨Nat.le_of_ble_eq_true rfl, Nat.le_of_ble_eq_true rfl⟩ ⟨Nat.le_of_ble_eq_true rfl, Nat.le_of_ble_eq_true rfl⟩ dX2_lackBut_63 ?_
    refine clJ13_bitCount hf (metJ13_bitCount l r8 _ rfl) q1862 hl.1 (Nat.le_of_ble_eq_true rfl) ⟨Nat.le_of_ble_eq_true rfl, Nat.le_of_ble_eq_true rfl⟩ ⟨Nat.le_of_ble_eq_true rfl, Nat.le_of_ble_eq_true rfl⟩ dX2_lackBut_66 ?_
    refine lv_topi (fun y10 ey10 => ?_)
    have h := pin_to ey10 h
    refine lv_istore_n (lv' := [(3, .int y10), (0, .ref o), (1, .int x1), (2, .int x2)]) hx hb dX2_lackBut_69 rfl hl (by decide) rfl (fun ls hl => ?_)
    refine lv_aload_n hx hb dX2_lackBut_70 rfl (lv_at hl 1 rfl) ?_
    refine lv_iconst (v := (-1)) hx hb dX2_lackBut_71 (by decide) ?_
    refine X2_putF hx hb hts hown hK hO hD hS 20 (by decide) rfl (hts _ q1557) rfl (ty := .int) rfl rfl rfl dX2_lackBut_72 (fun H locs z11 ez11 hO hS => ?_)
    have h := pin_to ez11 h
    refine lv_aload_n hx hb dX2_lackBut_75 rfl (lv_at hl 1 rfl) ?_
    refine lv_iconst (v := 0) hx hb dX2_lackBut_76 (by decide) ?_
    obtain ⟨z12, e13, h⟩ := bn1_e h
    refine clX2_layAll hf hK hO hS (metX2_layAll l D aC o ad A hD 0 z11 z12 e13) q1812 hl.1 (Nat.le_of_ble_eq_true rfl) ⟨Nat.le_of_ble_eq_true rfl, Nat.le_of_ble_eq_true rfl⟩ ⟨Nat.le_of_ble_eq_true rfl, Nat.le_of_ble_eq_true rfl⟩ dX2_lackBut_77 (fun H locs hO hS => ?_)
    refine lv_iload_n hx hb dX2_lackBut_80 rfl (lv_at hl 0 rfl) ?_
    obtain ⟨e8, rfl⟩ := Prod.mk.inj (Option.some.inj h)
    exact g_retG hx hb hr hlocks e8 hO hS dX2_lackBut_81
  have key29 : ∀ (f : Nat) (v3 : Int32) (z : GS) (H : Heap) (locs : List Loc) (ls : Array Slot), FX2_lackBut_L7 k3 x1 x2 f v3 z = some (r, zq) → OM D aC o ad z H → va_S A s.heap H locs → lv_has ls 4 [(0, .ref o), (1, .int x1), (2, .int x2), (3, .int v3)] → W p l e ({ frames := 59, cells := 0, slots := 0, locals := 1345 }) s m ([.ref o, .int x1, .int x2] : List Value).toArray below meth c H locs 0 0 (MQ below (QG (some (.int r)) (OM D aC o ad zq) A) ([.ref o, .int x1, .int x2] : List Value).toArray s 0 0 A) (F0 m 7 ls []) := by
    intro f
    induction f with
    | zero =>
      intro v3 z H locs ls h
      rw [FX2_lackBut_L7] at h
      cases h
    | succ f ih14 =>
      intro v3 z H locs ls h hO hS hl
      rw [FX2_lackBut_L7] at h
      refine lv_iload_n hx hb dX2_lackBut_7 rfl (lv_at hl 3 rfl) ?_
      refine lv_aload_n hx hb dX2_lackBut_8 rfl (lv_at hl 0 rfl) ?_
      refine X2_getF hx hb hts hown hK hO 2 (by decide) rfl (hts _ q1539) dX2_lackBut_9 ?_
      refine lv_icmp_ge (tgt := 52) hx hb dX2_lackBut_12 (by decide) (fun c15 => ?_) (fun c15 => ?_)
      · have h := it_t c15 h
        exact hk3 _ _ _ _ h hO hS (lv_sub hl [0, 1, 2] rfl)
      · have h := it_f c15 h
        refine lv_aload_n hx hb dX2_lackBut_15 rfl (lv_at hl 0 rfl) ?_
        refine lv_iload_n hx hb dX2_lackBut_16 rfl (lv_at hl 3 rfl) ?_
        refine lv_iconst (v := 4) hx hb dX2_lackBut_17 (by decide) ?_
        refine lv_iload_n hx hb dX2_lackBut_18 rfl (lv_at hl 3 rfl) ?_
        refine lv_iload_n hx hb dX2_lackBut_19 rfl (lv_at hl 2 rfl) ?_
        obtain ⟨k16, e28, h⟩ := pin_nm h
        have hk16 : ∀ (u17 : Int32) (ls : Array Slot), k16 u17 = some (r, zq) → lv_has ls 4 [(0, .ref o), (1, .int x1), (2, .int x2), (3, .int v3)] → W p l e ({ frames := 59, cells := 0, slots := 0, locals := 1345 }) s m ([.ref o, .int x1, .int x2] : List Value).toArray below meth c H locs 0 0 (MQ below (QG (some (.int r)) (OM D aC o ad zq) A) ([.ref o, .int x1, .int x2] : List Value).toArray s 0 0 A) (F0 m 43 ls [.int u17, .int 4, .int v3, .ref o]) := by
          intro u17 ls h hl
          rw [e28] at h
          obtain ⟨z18, e19, h⟩ := bn1_e h
          refine clX2_change hf hK hO hS (metX2_change l D aC o ad A hD v3 4 u17 z z18 e19) q1682 hl.1 (Nat.le_of_ble_eq_true rfl) ⟨Nat.le_of_ble_eq_true rfl, Nat.le_of_ble_eq_true rfl⟩ ⟨Nat.le_of_ble_eq_true rfl, Nat.le_of_ble_eq_true rfl⟩ dX2_lackBut_43 (fun H locs hO hS => ?_)
          refine lv_iinc (v := (v3 + 1)) (lv' := [(3, .int (v3 + 1)), (0, .ref o), (1, .int x1), (2, .int x2)]) hx hb dX2_lackBut_46 hl (k := 3) rfl rfl (by decide) rfl (fun ls hl => ?_)
          refine lv_goto (tgt := 7) hx hb dX2_lackBut_49 (by decide) ?_
          exact ih14 _ _ _ _ _ h hO hS (lv_sub hl [1, 2, 3, 0] rfl)
        obtain ⟨k20, e27, h⟩ := pin_nm h
        have hk20 : ∀  (ls : Array Slot), k20  = some (r, zq) → lv_has ls 4 [(0, .ref o), (1, .int x1), (2, .int x2), (3, .int v3)] → W p l e ({ frames := 59, cells := 0, slots := 0, locals := 1345 }) s m ([.ref o, .int x1, .int x2] : List Value).toArray below meth c H locs 0 0 (MQ below (QG (some (.int r)) (OM D aC o ad zq) A) ([.ref o, .int x1, .int x2] : List Value).toArray s 0 0 A) (F0 m 33 ls [.int 4, .int v3, .ref o]) := by
          intro  ls h hl
          rw [e27] at h
          refine lv_iconst (v := (-1)) hx hb dX2_lackBut_33 (by decide) ?_
          refine lv_goto (tgt := 43) hx hb dX2_lackBut_34 (by decide) ?_
          exact hk16 _ _ h (lv_sub hl [0, 1, 2, 3] rfl)
        refine lv_icmp_eq (tgt := 33) hx hb dX2_lackBut_20 (by decide) (fun c21 => ?_) (fun c21 => ?_)
        · have h := it_t c21 h
          exact hk20 _ h (lv_sub hl [0, 1, 2, 3] rfl)
        · have h := it_f c21 h
          refine lv_aload_n hx hb dX2_lackBut_23 rfl (lv_at hl 0 rfl) ?_
          refine lv_iload_n hx hb dX2_lackBut_24 rfl (lv_at hl 3 rfl) ?_
          refine lv_iconst (v := 4) hx hb dX2_lackBut_25 (by decide) ?_
          obtain ⟨r22, e23, h⟩ := bn1_e h
          refine clX2_number_2 hf hK hO (metX2_number_2 l D aC o ad v3 4 z r22 e23) q1771 hl.1 (Nat.le_of_ble_eq_true rfl) ⟨Nat.le_of_ble_eq_true rfl, Nat.le_of_ble_eq_true rfl⟩ ⟨Nat.le_of_ble_eq_true rfl, Nat.le_of_ble_eq_true rfl⟩ dX2_lackBut_26 ?_
          refine lv_iload_n hx hb dX2_lackBut_29 rfl (lv_at hl 2 rfl) ?_
          refine lv_icmp_ne (tgt := 37) hx hb dX2_lackBut_30 (by decide) (fun c24 => ?_) (fun c24 => ?_)
          · have h := it_f c24 h
            refine lv_aload_n hx hb dX2_lackBut_37 rfl (lv_at hl 0 rfl) ?_
            refine lv_iload_n hx hb dX2_lackBut_38 rfl (lv_at hl 3 rfl) ?_
            refine lv_iconst (v := 4) hx hb dX2_lackBut_39 (by decide) ?_
            obtain ⟨r25, e26, h⟩ := bn1_e h
            refine clX2_number_2 hf hK hO (metX2_number_2 l D aC o ad v3 4 z r25 e26) q1771 hl.1 (Nat.le_of_ble_eq_true rfl) ⟨Nat.le_of_ble_eq_true rfl, Nat.le_of_ble_eq_true rfl⟩ ⟨Nat.le_of_ble_eq_true rfl, Nat.le_of_ble_eq_true rfl⟩ dX2_lackBut_40 ?_
            exact hk16 _ _ h (lv_sub hl [0, 1, 2, 3] rfl)
          · have h := it_t c24 h
            exact hk20 _ h (lv_sub hl [0, 1, 2, 3] rfl)
  exact key29 FU _ _ _ _ _ h hO hS (lv_sub hl [1, 2, 3, 0] rfl)
theorem clX2_lackBut {p : Program} {l : Launch} {e : Env} {R : Room} {s : State} {m : MethodId} {args : Array Value} {below : List Frame} {meth : Method} {c : Code} {H : Heap} {locs : List Loc} {cells slots : Nat} {Q : State → Prop} {cc : ByteArray} {pc nL idx fr lo : Nat} {ls : Array Slot} {rest : List Value} {own : String} {D : va_G} {aC : Nat → ClassId} {o : Nat} {ad : Nat → Nat} {z : GS} {zq : GS} {A : Nat → Prop} {x1 : Int32} {x2 : Int32} {r : Int32} (hf : CallFix p m c cc nL s args lw_all own) (hK : va_K D vwCl (tysG aC) s) (hO : OM D aC o ad z H) (hS : va_S A s.heap H locs) (hM : Met l yX2_lackBut (ws_ yX2_lackBut cX2_lackBut 4 (some .int)) ({ frames := fr, cells := 0, slots := 0, locals := lo }) (va_Pc [.ref o, .int x1, .int x2] (PM D aC o ad z)) (QG (some (.int r)) (OM D aC o ad zq) A) 0 0 A) (hq : Cond.methodLink own idx yX2_lackBut ∈ lw_all) (hs : ls.size = nL) (hr : (rest.map fun v => v.category).sum ≤ 8) (hR : fr + 1 ≤ R.frames ∧ 8 + (4 + 11) + lo ≤ R.locals) (hcs : cells + 0 ≤ R.cells ∧ slots + 0 ≤ R.slots) (hd : decode cc pc = .ok (.invokevirtual idx, 3)) (kk : ∀ (H1 : Heap) (locs1 : List Loc), OM D aC o ad zq H1 → va_S A s.heap H1 locs1 → W p l e R s m args below meth c H1 locs1 cells slots Q (F0 m (pc + 3) ls (.int r :: rest))) : W p l e R s m args below meth c H locs cells slots Q (F0 m pc ls (.int x2 :: .int x1 :: .ref o :: rest)) :=
  g_callG (W.runV (As := [.int x1, .int x2]) (rest := rest) hf hM (cwV 2 hf.2.2.2.2 (lw_V hq q1873 qs80 q92 q1874) rfl rfl rfl (by decide +kernel) hR) ⟨fun a U g mk q => ⟨q.1, q.2.1, va_K.moved (u := U) (U := U.calling g mk a) (Vm.Alike.refl U.vm) q.2.2⟩, OA.recv hK hO rfl, fun U hU hW => ⟨rfl, by rw [hU]; exact hO, va_K.moved hW.alike hK⟩⟩ rfl rfl hs rfl (lv_room hr) hd hcs) hS (fun H1 locs1 hP hS _ _ => kk H1 locs1 hP hS)
theorem metX2_gone (l : Launch) (D : va_G) (aC : Nat → ClassId) (o : Nat) (ad : Nat → Nat) (A : Nat → Prop) (hD : OD A 44 kdM o ad) (x1 : Int32) (x2 : Int32) (z : GS) (r : Int32) (zq : GS) (h : FX2_gone x1 x2 z = some (r, zq)) : Met l yX2_gone (ws_ yX2_gone cX2_gone 7 (some .int)) ({ frames := 60, cells := 0, slots := 0, locals := 1368 }) (va_Pc [.ref o, .int x1, .int x2] (PM D aC o ad z)) (QG (some (.int r)) (OM D aC o ad zq) A) 0 0 A := by
  refine g_ofW (cc := cX2_gone) (maxL := 7) (ret := (some .int)) (own := RX2) (by decide) rfl rfl [.ref o, .int x1, .int x2] (PM D aC o ad z) (Nat.le_of_ble_eq_true rfl) ?_
  intro p e s m below meth c ls hx hb hr hml hts hown hlocks hnm hPre hl
  obtain ⟨hO, hK⟩ := hPre
  have hf : CallFix p m c cX2_gone 7 s _ lw_all RX2 := ⟨hx, hb, hml, hown, hts⟩
  have hl : lv_has ls 7 [(0, .ref o), (1, .int x1), (2, .int x2)] := hl
  refine g_open (A := A) (OM D aC o ad z) hO (fun H locs hO hS => ?_)
  unfold FX2_gone at h
  refine lv_iload_n hx hb dX2_gone_0 rfl (lv_at hl 1 rfl) ?_
  refine lv_iconst (v := 0) hx hb dX2_gone_1 (by decide) ?_
  refine lv_bipush (v := 12) hx hb dX2_gone_2 (by decide) ?_
  refine clX2_isIn hf (metX2_isIn l x1 0 12 _ rfl) q1675 hl.1 (Nat.le_of_ble_eq_true rfl) ⟨Nat.le_of_ble_eq_true rfl, Nat.le_of_ble_eq_true rfl⟩ ⟨Nat.le_of_ble_eq_true rfl, Nat.le_of_ble_eq_true rfl⟩ dX2_gone_4 ?_
  refine lv_if_eq (tgt := 24) hx hb dX2_gone_7 (by decide) (fun c1 => ?_) (fun c1 => ?_)
  · have h := it_t c1 h
    refine lv_iconst (v := (-1)) hx hb dX2_gone_24 (by decide) ?_
    obtain ⟨e8, rfl⟩ := Prod.mk.inj (Option.some.inj h)
    exact g_retG hx hb hr hlocks e8 hO hS dX2_gone_25
  · have h := it_f c1 h
    refine lv_iload_n hx hb dX2_gone_10 rfl (lv_at hl 2 rfl) ?_
    refine lv_iconst (v := (-1)) hx hb dX2_gone_11 (by decide) ?_
    refine lv_aload_n hx hb dX2_gone_12 rfl (lv_at hl 0 rfl) ?_
    refine X2_getF hx hb hts hown hK hO 2 (by decide) rfl (hts _ q1539) dX2_gone_13 ?_
    refine lv_iconst (v := 1) hx hb dX2_gone_16 (by decide) ?_
    refine lv_isub hx hb dX2_gone_17 ?_
    refine clX2_isIn hf (metX2_isIn l x2 (-1) ((gF z 2) - 1) _ rfl) q1675 hl.1 (Nat.le_of_ble_eq_true rfl) ⟨Nat.le_of_ble_eq_true rfl, Nat.le_of_ble_eq_true rfl⟩ ⟨Nat.le_of_ble_eq_true rfl, Nat.le_of_ble_eq_true rfl⟩ dX2_gone_18 ?_
    refine lv_if_ne (tgt := 26) hx hb dX2_gone_21 (by decide) (fun c2 => ?_) (fun c2 => ?_)
    · have h := it_f c2 h
      refine lv_iload_n hx hb dX2_gone_26 rfl (lv_at hl 2 rfl) ?_
      refine lv_iconst (v := (-1)) hx hb dX2_gone_27 (by decide) ?_
      refine lv_icmp_eq (tgt := 38) hx hb dX2_gone_28 (by decide) (fun c3 => ?_) (fun c3 => ?_)
      · have h := it_t c3 h
        refine lv_bipush (v := (-2)) hx hb dX2_gone_38 (by decide) ?_
        refine lv_istore_n (lv' := [(3, .int (-2)), (0, .ref o), (1, .int x1), (2, .int x2)]) hx hb dX2_gone_40 rfl hl (by decide) rfl (fun ls hl => ?_)
        refine lv_iconst (v := (-1)) hx hb dX2_gone_41 (by decide) ?_
        refine lv_istore (lv' := [(4, .int (-1)), (3, .int (-2)), (0, .ref o), (1, .int x1), (2, .int x2)]) hx hb dX2_gone_42 hl (by decide) rfl (fun ls hl => ?_)
        refine lv_iconst (v := 0) hx hb dX2_gone_44 (by decide) ?_
        refine lv_istore (lv' := [(5, .int 0), (4, .int (-1)), (3, .int (-2)), (0, .ref o), (1, .int x1), (2, .int x2)]) hx hb dX2_gone_45 hl (by decide) rfl (fun ls hl => ?_)
        have key14 : ∀ (f : Nat) (v3 : Int32) (v4 : Int32) (v5 : Int32) (z : GS) (H : Heap) (locs : List Loc) (ls : Array Slot), FX2_gone_L47 x1 f v3 v4 v5 z = some (r, zq) → OM D aC o ad z H → va_S A s.heap H locs → lv_has ls 7 [(0, .ref o), (1, .int x1), (3, .int v3), (4, .int v4), (5, .int v5)] → W p l e ({ frames := 60, cells := 0, slots := 0, locals := 1368 }) s m ([.ref o, .int x1, .int x2] : List Value).toArray below meth c H locs 0 0 (MQ below (QG (some (.int r)) (OM D aC o ad zq) A) ([.ref o, .int x1, .int x2] : List Value).toArray s 0 0 A) (F0 m 47 ls []) := by
          intro f
          induction f with
          | zero =>
            intro v3 v4 v5 z H locs ls h
            rw [FX2_gone_L47] at h
            cases h
          | succ f ih4 =>
            intro v3 v4 v5 z H locs ls h hO hS hl
            rw [FX2_gone_L47] at h
            refine lv_iload hx hb dX2_gone_47 (lv_at hl 4 rfl) ?_
            refine lv_aload_n hx hb dX2_gone_49 rfl (lv_at hl 0 rfl) ?_
            refine X2_getF hx hb hts hown hK hO 2 (by decide) rfl (hts _ q1539) dX2_gone_50 ?_
            refine lv_icmp_ge (tgt := 94) hx hb dX2_gone_53 (by decide) (fun c5 => ?_) (fun c5 => ?_)
            · have h := it_t c5 h
              refine lv_iload_n hx hb dX2_gone_94 rfl (lv_at hl 2 rfl) ?_
              obtain ⟨e8, rfl⟩ := Prod.mk.inj (Option.some.inj h)
              exact g_retG hx hb hr hlocks e8 hO hS dX2_gone_95
            · have h := it_f c5 h
              refine lv_aload_n hx hb dX2_gone_56 rfl (lv_at hl 0 rfl) ?_
              refine lv_iload_n hx hb dX2_gone_57 rfl (lv_at hl 1 rfl) ?_
              refine lv_iload hx hb dX2_gone_58 (lv_at hl 4 rfl) ?_
              obtain ⟨r6, z7, e8, h⟩ := bnd_e h
              refine clX2_lackBut hf hK hO hS (metX2_lackBut l D aC o ad A hD x1 v5 z r6 z7 e8) q1871 hl.1 (Nat.le_of_ble_eq_true rfl) ⟨Nat.le_of_ble_eq_true rfl, Nat.le_of_ble_eq_true rfl⟩ ⟨Nat.le_of_ble_eq_true rfl, Nat.le_of_ble_eq_true rfl⟩ dX2_gone_60 (fun H locs hO hS => ?_)
              refine lv_istore (lv' := [(6, .int r6), (0, .ref o), (1, .int x1), (3, .int v3), (4, .int v4), (5, .int v5)]) hx hb dX2_gone_63 hl (by decide) rfl (fun ls hl => ?_)
              refine lv_iload hx hb dX2_gone_65 (lv_at hl 0 rfl) ?_
              refine lv_iload hx hb dX2_gone_67 (lv_at hl 4 rfl) ?_
              obtain ⟨k10, e12, h⟩ := pin_nm2 h
              have hk10 : ∀ (u9 : Int32) (ls : Array Slot), k10 u9 = some (r, zq) → lv_has ls 7 [(0, .ref o), (1, .int x1), (4, .int v4), (5, .int v5), (6, .int r6)] → W p l e ({ frames := 60, cells := 0, slots := 0, locals := 1368 }) s m ([.ref o, .int x1, .int x2] : List Value).toArray below meth c H locs 0 0 (MQ below (QG (some (.int r)) (OM D aC o ad zq) A) ([.ref o, .int x1, .int x2] : List Value).toArray s 0 0 A) (F0 m 78 ls [.int u9]) := by
                intro u9 ls h hl
                rw [e12] at h
                refine lv_istore_n (lv' := [(3, .int u9), (0, .ref o), (1, .int x1), (4, .int v4), (5, .int v5), (6, .int r6)]) hx hb dX2_gone_78 rfl hl (by decide) rfl (fun ls hl => ?_)
                refine lv_iload hx hb dX2_gone_79 (lv_at hl 5 rfl) ?_
                refine lv_iload hx hb dX2_gone_81 (lv_at hl 3 rfl) ?_
                refine g_mmax hx hb (hml.trans hl.1.symm) hown (hts _ q1791) (hts _ q666) (hts _ q106) (hts _ q667) (Nat.le_of_ble_eq_true rfl) (Nat.le_of_ble_eq_true rfl) (Nat.le_refl _) (Nat.le_refl _) dX2_gone_83 ?_
                refine lv_topi (fun y11 ey11 => ?_)
                have h := pin_to ey11 h
                refine lv_istore (lv' := [(4, .int y11), (3, .int u9), (0, .ref o), (1, .int x1), (5, .int v5), (6, .int r6)]) hx hb dX2_gone_86 hl (by decide) rfl (fun ls hl => ?_)
                refine lv_iinc (v := (v5 + 1)) (lv' := [(5, .int (v5 + 1)), (4, .int y11), (3, .int u9), (0, .ref o), (1, .int x1), (6, .int r6)]) hx hb dX2_gone_88 hl (k := 4) rfl rfl (by decide) rfl (fun ls hl => ?_)
                refine lv_goto (tgt := 47) hx hb dX2_gone_91 (by decide) ?_
                exact ih4 _ _ _ _ _ _ _ h hO hS (lv_sub hl [3, 4, 2, 1, 0] rfl)
              refine lv_icmp_le (tgt := 77) hx hb dX2_gone_69 (by decide) (fun c13 => ?_) (fun c13 => ?_)
              · have h := pt_t (k := k10) c13 h
                refine lv_iload_n hx hb dX2_gone_77 rfl (lv_at hl 3 rfl) ?_
                exact hk10 _ _ h (lv_sub hl [1, 2, 4, 5, 0] rfl)
              · have h := pt_f (k := k10) c13 h
                refine lv_iload hx hb dX2_gone_72 (lv_at hl 5 rfl) ?_
                refine lv_goto (tgt := 78) hx hb dX2_gone_74 (by decide) ?_
                exact hk10 _ _ h (lv_sub hl [1, 2, 4, 5, 0] rfl)
        exact key14 FU _ _ _ _ _ _ _ h hO hS (lv_sub hl [3, 4, 2, 1, 0] rfl)
      · have h := it_f c3 h
        refine lv_aload_n hx hb dX2_gone_31 rfl (lv_at hl 0 rfl) ?_
        refine lv_iload_n hx hb dX2_gone_32 rfl (lv_at hl 1 rfl) ?_
        refine lv_iload_n hx hb dX2_gone_33 rfl (lv_at hl 2 rfl) ?_
        obtain ⟨r15, z16, e17, h⟩ := bnd_e h
        refine clX2_lackBut hf hK hO hS (metX2_lackBut l D aC o ad A hD x1 x2 z r15 z16 e17) q1871 hl.1 (Nat.le_of_ble_eq_true rfl) ⟨Nat.le_of_ble_eq_true rfl, Nat.le_of_ble_eq_true rfl⟩ ⟨Nat.le_of_ble_eq_true rfl, Nat.le_of_ble_eq_true rfl⟩ dX2_gone_34 (fun H locs hO hS => ?_)
        obtain ⟨e8, rfl⟩ := Prod.mk.inj (Option.some.inj h)
        exact g_retG hx hb hr hlocks e8 hO hS dX2_gone_37
    · have h := it_t c2 h
      refine lv_iconst (v := (-1)) hx hb dX2_gone_24 (by decide) ?_
      obtain ⟨e8, rfl⟩ := Prod.mk.inj (Option.some.inj h)
      exact g_retG hx hb hr hlocks e8 hO hS dX2_gone_25
theorem clX2_gone {p : Program} {l : Launch} {e : Env} {R : Room} {s : State} {m : MethodId} {args : Array Value} {below : List Frame} {meth : Method} {c : Code} {H : Heap} {locs : List Loc} {cells slots : Nat} {Q : State → Prop} {cc : ByteArray} {pc nL idx fr lo : Nat} {ls : Array Slot} {rest : List Value} {own : String} {D : va_G} {aC : Nat → ClassId} {o : Nat} {ad : Nat → Nat} {z : GS} {zq : GS} {A : Nat → Prop} {x1 : Int32} {x2 : Int32} {r : Int32} (hf : CallFix p m c cc nL s args lw_all own) (hK : va_K D vwCl (tysG aC) s) (hO : OM D aC o ad z H) (hS : va_S A s.heap H locs) (hM : Met l yX2_gone (ws_ yX2_gone cX2_gone 7 (some .int)) ({ frames := fr, cells := 0, slots := 0, locals := lo }) (va_Pc [.ref o, .int x1, .int x2] (PM D aC o ad z)) (QG (some (.int r)) (OM D aC o ad zq) A) 0 0 A) (hq : Cond.methodLink own idx yX2_gone ∈ lw_all) (hs : ls.size = nL) (hr : (rest.map fun v => v.category).sum ≤ 8) (hR : fr + 1 ≤ R.frames ∧ 8 + (7 + 11) + lo ≤ R.locals) (hcs : cells + 0 ≤ R.cells ∧ slots + 0 ≤ R.slots) (hd : decode cc pc = .ok (.invokevirtual idx, 3)) (kk : ∀ (H1 : Heap) (locs1 : List Loc), OM D aC o ad zq H1 → va_S A s.heap H1 locs1 → W p l e R s m args below meth c H1 locs1 cells slots Q (F0 m (pc + 3) ls (.int r :: rest))) : W p l e R s m args below meth c H locs cells slots Q (F0 m pc ls (.int x2 :: .int x1 :: .ref o :: rest)) :=
  g_callG (W.runV (As := [.int x1, .int x2]) (rest := rest) hf hM (cwV 2 hf.2.2.2.2 (lw_V hq q1868 q1869 q92 q1870) rfl rfl rfl (by decide +kernel) hR) ⟨fun a U g mk q => ⟨q.1, q.2.1, va_K.moved (u := U) (U := U.calling g mk a) (Vm.Alike.refl U.vm) q.2.2⟩, OA.recv hK hO rfl, fun U hU hW => ⟨rfl, by rw [hU]; exact hO, va_K.moved hW.alike hK⟩⟩ rfl rfl hs rfl (lv_room hr) hd hcs) hS (fun H1 locs1 hP hS _ _ => kk H1 locs1 hP hS)
theorem metX2_isShelf (l : Launch) (x1 : Int32)  (r : Int32) (h : FX2_isShelf x1 = r) : Met l yX2_isShelf (ws_ yX2_isShelf cX2_isShelf 1 (some .boolean)) ({ frames := 1, cells := 0, slots := 0, locals := 22 }) (va_Pc [.int x1] (fun _ => True)) (QR (some (.int r))) 0 0 (fun _ => False) := by
  refine g_ofW (cc := cX2_isShelf) (maxL := 1) (ret := (some .boolean)) (own := RX2) (by decide) rfl rfl [.int x1] (fun _ => True) (Nat.le_of_ble_eq_true rfl) ?_
  intro p e s m below meth c ls hx hb hr hml hts hown hlocks hnm hPre hl
  have hf : CallFix p m c cX2_isShelf 1 s _ lw_all RX2 := ⟨hx, hb, hml, hown, hts⟩
  have hl : lv_has ls 1 [(0, .int x1)] := hl
  unfold FX2_isShelf at h
  refine lv_iload_n hx hb dX2_isShelf_0 rfl (lv_at hl 0 rfl) ?_
  refine lv_iconst (v := 0) hx hb dX2_isShelf_1 (by decide) ?_
  refine lv_iconst (v := 5) hx hb dX2_isShelf_2 (by decide) ?_
  refine clX2_isIn hf (metX2_isIn l x1 0 5 _ rfl) q1675 hl.1 (Nat.le_of_ble_eq_true rfl) ⟨Nat.le_of_ble_eq_true rfl, Nat.le_of_ble_eq_true rfl⟩ ⟨Nat.le_of_ble_eq_true rfl, Nat.le_of_ble_eq_true rfl⟩ dX2_isShelf_3 ?_
  exact g_retRz hx hb hr hlocks (bzX2_isIn ..) h dX2_isShelf_6
theorem bzX2_isShelf (x1 : Int32)  : okZ (FX2_isShelf x1) := by
  unfold FX2_isShelf
  repeat' split
  all_goals first | exact Or.inl rfl | exact Or.inr rfl | exact bzX2_isIn ..
theorem clX2_isShelf {p : Program} {l : Launch} {e : Env} {R : Room} {s : State} {m : MethodId} {args : Array Value} {below : List Frame} {meth : Method} {c : Code} {H : Heap} {locs : List Loc} {cells slots : Nat} {Q : State → Prop} {cc : ByteArray} {pc nL idx fr lo : Nat} {ls : Array Slot} {rest : List Value} {own : String}  {x1 : Int32} {r : Int32} (hf : CallFix p m c cc nL s args lw_all own) (hM : Met l yX2_isShelf (ws_ yX2_isShelf cX2_isShelf 1 (some .boolean)) ({ frames := fr, cells := 0, slots := 0, locals := lo }) (va_Pc [.int x1] (fun _ => True)) (QR (some (.int r))) 0 0 (fun _ => False)) (hq : Cond.methodLink own idx yX2_isShelf ∈ lw_all) (hs : ls.size = nL) (hr : (rest.map fun v => v.category).sum ≤ 8) (hR : fr + 1 ≤ R.frames ∧ 8 + (1 + 11) + lo ≤ R.locals) (hcs : cells + 0 ≤ R.cells ∧ slots + 0 ≤ R.slots) (hd : decode cc pc = .ok (.invokestatic idx, 3)) (kk : W p l e R s m args below meth c H locs cells slots Q (F0 m (pc + 3) ls (.int r :: rest))) : W p l e R s m args below meth c H locs cells slots Q (F0 m pc ls (.int x1 :: rest)) :=
  g_callR (W.runS (As := [.int x1]) (rest := rest) hf hM (va_cwS 1 hf.2.2.2.2 (lw_S hq q1880 q92 q1881) rfl rfl rfl (by decide +kernel) hR) ⟨fun a U g mk q => q, fun U hU hW => ⟨rfl, trivial⟩⟩ rfl rfl hs rfl (lv_room hr) hd hcs) kk
theorem metX2_byteAt (l : Launch) (D : va_G) (aC : Nat → ClassId) (o : Nat) (ad : Nat → Nat) (x1 : Int32) (x2 : Int32) (z : GS) (r : Int32) (h : FX2_byteAt x1 x2 z = some r) : Met l yX2_byteAt (ws_ yX2_byteAt cX2_byteAt 3 (some .int)) ({ frames := 0, cells := 0, slots := 0, locals := 0 }) (va_Pc [.ref o, .int x1, .int x2] (PM D aC o ad z)) (QR (some (.int r))) 0 0 (fun _ => False) := by
  refine g_ofW (cc := cX2_byteAt) (maxL := 3) (ret := (some .int)) (own := RX2) (by decide) rfl rfl [.ref o, .int x1, .int x2] (PM D aC o ad z) (Nat.le_of_ble_eq_true rfl) ?_
  intro p e s m below meth c ls hx hb hr hml hts hown hlocks hnm hPre hl
  obtain ⟨hO, hK⟩ := hPre
  have hf : CallFix p m c cX2_byteAt 3 s _ lw_all RX2 := ⟨hx, hb, hml, hown, hts⟩
  have hl : lv_has ls 3 [(0, .ref o), (1, .int x1), (2, .int x2)] := hl
  unfold FX2_byteAt at h
  refine lv_iload_n hx hb dX2_byteAt_0 rfl (lv_at hl 2 rfl) ?_
  refine lv_aload_n hx hb dX2_byteAt_1 rfl (lv_at hl 0 rfl) ?_
  refine X2_getA hx hb hts hown hK hO 29 (by decide) rfl (hts _ q1566) dX2_byteAt_2 ?_
  refine lv_iload_n hx hb dX2_byteAt_5 rfl (lv_at hl 1 rfl) ?_
  obtain ⟨g1, h⟩ := grd h
  refine X2_iaload hx hb hK hO 29 (by decide) rfl rfl g1 dX2_byteAt_6 ?_
  refine lv_icmp_ge (tgt := 25) hx hb dX2_byteAt_7 (by decide) (fun c2 => ?_) (fun c2 => ?_)
  · have h := it_t c2 h
    refine lv_iconst (v := (-1)) hx hb dX2_byteAt_25 (by decide) ?_
    exact g_retR hx hb hr hlocks (Option.some.inj h) dX2_byteAt_26
  · have h := it_f c2 h
    refine lv_aload_n hx hb dX2_byteAt_10 rfl (lv_at hl 0 rfl) ?_
    refine X2_getA hx hb hts hown hK hO 30 (by decide) rfl (hts _ q1567) dX2_byteAt_11 ?_
    refine lv_bipush (v := 60) hx hb dX2_byteAt_14 (by decide) ?_
    refine lv_iload_n hx hb dX2_byteAt_16 rfl (lv_at hl 1 rfl) ?_
    refine lv_imul hx hb dX2_byteAt_17 ?_
    refine lv_iload_n hx hb dX2_byteAt_18 rfl (lv_at hl 2 rfl) ?_
    refine lv_iadd hx hb dX2_byteAt_19 ?_
    obtain ⟨g3, h⟩ := grd h
    refine X2_laload hx hb hK hO 30 (by decide) rfl rfl g3 dX2_byteAt_20 ?_
    refine lv_l2i (v := ((gJ z 30 ((60 * x1) + x2)).toInt32)) hx hb dX2_byteAt_21 rfl ?_
    refine lv_goto (tgt := 26) hx hb dX2_byteAt_22 (by decide) ?_
    exact g_retR hx hb hr hlocks (Option.some.inj h) dX2_byteAt_26
theorem clX2_byteAt {p : Program} {l : Launch} {e : Env} {R : Room} {s : State} {m : MethodId} {args : Array Value} {below : List Frame} {meth : Method} {c : Code} {H : Heap} {locs : List Loc} {cells slots : Nat} {Q : State → Prop} {cc : ByteArray} {pc nL idx fr lo : Nat} {ls : Array Slot} {rest : List Value} {own : String} {D : va_G} {aC : Nat → ClassId} {o : Nat} {ad : Nat → Nat} {z : GS} {x1 : Int32} {x2 : Int32} {r : Int32} (hf : CallFix p m c cc nL s args lw_all own) (hK : va_K D vwCl (tysG aC) s) (hO : OM D aC o ad z H) (hM : Met l yX2_byteAt (ws_ yX2_byteAt cX2_byteAt 3 (some .int)) ({ frames := fr, cells := 0, slots := 0, locals := lo }) (va_Pc [.ref o, .int x1, .int x2] (PM D aC o ad z)) (QR (some (.int r))) 0 0 (fun _ => False)) (hq : Cond.methodLink own idx yX2_byteAt ∈ lw_all) (hs : ls.size = nL) (hr : (rest.map fun v => v.category).sum ≤ 8) (hR : fr + 1 ≤ R.frames ∧ 8 + (3 + 11) + lo ≤ R.locals) (hcs : cells + 0 ≤ R.cells ∧ slots + 0 ≤ R.slots) (hd : decode cc pc = .ok (.invokevirtual idx, 3)) (kk : W p l e R s m args below meth c H locs cells slots Q (F0 m (pc + 3) ls (.int r :: rest))) : W p l e R s m args below meth c H locs cells slots Q (F0 m pc ls (.int x2 :: .int x1 :: .ref o :: rest)) :=
  g_callR (W.runV (As := [.int x1, .int x2]) (rest := rest) hf hM (cwV 2 hf.2.2.2.2 (lw_V hq q1886 qs81 q92 q1887) rfl rfl rfl (by decide +kernel) hR) ⟨fun a U g mk q => ⟨q.1, q.2.1, va_K.moved (u := U) (U := U.calling g mk a) (Vm.Alike.refl U.vm) q.2.2⟩, OA.recv hK hO rfl, fun U hU hW => ⟨rfl, by rw [hU]; exact hO, va_K.moved hW.alike hK⟩⟩ rfl rfl hs rfl (lv_room hr) hd hcs) kk
theorem metX2_people (l : Launch) (D : va_G) (aC : Nat → ClassId) (o : Nat) (ad : Nat → Nat) (A : Nat → Prop) (hD : OD A 44 kdM o ad) (x1 : Int32) (x2 : Int32) (x3 : Int32) (z : GS) (r : Int32) (zq : GS) (h : FX2_people x1 x2 x3 z = some (r, zq)) : Met l yX2_people (ws_ yX2_people cX2_people 11 (some .int)) ({ frames := 2, cells := 0, slots := 0, locals := 47 }) (va_Pc [.ref o, .int x1, .int x2, .int x3] (PM D aC o ad z)) (QG (some (.int r)) (OM D aC o ad zq) A) 0 0 A := by
  refine g_ofW (cc := cX2_people) (maxL := 11) (ret := (some .int)) (own := RX2) (by decide) rfl rfl [.ref o, .int x1, .int x2, .int x3] (PM D aC o ad z) (Nat.le_of_ble_eq_true rfl) ?_
  intro p e s m below meth c ls hx hb hr hml hts hown hlocks hnm hPre hl
  obtain ⟨hO, hK⟩ := hPre
  have hf : CallFix p m c cX2_people 11 s _ lw_all RX2 := ⟨hx, hb, hml, hown, hts⟩
  have hl : lv_has ls 11 [(0, .ref o), (1, .int x1), (2, .int x2), (3, .int x3)] := hl
  refine g_open (A := A) (OM D aC o ad z) hO (fun H locs hO hS => ?_)
  unfold FX2_people at h
  refine lv_iload_n hx hb dX2_people_0 rfl (lv_at hl 1 rfl) ?_
  refine clX2_isShelf hf (metX2_isShelf l x1 _ rfl) q1879 hl.1 (Nat.le_of_ble_eq_true rfl) ⟨Nat.le_of_ble_eq_true rfl, Nat.le_of_ble_eq_true rfl⟩ ⟨Nat.le_of_ble_eq_true rfl, Nat.le_of_ble_eq_true rfl⟩ dX2_people_1 ?_
  refine lv_if_eq (tgt := 17) hx hb dX2_people_4 (by decide) (fun c1 => ?_) (fun c1 => ?_)
  · have h := it_t c1 h
    refine lv_iconst (v := (-1)) hx hb dX2_people_17 (by decide) ?_
    obtain ⟨e8, rfl⟩ := Prod.mk.inj (Option.some.inj h)
    exact g_retG hx hb hr hlocks e8 hO hS dX2_people_18
  · have h := it_f c1 h
    refine lv_iload_n hx hb dX2_people_7 rfl (lv_at hl 3 rfl) ?_
    refine lv_iconst (v := 1) hx hb dX2_people_8 (by decide) ?_
    refine lv_bipush (v := 8) hx hb dX2_people_9 (by decide) ?_
    refine clX2_isIn hf (metX2_isIn l x3 1 8 _ rfl) q1675 hl.1 (Nat.le_of_ble_eq_true rfl) ⟨Nat.le_of_ble_eq_true rfl, Nat.le_of_ble_eq_true rfl⟩ ⟨Nat.le_of_ble_eq_true rfl, Nat.le_of_ble_eq_true rfl⟩ dX2_people_11 ?_
    refine lv_if_ne (tgt := 19) hx hb dX2_people_14 (by decide) (fun c2 => ?_) (fun c2 => ?_)
    · have h := it_f c2 h
      refine lv_aload_n hx hb dX2_people_19 rfl (lv_at hl 0 rfl) ?_
      refine X2_getA hx hb hts hown hK hO 28 (by decide) rfl (hts _ q1565) dX2_people_20 ?_
      refine lv_iload_n hx hb dX2_people_23 rfl (lv_at hl 1 rfl) ?_
      obtain ⟨g3, h⟩ := grd h
      refine X2_iaload hx hb hK hO 28 (by decide) rfl rfl g3 dX2_people_24 ?_
      refine lv_if_le (tgt := 31) hx hb dX2_people_25 (by decide) (fun c4 => ?_) (fun c4 => ?_)
      · have h := it_t c4 h
        refine lv_iconst (v := 0) hx hb dX2_people_31 (by decide) ?_
        refine lv_istore (lv' := [(4, .int 0), (0, .ref o), (1, .int x1), (2, .int x2), (3, .int x3)]) hx hb dX2_people_32 hl (by decide) rfl (fun ls hl => ?_)
        refine lv_iconst (v := 0) hx hb dX2_people_34 (by decide) ?_
        refine lv_istore (lv' := [(5, .int 0), (4, .int 0), (0, .ref o), (1, .int x1), (2, .int x2), (3, .int x3)]) hx hb dX2_people_35 hl (by decide) rfl (fun ls hl => ?_)
        have key31 : ∀ (f : Nat) (v4 : Int32) (v5 : Int32) (z : GS) (H : Heap) (locs : List Loc) (ls : Array Slot), FX2_people_L37 x1 x2 x3 f v4 v5 z = some (r, zq) → OM D aC o ad z H → va_S A s.heap H locs → lv_has ls 11 [(0, .ref o), (1, .int x1), (2, .int x2), (3, .int x3), (4, .int v4), (5, .int v5)] → W p l e ({ frames := 2, cells := 0, slots := 0, locals := 47 }) s m ([.ref o, .int x1, .int x2, .int x3] : List Value).toArray below meth c H locs 0 0 (MQ below (QG (some (.int r)) (OM D aC o ad zq) A) ([.ref o, .int x1, .int x2, .int x3] : List Value).toArray s 0 0 A) (F0 m 37 ls []) := by
          intro f
          induction f with
          | zero =>
            intro v4 v5 z H locs ls h
            rw [FX2_people_L37] at h
            cases h
          | succ f ih5 =>
            intro v4 v5 z H locs ls h hO hS hl
            rw [FX2_people_L37] at h
            refine lv_iload hx hb dX2_people_37 (lv_at hl 5 rfl) ?_
            refine lv_iload_n hx hb dX2_people_39 rfl (lv_at hl 3 rfl) ?_
            refine lv_icmp_ge (tgt := 188) hx hb dX2_people_40 (by decide) (fun c6 => ?_) (fun c6 => ?_)
            · have h := it_t c6 h
              refine lv_iload hx hb dX2_people_188 (lv_at hl 4 rfl) ?_
              obtain ⟨e8, rfl⟩ := Prod.mk.inj (Option.some.inj h)
              exact g_retG hx hb hr hlocks e8 hO hS dX2_people_190
            · have h := it_f c6 h
              refine lv_iload hx hb dX2_people_43 (lv_at hl 4 rfl) ?_
              refine lv_iload hx hb dX2_people_45 (lv_at hl 5 rfl) ?_
              refine lv_icmp_ne (tgt := 188) hx hb dX2_people_47 (by decide) (fun c7 => ?_) (fun c7 => ?_)
              · have h := it_f c7 h
                refine lv_iload hx hb dX2_people_188 (lv_at hl 4 rfl) ?_
                obtain ⟨e8, rfl⟩ := Prod.mk.inj (Option.some.inj h)
                exact g_retG hx hb hr hlocks e8 hO hS dX2_people_190
              · have h := it_t c7 h
                refine lv_aload_n hx hb dX2_people_50 rfl (lv_at hl 0 rfl) ?_
                refine X2_getF hx hb hts hown hK hO 2 (by decide) rfl (hts _ q1539) dX2_people_51 ?_
                refine lv_bipush (v := 8) hx hb dX2_people_54 (by decide) ?_
                refine lv_icmp_ge (tgt := 188) hx hb dX2_people_56 (by decide) (fun c8 => ?_) (fun c8 => ?_)
                · have h := it_t c8 h
                  refine lv_iload hx hb dX2_people_188 (lv_at hl 4 rfl) ?_
                  obtain ⟨e8, rfl⟩ := Prod.mk.inj (Option.some.inj h)
                  exact g_retG hx hb hr hlocks e8 hO hS dX2_people_190
                · have h := it_f c8 h
                  refine lv_iload_n hx hb dX2_people_59 rfl (lv_at hl 2 rfl) ?_
                  refine lv_i2l (v := (x2.toInt64)) hx hb dX2_people_60 rfl ?_
                  refine lv_ldc2 (v := 3) hx hb hown (hts _ q1882) dX2_people_61 ?_
                  refine lv_iload hx hb dX2_people_64 (lv_at hl 5 rfl) ?_
                  refine lv_i2l (v := (v5.toInt64)) hx hb dX2_people_66 rfl ?_
                  refine lv_lmul hx hb dX2_people_67 ?_
                  refine lv_ladd hx hb dX2_people_68 ?_
                  refine lv_topl (fun y9 ey9 => ?_)
                  have h := pin_to ey9 h
                  refine lv_lstore (lv' := [(6, .long y9), (0, .ref o), (1, .int x1), (2, .int x2), (3, .int x3), (4, .int v4), (5, .int v5)]) hx hb dX2_people_69 hl (by decide) rfl (fun ls hl => ?_)
                  refine lv_aload_n hx hb dX2_people_71 rfl (lv_at hl 1 rfl) ?_
                  refine X2_getA hx hb hts hown hK hO 28 (by decide) rfl (hts _ q1565) dX2_people_72 ?_
                  refine lv_iload_n hx hb dX2_people_75 rfl (lv_at hl 2 rfl) ?_
                  obtain ⟨g10, h⟩ := grd h
                  refine X2_iaload hx hb hK hO 28 (by decide) rfl rfl g10 dX2_people_76 ?_
                  obtain ⟨k11, e30, h⟩ := pin_nm h
                  have hk11 : ∀ (v12 : Int32) (z13 : GS) (H : Heap) (locs : List Loc) (ls : Array Slot), k11 v12 z13 = some (r, zq) → OM D aC o ad z13 H → va_S A s.heap H locs → lv_has ls 11 [(0, .ref o), (1, .int x1), (2, .int x2), (3, .int x3), (4, .int v12), (5, .int v5)] → W p l e ({ frames := 2, cells := 0, slots := 0, locals := 47 }) s m ([.ref o, .int x1, .int x2, .int x3] : List Value).toArray below meth c H locs 0 0 (MQ below (QG (some (.int r)) (OM D aC o ad zq) A) ([.ref o, .int x1, .int x2, .int x3] : List Value).toArray s 0 0 A) (F0 m 182 ls []) := by
                    intro v12 z13 H locs ls h hO hS hl
                    rw [e30] at h
                    refine lv_iinc (v := (v5 + 1)) (lv' := [(5, .int (v5 + 1)), (0, .ref o), (1, .int x1), (2, .int x2), (3, .int x3), (4, .int v12)]) hx hb dX2_people_182 hl (k := 5) rfl rfl (by decide) rfl (fun ls hl => ?_)
                    refine lv_goto (tgt := 37) hx hb dX2_people_185 (by decide) ?_
                    exact ih5 _ _ _ _ _ _ h hO hS (lv_sub hl [1, 2, 3, 4, 5, 0] rfl)
                  refine lv_if_ne (tgt := 182) hx hb dX2_people_77 (by decide) (fun c14 => ?_) (fun c14 => ?_)
                  · have h := it_f c14 h
                    exact hk11 _ _ _ _ _ h hO hS (lv_sub hl [1, 2, 3, 4, 5, 6] rfl)
                  · have h := it_t c14 h
                    refine lv_iload_n hx hb dX2_people_80 rfl (lv_at hl 3 rfl) ?_
                    refine lv_if_lt (tgt := 182) hx hb dX2_people_81 (by decide) (fun c15 => ?_) (fun c15 => ?_)
                    · have h := it_t c15 h
                      exact hk11 _ _ _ _ _ h hO hS (lv_sub hl [1, 2, 3, 4, 5, 6] rfl)
                    · have h := it_f c15 h
                      refine lv_lload hx hb dX2_people_84 (lv_at hl 0 rfl) ?_
                      refine lv_ldc2 (v := 2) hx hb hown (hts _ q1883) dX2_people_86 ?_
                      refine lv_ladd hx hb dX2_people_89 ?_
                      refine lv_aload_n hx hb dX2_people_90 rfl (lv_at hl 1 rfl) ?_
                      refine X2_getA hx hb hts hown hK hO 29 (by decide) rfl (hts _ q1566) dX2_people_91 ?_
                      refine lv_iload_n hx hb dX2_people_94 rfl (lv_at hl 2 rfl) ?_
                      obtain ⟨g16, h⟩ := grd h
                      refine X2_iaload hx hb hK hO 29 (by decide) rfl rfl g16 dX2_people_95 ?_
                      refine lv_i2l (v := ((gI z 29 x1).toInt64)) hx hb dX2_people_96 rfl ?_
                      refine W.lcmp hx hb dX2_people_97 ?_
                      refine lv_if_ge (tgt := 182) hx hb dX2_people_98 (by decide) (fun c17 => ?_) (fun c17 => ?_)
                      · have h := it_t c17 h
                        exact hk11 _ _ _ _ _ h hO hS (lv_sub hl [1, 2, 3, 4, 5, 6] rfl)
                      · have h := it_f c17 h
                        refine lv_aload_n hx hb dX2_people_101 rfl (lv_at hl 1 rfl) ?_
                        refine lv_iload_n hx hb dX2_people_102 rfl (lv_at hl 2 rfl) ?_
                        refine lv_lload hx hb dX2_people_103 (lv_at hl 0 rfl) ?_
                        refine lv_l2i (v := (y9.toInt32)) hx hb dX2_people_105 rfl ?_
                        obtain ⟨r18, e19, h⟩ := bn1_e h
                        refine clX2_byteAt hf hK hO (metX2_byteAt l D aC o ad x1 (y9.toInt32) z r18 e19) q1884 hl.1 (Nat.le_of_ble_eq_true rfl) ⟨Nat.le_of_ble_eq_true rfl, Nat.le_of_ble_eq_true rfl⟩ ⟨Nat.le_of_ble_eq_true rfl, Nat.le_of_ble_eq_true rfl⟩ dX2_people_106 ?_
                        refine lv_istore (lv' := [(8, .int r18), (6, .long y9), (0, .ref o), (1, .int x1), (2, .int x2), (3, .int x3), (4, .int v4), (5, .int v5)]) hx hb dX2_people_109 hl (by decide) rfl (fun ls hl => ?_)
                        refine lv_aload_n hx hb dX2_people_111 rfl (lv_at hl 2 rfl) ?_
                        refine lv_iload_n hx hb dX2_people_112 rfl (lv_at hl 3 rfl) ?_
                        refine lv_lload hx hb dX2_people_113 (lv_at hl 1 rfl) ?_
                        refine lv_l2i (v := (y9.toInt32)) hx hb dX2_people_115 rfl ?_
                        refine lv_iconst (v := 1) hx hb dX2_people_116 (by decide) ?_
                        refine lv_iadd hx hb dX2_people_117 ?_
                        obtain ⟨r20, e21, h⟩ := bn1_e h
                        refine clX2_byteAt hf hK hO (metX2_byteAt l D aC o ad x1 ((y9.toInt32) + 1) z r20 e21) q1884 hl.1 (Nat.le_of_ble_eq_true rfl) ⟨Nat.le_of_ble_eq_true rfl, Nat.le_of_ble_eq_true rfl⟩ ⟨Nat.le_of_ble_eq_true rfl, Nat.le_of_ble_eq_true rfl⟩ dX2_people_118 ?_
                        refine lv_istore (lv' := [(9, .int r20), (8, .int r18), (6, .long y9), (0, .ref o), (1, .int x1), (2, .int x2), (3, .int x3), (4, .int v4), (5, .int v5)]) hx hb dX2_people_121 hl (by decide) rfl (fun ls hl => ?_)
                        refine lv_aload_n hx hb dX2_people_123 rfl (lv_at hl 3 rfl) ?_
                        refine lv_iload_n hx hb dX2_people_124 rfl (lv_at hl 4 rfl) ?_
                        refine lv_lload hx hb dX2_people_125 (lv_at hl 2 rfl) ?_
                        refine lv_l2i (v := (y9.toInt32)) hx hb dX2_people_127 rfl ?_
                        refine lv_iconst (v := 2) hx hb dX2_people_128 (by decide) ?_
                        refine lv_iadd hx hb dX2_people_129 ?_
                        obtain ⟨r22, e23, h⟩ := bn1_e h
                        refine clX2_byteAt hf hK hO (metX2_byteAt l D aC o ad x1 ((y9.toInt32) + 2) z r22 e23) q1884 hl.1 (Nat.le_of_ble_eq_true rfl) ⟨Nat.le_of_ble_eq_true rfl, Nat.le_of_ble_eq_true rfl⟩ ⟨Nat.le_of_ble_eq_true rfl, Nat.le_of_ble_eq_true rfl⟩ dX2_people_130 ?_
                        refine lv_istore (lv' := [(10, .int r22), (9, .int r20), (8, .int r18), (6, .long y9), (0, .ref o), (1, .int x1), (2, .int x2), (3, .int x3), (4, .int v4), (5, .int v5)]) hx hb dX2_people_133 hl (by decide) rfl (fun ls hl => ?_)
                        refine lv_iload hx hb dX2_people_135 (lv_at hl 2 rfl) ?_
                        refine lv_iconst (v := 0) hx hb dX2_people_137 (by decide) ?_
                        refine lv_bipush (v := 35) hx hb dX2_people_138 (by decide) ?_
                        refine clX2_isIn hf (metX2_isIn l r18 0 35 _ rfl) q1675 hl.1 (Nat.le_of_ble_eq_true rfl) ⟨Nat.le_of_ble_eq_true rfl, Nat.le_of_ble_eq_true rfl⟩ ⟨Nat.le_of_ble_eq_true rfl, Nat.le_of_ble_eq_true rfl⟩ dX2_people_140 ?_
                        refine lv_if_eq (tgt := 182) hx hb dX2_people_143 (by decide) (fun c24 => ?_) (fun c24 => ?_)
                        · have h := it_t c24 h
                          exact hk11 _ _ _ _ _ h hO hS (lv_sub hl [4, 5, 6, 7, 8, 9] rfl)
                        · have h := it_f c24 h
                          refine lv_iload hx hb dX2_people_146 (lv_at hl 1 rfl) ?_
                          refine lv_iconst (v := 0) hx hb dX2_people_148 (by decide) ?_
                          refine lv_bipush (v := 9) hx hb dX2_people_149 (by decide) ?_
                          refine clX2_isIn hf (metX2_isIn l r20 0 9 _ rfl) q1675 hl.1 (Nat.le_of_ble_eq_true rfl) ⟨Nat.le_of_ble_eq_true rfl, Nat.le_of_ble_eq_true rfl⟩ ⟨Nat.le_of_ble_eq_true rfl, Nat.le_of_ble_eq_true rfl⟩ dX2_people_151 ?_
                          refine lv_if_eq (tgt := 182) hx hb dX2_people_154 (by decide) (fun c25 => ?_) (fun c25 => ?_)
                          · have h := it_t c25 h
                            exact hk11 _ _ _ _ _ h hO hS (lv_sub hl [4, 5, 6, 7, 8, 9] rfl)
                          · have h := it_f c25 h
                            refine lv_iload hx hb dX2_people_157 (lv_at hl 0 rfl) ?_
                            refine lv_iconst (v := 0) hx hb dX2_people_159 (by decide) ?_
                            refine lv_bipush (v := 9) hx hb dX2_people_160 (by decide) ?_
                            refine clX2_isIn hf (metX2_isIn l r22 0 9 _ rfl) q1675 hl.1 (Nat.le_of_ble_eq_true rfl) ⟨Nat.le_of_ble_eq_true rfl, Nat.le_of_ble_eq_true rfl⟩ ⟨Nat.le_of_ble_eq_true rfl, Nat.le_of_ble_eq_true rfl⟩ dX2_people_162 ?_
                            refine lv_if_eq (tgt := 182) hx hb dX2_people_165 (by decide) (fun c26 => ?_) (fun c26 => ?_)
                            · have h := it_t c26 h
                              exact hk11 _ _ _ _ _ h hO hS (lv_sub hl [4, 5, 6, 7, 8, 9] rfl)
                            · have h := it_f c26 h
                              refine lv_aload_n hx hb dX2_people_168 rfl (lv_at hl 4 rfl) ?_
                              refine lv_iload hx hb dX2_people_169 (lv_at hl 2 rfl) ?_
                              refine lv_iload hx hb dX2_people_171 (lv_at hl 1 rfl) ?_
                              refine lv_iload hx hb dX2_people_173 (lv_at hl 0 rfl) ?_
                              obtain ⟨r27, z28, e29, h⟩ := bnd_e h
                              refine clX2_add hf hK hO hS (metX2_add l D aC o ad A hD r18 r20 r22 z r27 z28 e29) q1678 hl.1 (Nat.le_of_ble_eq_true rfl) ⟨Nat.le_of_ble_eq_true rfl, Nat.le_of_ble_eq_true rfl⟩ ⟨Nat.le_of_ble_eq_true rfl, Nat.le_of_ble_eq_true rfl⟩ dX2_people_175 (fun H locs hO hS => ?_)
                              refine lv_pop hx hb dX2_people_178 rfl ?_
                              refine lv_iinc (v := (v4 + 1)) (lv' := [(4, .int (v4 + 1)), (10, .int r22), (9, .int r20), (8, .int r18), (6, .long y9), (0, .ref o), (1, .int x1), (2, .int x2), (3, .int x3), (5, .int v5)]) hx hb dX2_people_179 hl (k := 8) rfl rfl (by decide) rfl (fun ls hl => ?_)
                              exact hk11 _ _ _ _ _ h hO hS (lv_sub hl [5, 6, 7, 8, 0, 9] rfl)
        exact key31 FU _ _ _ _ _ _ h hO hS (lv_sub hl [2, 3, 4, 5, 1, 0] rfl)
      · have h := it_f c4 h
        refine lv_bipush (v := (-12)) hx hb dX2_people_28 (by decide) ?_
        obtain ⟨e8, rfl⟩ := Prod.mk.inj (Option.some.inj h)
        exact g_retG hx hb hr hlocks e8 hO hS dX2_people_30
    · have h := it_t c2 h
      refine lv_iconst (v := (-1)) hx hb dX2_people_17 (by decide) ?_
      obtain ⟨e8, rfl⟩ := Prod.mk.inj (Option.some.inj h)
      exact g_retG hx hb hr hlocks e8 hO hS dX2_people_18
theorem clX2_people {p : Program} {l : Launch} {e : Env} {R : Room} {s : State} {m : MethodId} {args : Array Value} {below : List Frame} {meth : Method} {c : Code} {H : Heap} {locs : List Loc} {cells slots : Nat} {Q : State → Prop} {cc : ByteArray} {pc nL idx fr lo : Nat} {ls : Array Slot} {rest : List Value} {own : String} {D : va_G} {aC : Nat → ClassId} {o : Nat} {ad : Nat → Nat} {z : GS} {zq : GS} {A : Nat → Prop} {x1 : Int32} {x2 : Int32} {x3 : Int32} {r : Int32} (hf : CallFix p m c cc nL s args lw_all own) (hK : va_K D vwCl (tysG aC) s) (hO : OM D aC o ad z H) (hS : va_S A s.heap H locs) (hM : Met l yX2_people (ws_ yX2_people cX2_people 11 (some .int)) ({ frames := fr, cells := 0, slots := 0, locals := lo }) (va_Pc [.ref o, .int x1, .int x2, .int x3] (PM D aC o ad z)) (QG (some (.int r)) (OM D aC o ad zq) A) 0 0 A) (hq : Cond.methodLink own idx yX2_people ∈ lw_all) (hs : ls.size = nL) (hr : (rest.map fun v => v.category).sum ≤ 8) (hR : fr + 1 ≤ R.frames ∧ 8 + (11 + 11) + lo ≤ R.locals) (hcs : cells + 0 ≤ R.cells ∧ slots + 0 ≤ R.slots) (hd : decode cc pc = .ok (.invokevirtual idx, 3)) (kk : ∀ (H1 : Heap) (locs1 : List Loc), OM D aC o ad zq H1 → va_S A s.heap H1 locs1 → W p l e R s m args below meth c H1 locs1 cells slots Q (F0 m (pc + 3) ls (.int r :: rest))) : W p l e R s m args below meth c H locs cells slots Q (F0 m pc ls (.int x3 :: .int x2 :: .int x1 :: .ref o :: rest)) :=
  g_callG (W.runV (As := [.int x1, .int x2, .int x3]) (rest := rest) hf hM (cwV 3 hf.2.2.2.2 (lw_V hq q1876 q1877 q92 q1878) rfl rfl rfl (by decide +kernel) hR) ⟨fun a U g mk q => ⟨q.1, q.2.1, va_K.moved (u := U) (U := U.calling g mk a) (Vm.Alike.refl U.vm) q.2.2⟩, OA.recv hK hO rfl, fun U hU hW => ⟨rfl, by rw [hU]; exact hO, va_K.moved hW.alike hK⟩⟩ rfl rfl hs rfl (lv_room hr) hd hcs) hS (fun H1 locs1 hP hS _ _ => kk H1 locs1 hP hS)
theorem metX2_bytesIn (l : Launch) (D : va_G) (aC : Nat → ClassId) (o : Nat) (ad : Nat → Nat) (x1 : Int32) (z : GS) (r : Int32) (h : FX2_bytesIn x1 z = some r) : Met l yX2_bytesIn (ws_ yX2_bytesIn cX2_bytesIn 2 (some .int)) ({ frames := 0, cells := 0, slots := 0, locals := 0 }) (va_Pc [.ref o, .int x1] (PM D aC o ad z)) (QR (some (.int r))) 0 0 (fun _ => False) := by
  refine g_ofW (cc := cX2_bytesIn) (maxL := 2) (ret := (some .int)) (own := RX2) (by decide) rfl rfl [.ref o, .int x1] (PM D aC o ad z) (Nat.le_of_ble_eq_true rfl) ?_
  intro p e s m below meth c ls hx hb hr hml hts hown hlocks hnm hPre hl
  obtain ⟨hO, hK⟩ := hPre
  have hf : CallFix p m c cX2_bytesIn 2 s _ lw_all RX2 := ⟨hx, hb, hml, hown, hts⟩
  have hl : lv_has ls 2 [(0, .ref o), (1, .int x1)] := hl
  unfold FX2_bytesIn at h
  refine lv_aload_n hx hb dX2_bytesIn_0 rfl (lv_at hl 0 rfl) ?_
  refine X2_getA hx hb hts hown hK hO 28 (by decide) rfl (hts _ q1565) dX2_bytesIn_1 ?_
  refine lv_iload_n hx hb dX2_bytesIn_4 rfl (lv_at hl 1 rfl) ?_
  obtain ⟨g1, h⟩ := grd h
  refine X2_iaload hx hb hK hO 28 (by decide) rfl rfl g1 dX2_bytesIn_5 ?_
  refine lv_iconst (v := (-1)) hx hb dX2_bytesIn_6 (by decide) ?_
  refine lv_icmp_ne (tgt := 15) hx hb dX2_bytesIn_7 (by decide) (fun c2 => ?_) (fun c2 => ?_)
  · have h := it_f c2 h
    refine lv_aload_n hx hb dX2_bytesIn_15 rfl (lv_at hl 0 rfl) ?_
    refine X2_getA hx hb hts hown hK hO 28 (by decide) rfl (hts _ q1565) dX2_bytesIn_16 ?_
    refine lv_iload_n hx hb dX2_bytesIn_19 rfl (lv_at hl 1 rfl) ?_
    obtain ⟨g3, h⟩ := grd h
    refine X2_iaload hx hb hK hO 28 (by decide) rfl rfl g3 dX2_bytesIn_20 ?_
    refine lv_if_eq (tgt := 29) hx hb dX2_bytesIn_21 (by decide) (fun c4 => ?_) (fun c4 => ?_)
    · have h := it_t c4 h
      refine lv_iconst (v := 1) hx hb dX2_bytesIn_29 (by decide) ?_
      exact g_retR hx hb hr hlocks (Option.some.inj h) dX2_bytesIn_30
    · have h := it_f c4 h
      refine lv_bipush (v := (-12)) hx hb dX2_bytesIn_24 (by decide) ?_
      refine lv_goto (tgt := 30) hx hb dX2_bytesIn_26 (by decide) ?_
      exact g_retR hx hb hr hlocks (Option.some.inj h) dX2_bytesIn_30
  · have h := it_t c2 h
    refine lv_bipush (v := (-11)) hx hb dX2_bytesIn_10 (by decide) ?_
    refine lv_goto (tgt := 30) hx hb dX2_bytesIn_12 (by decide) ?_
    exact g_retR hx hb hr hlocks (Option.some.inj h) dX2_bytesIn_30
theorem clX2_bytesIn {p : Program} {l : Launch} {e : Env} {R : Room} {s : State} {m : MethodId} {args : Array Value} {below : List Frame} {meth : Method} {c : Code} {H : Heap} {locs : List Loc} {cells slots : Nat} {Q : State → Prop} {cc : ByteArray} {pc nL idx fr lo : Nat} {ls : Array Slot} {rest : List Value} {own : String} {D : va_G} {aC : Nat → ClassId} {o : Nat} {ad : Nat → Nat} {z : GS} {x1 : Int32} {r : Int32} (hf : CallFix p m c cc nL s args lw_all own) (hK : va_K D vwCl (tysG aC) s) (hO : OM D aC o ad z H) (hM : Met l yX2_bytesIn (ws_ yX2_bytesIn cX2_bytesIn 2 (some .int)) ({ frames := fr, cells := 0, slots := 0, locals := lo }) (va_Pc [.ref o, .int x1] (PM D aC o ad z)) (QR (some (.int r))) 0 0 (fun _ => False)) (hq : Cond.methodLink own idx yX2_bytesIn ∈ lw_all) (hs : ls.size = nL) (hr : (rest.map fun v => v.category).sum ≤ 8) (hR : fr + 1 ≤ R.frames ∧ 8 + (2 + 11) + lo ≤ R.locals) (hcs : cells + 0 ≤ R.cells ∧ slots + 0 ≤ R.slots) (hd : decode cc pc = .ok (.invokevirtual idx, 3)) (kk : W p l e R s m args below meth c H locs cells slots Q (F0 m (pc + 3) ls (.int r :: rest))) : W p l e R s m args below meth c H locs cells slots Q (F0 m pc ls (.int x1 :: .ref o :: rest)) :=
  g_callR (W.runV (As := [.int x1]) (rest := rest) hf hM (cwV 1 hf.2.2.2.2 (lw_V hq q1894 qs82 q92 q1895) rfl rfl rfl (by decide +kernel) hR) ⟨fun a U g mk q => ⟨q.1, q.2.1, va_K.moved (u := U) (U := U.calling g mk a) (Vm.Alike.refl U.vm) q.2.2⟩, OA.recv hK hO rfl, fun U hU hW => ⟨rfl, by rw [hU]; exact hO, va_K.moved hW.alike hK⟩⟩ rfl rfl hs rfl (lv_room hr) hd hcs) kk
theorem metX2_wrong (l : Launch) (D : va_G) (aC : Nat → ClassId) (o : Nat) (ad : Nat → Nat) (A : Nat → Prop) (hD : OD A 44 kdM o ad) (x1 : Int32) (x2 : Int32) (z : GS) (r : Int32) (zq : GS) (h : FX2_wrong x1 x2 z = some (r, zq)) : Met l yX2_wrong (ws_ yX2_wrong cX2_wrong 5 (some .int)) ({ frames := 58, cells := 0, slots := 0, locals := 1323 }) (va_Pc [.ref o, .int x1, .int x2] (PM D aC o ad z)) (QG (some (.int r)) (OM D aC o ad zq) A) 0 0 A := by
  refine g_ofW (cc := cX2_wrong) (maxL := 5) (ret := (some .int)) (own := RX2) (by decide) rfl rfl [.ref o, .int x1, .int x2] (PM D aC o ad z) (Nat.le_of_ble_eq_true rfl) ?_
  intro p e s m below meth c ls hx hb hr hml hts hown hlocks hnm hPre hl
  obtain ⟨hO, hK⟩ := hPre
  have hf : CallFix p m c cX2_wrong 5 s _ lw_all RX2 := ⟨hx, hb, hml, hown, hts⟩
  have hl : lv_has ls 5 [(0, .ref o), (1, .int x1), (2, .int x2)] := hl
  refine g_open (A := A) (OM D aC o ad z) hO (fun H locs hO hS => ?_)
  unfold FX2_wrong at h
  refine lv_aload_n hx hb dX2_wrong_0 rfl (lv_at hl 0 rfl) ?_
  refine lv_iconst (v := 0) hx hb dX2_wrong_1 (by decide) ?_
  obtain ⟨z1, e2, h⟩ := bn1_e h
  refine clX2_keepAll hf hK hO hS (metX2_keepAll l D aC o ad A hD 0 z z1 e2) q1796 hl.1 (Nat.le_of_ble_eq_true rfl) ⟨Nat.le_of_ble_eq_true rfl, Nat.le_of_ble_eq_true rfl⟩ ⟨Nat.le_of_ble_eq_true rfl, Nat.le_of_ble_eq_true rfl⟩ dX2_wrong_2 (fun H locs hO hS => ?_)
  refine lv_bipush (v := (-2)) hx hb dX2_wrong_5 (by decide) ?_
  refine lv_istore_n (lv' := [(3, .int (-2)), (0, .ref o), (1, .int x1), (2, .int x2)]) hx hb dX2_wrong_7 rfl hl (by decide) rfl (fun ls hl => ?_)
  refine lv_iconst (v := 0) hx hb dX2_wrong_8 (by decide) ?_
  refine lv_istore (lv' := [(4, .int 0), (3, .int (-2)), (0, .ref o), (1, .int x1), (2, .int x2)]) hx hb dX2_wrong_9 hl (by decide) rfl (fun ls hl => ?_)
  obtain ⟨k3, e23, h⟩ := pin_nm h
  have hk3 : ∀ (v4 : Int32) (z5 : GS) (H : Heap) (locs : List Loc) (ls : Array Slot), k3 v4 z5 = some (r, zq) → OM D aC o ad z5 H → va_S A s.heap H locs → lv_has ls 5 [(0, .ref o), (3, .int v4)] → W p l e ({ frames := 58, cells := 0, slots := 0, locals := 1323 }) s m ([.ref o, .int x1, .int x2] : List Value).toArray below meth c H locs 0 0 (MQ below (QG (some (.int r)) (OM D aC o ad zq) A) ([.ref o, .int x1, .int x2] : List Value).toArray s 0 0 A) (F0 m 67 ls []) := by
    intro v4 z5 H locs ls h hO hS hl
    rw [e23] at h
    refine lv_aload_n hx hb dX2_wrong_67 rfl (lv_at hl 0 rfl) ?_
    refine lv_iconst (v := 0) hx hb dX2_wrong_68 (by decide) ?_
    obtain ⟨z6, e7, h⟩ := bn1_e h
    refine clX2_layAll hf hK hO hS (metX2_layAll l D aC o ad A hD 0 z5 z6 e7) q1812 hl.1 (Nat.le_of_ble_eq_true rfl) ⟨Nat.le_of_ble_eq_true rfl, Nat.le_of_ble_eq_true rfl⟩ ⟨Nat.le_of_ble_eq_true rfl, Nat.le_of_ble_eq_true rfl⟩ dX2_wrong_69 (fun H locs hO hS => ?_)
    refine lv_iload_n hx hb dX2_wrong_72 rfl (lv_at hl 1 rfl) ?_
    obtain ⟨e8, rfl⟩ := Prod.mk.inj (Option.some.inj h)
    exact g_retG hx hb hr hlocks e8 hO hS dX2_wrong_73
  have key22 : ∀ (f : Nat) (v3 : Int32) (v4 : Int32) (z : GS) (H : Heap) (locs : List Loc) (ls : Array Slot), FX2_wrong_L11 k3 x1 x2 f v3 v4 z = some (r, zq) → OM D aC o ad z H → va_S A s.heap H locs → lv_has ls 5 [(0, .ref o), (1, .int x1), (2, .int x2), (3, .int v3), (4, .int v4)] → W p l e ({ frames := 58, cells := 0, slots := 0, locals := 1323 }) s m ([.ref o, .int x1, .int x2] : List Value).toArray below meth c H locs 0 0 (MQ below (QG (some (.int r)) (OM D aC o ad zq) A) ([.ref o, .int x1, .int x2] : List Value).toArray s 0 0 A) (F0 m 11 ls []) := by
    intro f
    induction f with
    | zero =>
      intro v3 v4 z H locs ls h
      rw [FX2_wrong_L11] at h
      cases h
    | succ f ih8 =>
      intro v3 v4 z H locs ls h hO hS hl
      rw [FX2_wrong_L11] at h
      refine lv_iload hx hb dX2_wrong_11 (lv_at hl 4 rfl) ?_
      refine lv_bipush (v := 41) hx hb dX2_wrong_13 (by decide) ?_
      refine lv_aload_n hx hb dX2_wrong_15 rfl (lv_at hl 0 rfl) ?_
      refine X2_getA hx hb hts hown hK hO 29 (by decide) rfl (hts _ q1566) dX2_wrong_16 ?_
      refine lv_iload_n hx hb dX2_wrong_19 rfl (lv_at hl 1 rfl) ?_
      obtain ⟨g9, h⟩ := grd h
      refine X2_iaload hx hb hK hO 29 (by decide) rfl rfl g9 dX2_wrong_20 ?_
      refine g_mmin hx hb (hml.trans hl.1.symm) hown (hts _ q1790) (hts _ q669) (hts _ q106) (hts _ q670) (Nat.le_of_ble_eq_true rfl) (Nat.le_of_ble_eq_true rfl) (Nat.le_refl _) (Nat.le_refl _) dX2_wrong_21 ?_
      refine lv_icmp_ge (tgt := 67) hx hb dX2_wrong_24 (by decide) (fun c10 => ?_) (fun c10 => ?_)
      · have h := it_t c10 h
        exact hk3 _ _ _ _ _ h hO hS (lv_sub hl [0, 3] rfl)
      · have h := it_f c10 h
        refine lv_iload_n hx hb dX2_wrong_27 rfl (lv_at hl 3 rfl) ?_
        refine lv_bipush (v := (-2)) hx hb dX2_wrong_28 (by decide) ?_
        refine lv_icmp_ne (tgt := 67) hx hb dX2_wrong_30 (by decide) (fun c11 => ?_) (fun c11 => ?_)
        · have h := it_f c11 h
          exact hk3 _ _ _ _ _ h hO hS (lv_sub hl [0, 3] rfl)
        · have h := it_t c11 h
          refine lv_aload_n hx hb dX2_wrong_33 rfl (lv_at hl 0 rfl) ?_
          refine lv_iload_n hx hb dX2_wrong_34 rfl (lv_at hl 2 rfl) ?_
          refine lv_iconst (v := 3) hx hb dX2_wrong_35 (by decide) ?_
          obtain ⟨r12, e13, h⟩ := bn1_e h
          refine clX2_number_2 hf hK hO (metX2_number_2 l D aC o ad x2 3 z r12 e13) q1771 hl.1 (Nat.le_of_ble_eq_true rfl) ⟨Nat.le_of_ble_eq_true rfl, Nat.le_of_ble_eq_true rfl⟩ ⟨Nat.le_of_ble_eq_true rfl, Nat.le_of_ble_eq_true rfl⟩ dX2_wrong_36 ?_
          refine lv_aload_n hx hb dX2_wrong_39 rfl (lv_at hl 0 rfl) ?_
          refine lv_iload_n hx hb dX2_wrong_40 rfl (lv_at hl 1 rfl) ?_
          refine lv_iload hx hb dX2_wrong_41 (lv_at hl 4 rfl) ?_
          obtain ⟨r14, e15, h⟩ := bn1_e h
          refine clX2_byteAt hf hK hO (metX2_byteAt l D aC o ad x1 v4 z r14 e15) q1884 hl.1 (Nat.le_of_ble_eq_true rfl) ⟨Nat.le_of_ble_eq_true rfl, Nat.le_of_ble_eq_true rfl⟩ ⟨Nat.le_of_ble_eq_true rfl, Nat.le_of_ble_eq_true rfl⟩ dX2_wrong_43 ?_
          obtain ⟨k17, e20, h⟩ := pin_nm2 h
          have hk17 : ∀ (u16 : Int32) (ls : Array Slot), k17 u16 = some (r, zq) → lv_has ls 5 [(0, .ref o), (1, .int x1), (2, .int x2), (4, .int v4)] → W p l e ({ frames := 58, cells := 0, slots := 0, locals := 1323 }) s m ([.ref o, .int x1, .int x2] : List Value).toArray below meth c H locs 0 0 (MQ below (QG (some (.int r)) (OM D aC o ad zq) A) ([.ref o, .int x1, .int x2] : List Value).toArray s 0 0 A) (F0 m 56 ls [.int u16]) := by
            intro u16 ls h hl
            rw [e20] at h
            refine lv_istore_n (lv' := [(3, .int u16), (0, .ref o), (1, .int x1), (2, .int x2), (4, .int v4)]) hx hb dX2_wrong_56 rfl hl (by decide) rfl (fun ls hl => ?_)
            refine lv_aload_n hx hb dX2_wrong_57 rfl (lv_at hl 1 rfl) ?_
            obtain ⟨z18, e19, h⟩ := bn1_e h
            refine clX2_goDay hf hK hO hS (metX2_goDay l D aC o ad A hD z z18 e19) q1804 hl.1 (Nat.le_of_ble_eq_true rfl) ⟨Nat.le_of_ble_eq_true rfl, Nat.le_of_ble_eq_true rfl⟩ ⟨Nat.le_of_ble_eq_true rfl, Nat.le_of_ble_eq_true rfl⟩ dX2_wrong_58 (fun H locs hO hS => ?_)
            refine lv_iinc (v := (v4 + 1)) (lv' := [(4, .int (v4 + 1)), (3, .int u16), (0, .ref o), (1, .int x1), (2, .int x2)]) hx hb dX2_wrong_61 hl (k := 4) rfl rfl (by decide) rfl (fun ls hl => ?_)
            refine lv_goto (tgt := 11) hx hb dX2_wrong_64 (by decide) ?_
            exact ih8 _ _ _ _ _ _ h hO hS (lv_sub hl [2, 3, 4, 1, 0] rfl)
          refine lv_icmp_ne (tgt := 54) hx hb dX2_wrong_46 (by decide) (fun c21 => ?_) (fun c21 => ?_)
          · have h := pt_f (k := k17) c21 h
            refine lv_iload hx hb dX2_wrong_54 (lv_at hl 4 rfl) ?_
            exact hk17 _ _ h (lv_sub hl [0, 1, 2, 4] rfl)
          · have h := pt_t (k := k17) c21 h
            refine lv_bipush (v := (-2)) hx hb dX2_wrong_49 (by decide) ?_
            refine lv_goto (tgt := 56) hx hb dX2_wrong_51 (by decide) ?_
            exact hk17 _ _ h (lv_sub hl [0, 1, 2, 4] rfl)
  exact key22 FU _ _ _ _ _ _ h hO hS (lv_sub hl [2, 3, 4, 1, 0] rfl)
theorem clX2_wrong {p : Program} {l : Launch} {e : Env} {R : Room} {s : State} {m : MethodId} {args : Array Value} {below : List Frame} {meth : Method} {c : Code} {H : Heap} {locs : List Loc} {cells slots : Nat} {Q : State → Prop} {cc : ByteArray} {pc nL idx fr lo : Nat} {ls : Array Slot} {rest : List Value} {own : String} {D : va_G} {aC : Nat → ClassId} {o : Nat} {ad : Nat → Nat} {z : GS} {zq : GS} {A : Nat → Prop} {x1 : Int32} {x2 : Int32} {r : Int32} (hf : CallFix p m c cc nL s args lw_all own) (hK : va_K D vwCl (tysG aC) s) (hO : OM D aC o ad z H) (hS : va_S A s.heap H locs) (hM : Met l yX2_wrong (ws_ yX2_wrong cX2_wrong 5 (some .int)) ({ frames := fr, cells := 0, slots := 0, locals := lo }) (va_Pc [.ref o, .int x1, .int x2] (PM D aC o ad z)) (QG (some (.int r)) (OM D aC o ad zq) A) 0 0 A) (hq : Cond.methodLink own idx yX2_wrong ∈ lw_all) (hs : ls.size = nL) (hr : (rest.map fun v => v.category).sum ≤ 8) (hR : fr + 1 ≤ R.frames ∧ 8 + (5 + 11) + lo ≤ R.locals) (hcs : cells + 0 ≤ R.cells ∧ slots + 0 ≤ R.slots) (hd : decode cc pc = .ok (.invokevirtual idx, 3)) (kk : ∀ (H1 : Heap) (locs1 : List Loc), OM D aC o ad zq H1 → va_S A s.heap H1 locs1 → W p l e R s m args below meth c H1 locs1 cells slots Q (F0 m (pc + 3) ls (.int r :: rest))) : W p l e R s m args below meth c H locs cells slots Q (F0 m pc ls (.int x2 :: .int x1 :: .ref o :: rest)) :=
  g_callG (W.runV (As := [.int x1, .int x2]) (rest := rest) hf hM (cwV 2 hf.2.2.2.2 (lw_V hq q1898 qs83 q92 q1899) rfl rfl rfl (by decide +kernel) hR) ⟨fun a U g mk q => ⟨q.1, q.2.1, va_K.moved (u := U) (U := U.calling g mk a) (Vm.Alike.refl U.vm) q.2.2⟩, OA.recv hK hO rfl, fun U hU hW => ⟨rfl, by rw [hU]; exact hO, va_K.moved hW.alike hK⟩⟩ rfl rfl hs rfl (lv_room hr) hd hcs) hS (fun H1 locs1 hP hS _ _ => kk H1 locs1 hP hS)
theorem metX2_judge (l : Launch) (D : va_G) (aC : Nat → ClassId) (o : Nat) (ad : Nat → Nat) (A : Nat → Prop) (hD : OD A 44 kdM o ad) (x1 : Int32) (x2 : Int32) (z : GS) (r : Int32) (zq : GS) (h : FX2_judge x1 x2 z = some (r, zq)) : Met l yX2_judge (ws_ yX2_judge cX2_judge 3 (some .int)) ({ frames := 59, cells := 0, slots := 0, locals := 1347 }) (va_Pc [.ref o, .int x1, .int x2] (PM D aC o ad z)) (QG (some (.int r)) (OM D aC o ad zq) A) 0 0 A := by
  refine g_ofW (cc := cX2_judge) (maxL := 3) (ret := (some .int)) (own := RX2) (by decide) rfl rfl [.ref o, .int x1, .int x2] (PM D aC o ad z) (Nat.le_of_ble_eq_true rfl) ?_
  intro p e s m below meth c ls hx hb hr hml hts hown hlocks hnm hPre hl
  obtain ⟨hO, hK⟩ := hPre
  have hf : CallFix p m c cX2_judge 3 s _ lw_all RX2 := ⟨hx, hb, hml, hown, hts⟩
  have hl : lv_has ls 3 [(0, .ref o), (1, .int x1), (2, .int x2)] := hl
  refine g_open (A := A) (OM D aC o ad z) hO (fun H locs hO hS => ?_)
  unfold FX2_judge at h
  refine lv_iload_n hx hb dX2_judge_0 rfl (lv_at hl 1 rfl) ?_
  refine clX2_isShelf hf (metX2_isShelf l x1 _ rfl) q1879 hl.1 (Nat.le_of_ble_eq_true rfl) ⟨Nat.le_of_ble_eq_true rfl, Nat.le_of_ble_eq_true rfl⟩ ⟨Nat.le_of_ble_eq_true rfl, Nat.le_of_ble_eq_true rfl⟩ dX2_judge_1 ?_
  refine lv_if_eq (tgt := 15) hx hb dX2_judge_4 (by decide) (fun c1 => ?_) (fun c1 => ?_)
  · have h := it_t c1 h
    refine lv_iconst (v := (-1)) hx hb dX2_judge_15 (by decide) ?_
    obtain ⟨e8, rfl⟩ := Prod.mk.inj (Option.some.inj h)
    exact g_retG hx hb hr hlocks e8 hO hS dX2_judge_16
  · have h := it_f c1 h
    refine lv_aload_n hx hb dX2_judge_7 rfl (lv_at hl 0 rfl) ?_
    refine lv_iload_n hx hb dX2_judge_8 rfl (lv_at hl 2 rfl) ?_
    refine clX2_isOne hf hK hO (metX2_isOne l D aC o ad x2 z _ rfl) q1694 hl.1 (Nat.le_of_ble_eq_true rfl) ⟨Nat.le_of_ble_eq_true rfl, Nat.le_of_ble_eq_true rfl⟩ ⟨Nat.le_of_ble_eq_true rfl, Nat.le_of_ble_eq_true rfl⟩ dX2_judge_9 ?_
    refine lv_if_ne (tgt := 17) hx hb dX2_judge_12 (by decide) (fun c2 => ?_) (fun c2 => ?_)
    · have h := it_f c2 h
      refine lv_aload_n hx hb dX2_judge_17 rfl (lv_at hl 0 rfl) ?_
      refine lv_iload_n hx hb dX2_judge_18 rfl (lv_at hl 1 rfl) ?_
      obtain ⟨r3, e4, h⟩ := bn1_e h
      refine clX2_bytesIn hf hK hO (metX2_bytesIn l D aC o ad x1 z r3 e4) q1892 hl.1 (Nat.le_of_ble_eq_true rfl) ⟨Nat.le_of_ble_eq_true rfl, Nat.le_of_ble_eq_true rfl⟩ ⟨Nat.le_of_ble_eq_true rfl, Nat.le_of_ble_eq_true rfl⟩ dX2_judge_19 ?_
      refine lv_iconst (v := 1) hx hb dX2_judge_22 (by decide) ?_
      refine lv_icmp_ge (tgt := 34) hx hb dX2_judge_23 (by decide) (fun c5 => ?_) (fun c5 => ?_)
      · have h := it_t c5 h
        refine lv_aload_n hx hb dX2_judge_34 rfl (lv_at hl 0 rfl) ?_
        refine lv_iload_n hx hb dX2_judge_35 rfl (lv_at hl 1 rfl) ?_
        refine lv_iload_n hx hb dX2_judge_36 rfl (lv_at hl 2 rfl) ?_
        obtain ⟨r6, z7, e8, h⟩ := bnd_e h
        refine clX2_wrong hf hK hO hS (metX2_wrong l D aC o ad A hD x1 x2 z r6 z7 e8) q1896 hl.1 (Nat.le_of_ble_eq_true rfl) ⟨Nat.le_of_ble_eq_true rfl, Nat.le_of_ble_eq_true rfl⟩ ⟨Nat.le_of_ble_eq_true rfl, Nat.le_of_ble_eq_true rfl⟩ dX2_judge_37 (fun H locs hO hS => ?_)
        obtain ⟨e8, rfl⟩ := Prod.mk.inj (Option.some.inj h)
        exact g_retG hx hb hr hlocks e8 hO hS dX2_judge_40
      · have h := it_f c5 h
        refine lv_aload_n hx hb dX2_judge_26 rfl (lv_at hl 0 rfl) ?_
        refine lv_iload_n hx hb dX2_judge_27 rfl (lv_at hl 1 rfl) ?_
        obtain ⟨r9, e10, h⟩ := bn1_e h
        refine clX2_bytesIn hf hK hO (metX2_bytesIn l D aC o ad x1 z r9 e10) q1892 hl.1 (Nat.le_of_ble_eq_true rfl) ⟨Nat.le_of_ble_eq_true rfl, Nat.le_of_ble_eq_true rfl⟩ ⟨Nat.le_of_ble_eq_true rfl, Nat.le_of_ble_eq_true rfl⟩ dX2_judge_28 ?_
        refine lv_goto (tgt := 40) hx hb dX2_judge_31 (by decide) ?_
        obtain ⟨e8, rfl⟩ := Prod.mk.inj (Option.some.inj h)
        exact g_retG hx hb hr hlocks e8 hO hS dX2_judge_40
    · have h := it_t c2 h
      refine lv_iconst (v := (-1)) hx hb dX2_judge_15 (by decide) ?_
      obtain ⟨e8, rfl⟩ := Prod.mk.inj (Option.some.inj h)
      exact g_retG hx hb hr hlocks e8 hO hS dX2_judge_16
theorem clX2_judge {p : Program} {l : Launch} {e : Env} {R : Room} {s : State} {m : MethodId} {args : Array Value} {below : List Frame} {meth : Method} {c : Code} {H : Heap} {locs : List Loc} {cells slots : Nat} {Q : State → Prop} {cc : ByteArray} {pc nL idx fr lo : Nat} {ls : Array Slot} {rest : List Value} {own : String} {D : va_G} {aC : Nat → ClassId} {o : Nat} {ad : Nat → Nat} {z : GS} {zq : GS} {A : Nat → Prop} {x1 : Int32} {x2 : Int32} {r : Int32} (hf : CallFix p m c cc nL s args lw_all own) (hK : va_K D vwCl (tysG aC) s) (hO : OM D aC o ad z H) (hS : va_S A s.heap H locs) (hM : Met l yX2_judge (ws_ yX2_judge cX2_judge 3 (some .int)) ({ frames := fr, cells := 0, slots := 0, locals := lo }) (va_Pc [.ref o, .int x1, .int x2] (PM D aC o ad z)) (QG (some (.int r)) (OM D aC o ad zq) A) 0 0 A) (hq : Cond.methodLink own idx yX2_judge ∈ lw_all) (hs : ls.size = nL) (hr : (rest.map fun v => v.category).sum ≤ 8) (hR : fr + 1 ≤ R.frames ∧ 8 + (3 + 11) + lo ≤ R.locals) (hcs : cells + 0 ≤ R.cells ∧ slots + 0 ≤ R.slots) (hd : decode cc pc = .ok (.invokevirtual idx, 3)) (kk : ∀ (H1 : Heap) (locs1 : List Loc), OM D aC o ad zq H1 → va_S A s.heap H1 locs1 → W p l e R s m args below meth c H1 locs1 cells slots Q (F0 m (pc + 3) ls (.int r :: rest))) : W p l e R s m args below meth c H locs cells slots Q (F0 m pc ls (.int x2 :: .int x1 :: .ref o :: rest)) :=
  g_callG (W.runV (As := [.int x1, .int x2]) (rest := rest) hf hM (cwV 2 hf.2.2.2.2 (lw_V hq q1889 q1890 q92 q1891) rfl rfl rfl (by decide +kernel) hR) ⟨fun a U g mk q => ⟨q.1, q.2.1, va_K.moved (u := U) (U := U.calling g mk a) (Vm.Alike.refl U.vm) q.2.2⟩, OA.recv hK hO rfl, fun U hU hW => ⟨rfl, by rw [hU]; exact hO, va_K.moved hW.alike hK⟩⟩ rfl rfl hs rfl (lv_room hr) hd hcs) hS (fun H1 locs1 hP hS _ _ => kk H1 locs1 hP hS)
theorem metX2_fits (l : Launch) (D : va_G) (aC : Nat → ClassId) (o : Nat) (ad : Nat → Nat) (A : Nat → Prop) (hD : OD A 44 kdM o ad) (x1 : Int32) (x2 : Int32) (x3 : Int32) (z : GS) (r : Int32) (zq : GS) (h : FX2_fits x1 x2 x3 z = some (r, zq)) : Met l yX2_fits (ws_ yX2_fits cX2_fits 12 (some .int)) ({ frames := 59, cells := 0, slots := 0, locals := 1347 }) (va_Pc [.ref o, .int x1, .int x2, .int x3] (PM D aC o ad z)) (QG (some (.int r)) (OM D aC o ad zq) A) 0 0 A := by
  refine g_ofW (cc := cX2_fits) (maxL := 12) (ret := (some .int)) (own := RX2) (by decide) rfl rfl [.ref o, .int x1, .int x2, .int x3] (PM D aC o ad z) (Nat.le_of_ble_eq_true rfl) ?_
  intro p e s m below meth c ls hx hb hr hml hts hown hlocks hnm hPre hl
  obtain ⟨hO, hK⟩ := hPre
  have hf : CallFix p m c cX2_fits 12 s _ lw_all RX2 := ⟨hx, hb, hml, hown, hts⟩
  have hl : lv_has ls 12 [(0, .ref o), (1, .int x1), (2, .int x2), (3, .int x3)] := hl
  refine g_open (A := A) (OM D aC o ad z) hO (fun H locs hO hS => ?_)
  unfold FX2_fits at h
  refine lv_iload_n hx hb dX2_fits_0 rfl (lv_at hl 1 rfl) ?_
  refine clX2_isShelf hf (metX2_isShelf l x1 _ rfl) q1879 hl.1 (Nat.le_of_ble_eq_true rfl) ⟨Nat.le_of_ble_eq_true rfl, Nat.le_of_ble_eq_true rfl⟩ ⟨Nat.le_of_ble_eq_true rfl, Nat.le_of_ble_eq_true rfl⟩ dX2_fits_1 ?_
  refine lv_if_eq (tgt := 42) hx hb dX2_fits_4 (by decide) (fun c1 => ?_) (fun c1 => ?_)
  · have h := it_t c1 h
    refine lv_iconst (v := (-1)) hx hb dX2_fits_42 (by decide) ?_
    obtain ⟨e8, rfl⟩ := Prod.mk.inj (Option.some.inj h)
    exact g_retG hx hb hr hlocks e8 hO hS dX2_fits_43
  · have h := it_f c1 h
    refine lv_iload_n hx hb dX2_fits_7 rfl (lv_at hl 2 rfl) ?_
    refine lv_if_lt (tgt := 42) hx hb dX2_fits_8 (by decide) (fun c2 => ?_) (fun c2 => ?_)
    · have h := it_t c2 h
      refine lv_iconst (v := (-1)) hx hb dX2_fits_42 (by decide) ?_
      obtain ⟨e8, rfl⟩ := Prod.mk.inj (Option.some.inj h)
      exact g_retG hx hb hr hlocks e8 hO hS dX2_fits_43
    · have h := it_f c2 h
      refine lv_aload_n hx hb dX2_fits_11 rfl (lv_at hl 0 rfl) ?_
      refine lv_iload_n hx hb dX2_fits_12 rfl (lv_at hl 2 rfl) ?_
      refine lv_bipush (v := 10) hx hb dX2_fits_13 (by decide) ?_
      refine lv_idiv hx hb dX2_fits_15 (by decide) ?_
      refine clX2_isOne hf hK hO (metX2_isOne l D aC o ad (x2 / 10) z _ rfl) q1694 hl.1 (Nat.le_of_ble_eq_true rfl) ⟨Nat.le_of_ble_eq_true rfl, Nat.le_of_ble_eq_true rfl⟩ ⟨Nat.le_of_ble_eq_true rfl, Nat.le_of_ble_eq_true rfl⟩ dX2_fits_16 ?_
      refine lv_if_eq (tgt := 42) hx hb dX2_fits_19 (by decide) (fun c3 => ?_) (fun c3 => ?_)
      · have h := it_t c3 h
        refine lv_iconst (v := (-1)) hx hb dX2_fits_42 (by decide) ?_
        obtain ⟨e8, rfl⟩ := Prod.mk.inj (Option.some.inj h)
        exact g_retG hx hb hr hlocks e8 hO hS dX2_fits_43
      · have h := it_f c3 h
        refine lv_aload_n hx hb dX2_fits_22 rfl (lv_at hl 0 rfl) ?_
        refine lv_iload_n hx hb dX2_fits_23 rfl (lv_at hl 2 rfl) ?_
        refine lv_bipush (v := 10) hx hb dX2_fits_24 (by decide) ?_
        refine g_irem hx hb dX2_fits_26 (by decide) ?_
        refine clX2_isOne hf hK hO (metX2_isOne l D aC o ad (jrem x2 10) z _ rfl) q1694 hl.1 (Nat.le_of_ble_eq_true rfl) ⟨Nat.le_of_ble_eq_true rfl, Nat.le_of_ble_eq_true rfl⟩ ⟨Nat.le_of_ble_eq_true rfl, Nat.le_of_ble_eq_true rfl⟩ dX2_fits_27 ?_
        refine lv_if_eq (tgt := 42) hx hb dX2_fits_30 (by decide) (fun c4 => ?_) (fun c4 => ?_)
        · have h := it_t c4 h
          refine lv_iconst (v := (-1)) hx hb dX2_fits_42 (by decide) ?_
          obtain ⟨e8, rfl⟩ := Prod.mk.inj (Option.some.inj h)
          exact g_retG hx hb hr hlocks e8 hO hS dX2_fits_43
        · have h := it_f c4 h
          refine lv_iload_n hx hb dX2_fits_33 rfl (lv_at hl 3 rfl) ?_
          refine lv_iconst (v := 0) hx hb dX2_fits_34 (by decide) ?_
          refine lv_iconst (v := 2) hx hb dX2_fits_35 (by decide) ?_
          refine clX2_isIn hf (metX2_isIn l x3 0 2 _ rfl) q1675 hl.1 (Nat.le_of_ble_eq_true rfl) ⟨Nat.le_of_ble_eq_true rfl, Nat.le_of_ble_eq_true rfl⟩ ⟨Nat.le_of_ble_eq_true rfl, Nat.le_of_ble_eq_true rfl⟩ dX2_fits_36 ?_
          refine lv_if_ne (tgt := 44) hx hb dX2_fits_39 (by decide) (fun c5 => ?_) (fun c5 => ?_)
          · have h := it_f c5 h
            refine lv_aload_n hx hb dX2_fits_44 rfl (lv_at hl 0 rfl) ?_
            refine lv_iload_n hx hb dX2_fits_45 rfl (lv_at hl 1 rfl) ?_
            obtain ⟨r6, e7, h⟩ := bn1_e h
            refine clX2_bytesIn hf hK hO (metX2_bytesIn l D aC o ad x1 z r6 e7) q1892 hl.1 (Nat.le_of_ble_eq_true rfl) ⟨Nat.le_of_ble_eq_true rfl, Nat.le_of_ble_eq_true rfl⟩ ⟨Nat.le_of_ble_eq_true rfl, Nat.le_of_ble_eq_true rfl⟩ dX2_fits_46 ?_
            refine lv_iconst (v := 1) hx hb dX2_fits_49 (by decide) ?_
            refine lv_icmp_ge (tgt := 59) hx hb dX2_fits_50 (by decide) (fun c8 => ?_) (fun c8 => ?_)
            · have h := it_t c8 h
              refine lv_iload_n hx hb dX2_fits_59 rfl (lv_at hl 2 rfl) ?_
              refine lv_bipush (v := 10) hx hb dX2_fits_60 (by decide) ?_
              refine lv_idiv hx hb dX2_fits_62 (by decide) ?_
              refine lv_topi (fun y9 ey9 => ?_)
              have h := pin_to ey9 h
              refine lv_istore (lv' := [(4, .int y9), (0, .ref o), (1, .int x1), (2, .int x2), (3, .int x3)]) hx hb dX2_fits_63 hl (by decide) rfl (fun ls hl => ?_)
              refine lv_iload_n hx hb dX2_fits_65 rfl (lv_at hl 3 rfl) ?_
              refine lv_bipush (v := 10) hx hb dX2_fits_66 (by decide) ?_
              refine g_irem hx hb dX2_fits_68 (by decide) ?_
              refine lv_topi (fun y10 ey10 => ?_)
              have h := pin_to ey10 h
              refine lv_istore (lv' := [(5, .int y10), (4, .int y9), (0, .ref o), (1, .int x1), (2, .int x2), (3, .int x3)]) hx hb dX2_fits_69 hl (by decide) rfl (fun ls hl => ?_)
              refine lv_iload_n hx hb dX2_fits_71 rfl (lv_at hl 5 rfl) ?_
              refine lv_iconst (v := 2) hx hb dX2_fits_72 (by decide) ?_
              obtain ⟨k12, e61, h⟩ := pin_nm2 h
              have hk12 : ∀ (u11 : Int32) (ls : Array Slot), k12 u11 = some (r, zq) → lv_has ls 12 [(0, .ref o), (1, .int x1), (3, .int x3), (4, .int y9), (5, .int y10)] → W p l e ({ frames := 59, cells := 0, slots := 0, locals := 1347 }) s m ([.ref o, .int x1, .int x2, .int x3] : List Value).toArray below meth c H locs 0 0 (MQ below (QG (some (.int r)) (OM D aC o ad zq) A) ([.ref o, .int x1, .int x2, .int x3] : List Value).toArray s 0 0 A) (F0 m 81 ls [.int u11]) := by
                intro u11 ls h hl
                rw [e61] at h
                refine lv_istore (lv' := [(6, .int u11), (0, .ref o), (1, .int x1), (3, .int x3), (4, .int y9), (5, .int y10)]) hx hb dX2_fits_81 hl (by decide) rfl (fun ls hl => ?_)
                refine lv_aload_n hx hb dX2_fits_83 rfl (lv_at hl 1 rfl) ?_
                refine lv_iload hx hb dX2_fits_84 (lv_at hl 5 rfl) ?_
                refine lv_iload hx hb dX2_fits_86 (lv_at hl 0 rfl) ?_
                obtain ⟨r13, e14, h⟩ := bn1_e h
                refine clX2_number_2 hf hK hO (metX2_number_2 l D aC o ad y10 u11 z r13 e14) q1771 hl.1 (Nat.le_of_ble_eq_true rfl) ⟨Nat.le_of_ble_eq_true rfl, Nat.le_of_ble_eq_true rfl⟩ ⟨Nat.le_of_ble_eq_true rfl, Nat.le_of_ble_eq_true rfl⟩ dX2_fits_88 ?_
                refine lv_istore (lv' := [(7, .int r13), (6, .int u11), (0, .ref o), (1, .int x1), (3, .int x3), (4, .int y9), (5, .int y10)]) hx hb dX2_fits_91 hl (by decide) rfl (fun ls hl => ?_)
                refine lv_iconst (v := 0) hx hb dX2_fits_93 (by decide) ?_
                refine lv_istore (lv' := [(8, .int 0), (7, .int r13), (6, .int u11), (0, .ref o), (1, .int x1), (3, .int x3), (4, .int y9), (5, .int y10)]) hx hb dX2_fits_94 hl (by decide) rfl (fun ls hl => ?_)
                refine lv_bipush (v := (-2)) hx hb dX2_fits_96 (by decide) ?_
                refine lv_istore (lv' := [(9, .int (-2)), (8, .int 0), (7, .int r13), (6, .int u11), (0, .ref o), (1, .int x1), (3, .int x3), (4, .int y9), (5, .int y10)]) hx hb dX2_fits_98 hl (by decide) rfl (fun ls hl => ?_)
                refine lv_iconst (v := 0) hx hb dX2_fits_100 (by decide) ?_
                refine lv_istore (lv' := [(10, .int 0), (9, .int (-2)), (8, .int 0), (7, .int r13), (6, .int u11), (0, .ref o), (1, .int x1), (3, .int x3), (4, .int y9), (5, .int y10)]) hx hb dX2_fits_101 hl (by decide) rfl (fun ls hl => ?_)
                refine lv_iload_n hx hb dX2_fits_103 rfl (lv_at hl 7 rfl) ?_
                refine lv_iconst (v := 2) hx hb dX2_fits_104 (by decide) ?_
                obtain ⟨k16, e59, h⟩ := pin_nm2 h
                have hk16 : ∀ (u15 : Int32) (ls : Array Slot), k16 u15 = some (r, zq) → lv_has ls 12 [(0, .ref o), (1, .int x1), (3, .int x3), (4, .int y9), (5, .int y10), (6, .int u11), (7, .int r13), (8, .int 0), (9, .int (-2)), (10, .int 0)] → W p l e ({ frames := 59, cells := 0, slots := 0, locals := 1347 }) s m ([.ref o, .int x1, .int x2, .int x3] : List Value).toArray below meth c H locs 0 0 (MQ below (QG (some (.int r)) (OM D aC o ad zq) A) ([.ref o, .int x1, .int x2, .int x3] : List Value).toArray s 0 0 A) (F0 m 113 ls [.int u15]) := by
                  intro u15 ls h hl
                  rw [e59] at h
                  refine lv_istore (lv' := [(11, .int u15), (0, .ref o), (1, .int x1), (3, .int x3), (4, .int y9), (5, .int y10), (6, .int u11), (7, .int r13), (8, .int 0), (9, .int (-2)), (10, .int 0)]) hx hb dX2_fits_113 hl (by decide) rfl (fun ls hl => ?_)
                  obtain ⟨k17, e58, h⟩ := pin_nm h
                  have hk17 : ∀ (v18 : Int32) (v19 : Int32) (v20 : Int32) (z21 : GS) (H : Heap) (locs : List Loc) (ls : Array Slot), k17 v18 v19 v20 z21 = some (r, zq) → OM D aC o ad z21 H → va_S A s.heap H locs → lv_has ls 12 [(0, .ref o), (3, .int x3), (5, .int y10), (6, .int u11), (7, .int r13), (8, .int v18), (9, .int v19), (10, .int v20)] → W p l e ({ frames := 59, cells := 0, slots := 0, locals := 1347 }) s m ([.ref o, .int x1, .int x2, .int x3] : List Value).toArray below meth c H locs 0 0 (MQ below (QG (some (.int r)) (OM D aC o ad zq) A) ([.ref o, .int x1, .int x2, .int x3] : List Value).toArray s 0 0 A) (F0 m 216 ls []) := by
                    intro v18 v19 v20 z21 H locs ls h hO hS hl
                    rw [e58] at h
                    refine lv_aload_n hx hb dX2_fits_216 rfl (lv_at hl 0 rfl) ?_
                    refine lv_iload hx hb dX2_fits_217 (lv_at hl 2 rfl) ?_
                    refine lv_iload hx hb dX2_fits_219 (lv_at hl 3 rfl) ?_
                    refine lv_iload hx hb dX2_fits_221 (lv_at hl 4 rfl) ?_
                    obtain ⟨z22, e23, h⟩ := bn1_e h
                    refine clX2_change hf hK hO hS (metX2_change l D aC o ad A hD y10 u11 r13 z21 z22 e23) q1682 hl.1 (Nat.le_of_ble_eq_true rfl) ⟨Nat.le_of_ble_eq_true rfl, Nat.le_of_ble_eq_true rfl⟩ ⟨Nat.le_of_ble_eq_true rfl, Nat.le_of_ble_eq_true rfl⟩ dX2_fits_223 (fun H locs hO hS => ?_)
                    refine lv_iload_n hx hb dX2_fits_226 rfl (lv_at hl 1 rfl) ?_
                    refine lv_if_ne (tgt := 235) hx hb dX2_fits_227 (by decide) (fun c24 => ?_) (fun c24 => ?_)
                    · have h := it_f c24 h
                      refine lv_iload_n hx hb dX2_fits_235 rfl (lv_at hl 1 rfl) ?_
                      refine lv_iconst (v := 1) hx hb dX2_fits_236 (by decide) ?_
                      refine lv_icmp_ne (tgt := 245) hx hb dX2_fits_237 (by decide) (fun c25 => ?_) (fun c25 => ?_)
                      · have h := it_f c25 h
                        refine lv_iload hx hb dX2_fits_245 (lv_at hl 7 rfl) ?_
                        obtain ⟨e8, rfl⟩ := Prod.mk.inj (Option.some.inj h)
                        exact g_retG hx hb hr hlocks e8 hO hS dX2_fits_247
                      · have h := it_t c25 h
                        refine lv_iload hx hb dX2_fits_240 (lv_at hl 6 rfl) ?_
                        refine lv_goto (tgt := 247) hx hb dX2_fits_242 (by decide) ?_
                        obtain ⟨e8, rfl⟩ := Prod.mk.inj (Option.some.inj h)
                        exact g_retG hx hb hr hlocks e8 hO hS dX2_fits_247
                    · have h := it_t c24 h
                      refine lv_iload hx hb dX2_fits_230 (lv_at hl 5 rfl) ?_
                      refine lv_goto (tgt := 247) hx hb dX2_fits_232 (by decide) ?_
                      obtain ⟨e8, rfl⟩ := Prod.mk.inj (Option.some.inj h)
                      exact g_retG hx hb hr hlocks e8 hO hS dX2_fits_247
                  have key57 : ∀ (f : Nat) (v8 : Int32) (v9 : Int32) (v10 : Int32) (v11 : Int32) (z : GS) (H : Heap) (locs : List Loc) (ls : Array Slot), FX2_fits_L115 k17 x1 x3 y9 y10 u11 r13 f v8 v9 v10 v11 z = some (r, zq) → OM D aC o ad z H → va_S A s.heap H locs → lv_has ls 12 [(0, .ref o), (1, .int x1), (3, .int x3), (4, .int y9), (5, .int y10), (6, .int u11), (7, .int r13), (8, .int v8), (9, .int v9), (10, .int v10), (11, .int v11)] → W p l e ({ frames := 59, cells := 0, slots := 0, locals := 1347 }) s m ([.ref o, .int x1, .int x2, .int x3] : List Value).toArray below meth c H locs 0 0 (MQ below (QG (some (.int r)) (OM D aC o ad zq) A) ([.ref o, .int x1, .int x2, .int x3] : List Value).toArray s 0 0 A) (F0 m 115 ls []) := by
                    intro f
                    induction f with
                    | zero =>
                      intro v8 v9 v10 v11 z H locs ls h
                      rw [FX2_fits_L115] at h
                      cases h
                    | succ f ih26 =>
                      intro v8 v9 v10 v11 z H locs ls h hO hS hl
                      rw [FX2_fits_L115] at h
                      refine lv_iload hx hb dX2_fits_115 (lv_at hl 10 rfl) ?_
                      refine lv_iload_n hx hb dX2_fits_117 rfl (lv_at hl 2 rfl) ?_
                      refine lv_iconst (v := 2) hx hb dX2_fits_118 (by decide) ?_
                      obtain ⟨k28, e55, h⟩ := pin_nm2 h
                      have hk28 : ∀ (u27 : Int32) (ls : Array Slot), k28 u27 = some (r, zq) → lv_has ls 12 [(0, .ref o), (1, .int x1), (3, .int x3), (4, .int y9), (5, .int y10), (6, .int u11), (7, .int r13), (8, .int v8), (9, .int v9), (10, .int v10), (11, .int v11)] → W p l e ({ frames := 59, cells := 0, slots := 0, locals := 1347 }) s m ([.ref o, .int x1, .int x2, .int x3] : List Value).toArray below meth c H locs 0 0 (MQ below (QG (some (.int r)) (OM D aC o ad zq) A) ([.ref o, .int x1, .int x2, .int x3] : List Value).toArray s 0 0 A) (F0 m 133 ls [.int u27, .int v11]) := by
                        intro u27 ls h hl
                        rw [e55] at h
                        refine lv_icmp_gt (tgt := 216) hx hb dX2_fits_133 (by decide) (fun c29 => ?_) (fun c29 => ?_)
                        · have h := it_t c29 h
                          exact hk17 _ _ _ _ _ _ _ h hO hS (lv_sub hl [0, 2, 4, 5, 6, 7, 8, 9] rfl)
                        · have h := it_f c29 h
                          refine lv_aload_n hx hb dX2_fits_136 rfl (lv_at hl 0 rfl) ?_
                          refine lv_iload hx hb dX2_fits_137 (lv_at hl 4 rfl) ?_
                          refine lv_iload hx hb dX2_fits_139 (lv_at hl 5 rfl) ?_
                          refine lv_iload hx hb dX2_fits_141 (lv_at hl 10 rfl) ?_
                          obtain ⟨z30, e31, h⟩ := bn1_e h
                          refine clX2_change hf hK hO hS (metX2_change l D aC o ad A hD y10 u11 v11 z z30 e31) q1682 hl.1 (Nat.le_of_ble_eq_true rfl) ⟨Nat.le_of_ble_eq_true rfl, Nat.le_of_ble_eq_true rfl⟩ ⟨Nat.le_of_ble_eq_true rfl, Nat.le_of_ble_eq_true rfl⟩ dX2_fits_143 (fun H locs hO hS => ?_)
                          refine lv_iload_n hx hb dX2_fits_146 rfl (lv_at hl 2 rfl) ?_
                          refine lv_iconst (v := 2) hx hb dX2_fits_147 (by decide) ?_
                          obtain ⟨k32, e54, h⟩ := pin_nm h
                          have hk32 : ∀ (v33 : Int32) (v34 : Int32) (v35 : Int32) (z36 : GS) (H : Heap) (locs : List Loc) (ls : Array Slot), k32 v33 v34 v35 z36 = some (r, zq) → OM D aC o ad z36 H → va_S A s.heap H locs → lv_has ls 12 [(0, .ref o), (1, .int x1), (3, .int x3), (4, .int y9), (5, .int y10), (6, .int u11), (7, .int r13), (8, .int v33), (9, .int v34), (10, .int v35), (11, .int v11)] → W p l e ({ frames := 59, cells := 0, slots := 0, locals := 1347 }) s m ([.ref o, .int x1, .int x2, .int x3] : List Value).toArray below meth c H locs 0 0 (MQ below (QG (some (.int r)) (OM D aC o ad zq) A) ([.ref o, .int x1, .int x2, .int x3] : List Value).toArray s 0 0 A) (F0 m 210 ls []) := by
                            intro v33 v34 v35 z36 H locs ls h hO hS hl
                            rw [e54] at h
                            refine lv_iinc (v := (v11 + 1)) (lv' := [(11, .int (v11 + 1)), (0, .ref o), (1, .int x1), (3, .int x3), (4, .int y9), (5, .int y10), (6, .int u11), (7, .int r13), (8, .int v33), (9, .int v34), (10, .int v35)]) hx hb dX2_fits_210 hl (k := 10) rfl rfl (by decide) rfl (fun ls hl => ?_)
                            refine lv_goto (tgt := 115) hx hb dX2_fits_213 (by decide) ?_
                            exact ih26 _ _ _ _ _ _ _ _ h hO hS (lv_sub hl [1, 2, 3, 4, 5, 6, 7, 8, 9, 10, 0] rfl)
                          obtain ⟨k37, e53, h⟩ := pin_nm h
                          have hk37 : ∀  (ls : Array Slot), k37  = some (r, zq) → lv_has ls 12 [(0, .ref o), (1, .int x1), (3, .int x3), (4, .int y9), (5, .int y10), (6, .int u11), (7, .int r13), (8, .int v8), (9, .int v9), (10, .int v10), (11, .int v11)] → W p l e ({ frames := 59, cells := 0, slots := 0, locals := 1347 }) s m ([.ref o, .int x1, .int x2, .int x3] : List Value).toArray below meth c H locs 0 0 (MQ below (QG (some (.int r)) (OM D aC o ad zq) A) ([.ref o, .int x1, .int x2, .int x3] : List Value).toArray s 0 0 A) (F0 m 158 ls []) := by
                            intro  ls h hl
                            rw [e53] at h
                            refine lv_aload_n hx hb dX2_fits_158 rfl (lv_at hl 0 rfl) ?_
                            refine lv_iload_n hx hb dX2_fits_159 rfl (lv_at hl 1 rfl) ?_
                            refine lv_iload hx hb dX2_fits_160 (lv_at hl 3 rfl) ?_
                            obtain ⟨r38, z39, e40, h⟩ := bnd_e h
                            refine clX2_wrong hf hK hO hS (metX2_wrong l D aC o ad A hD x1 y9 z30 r38 z39 e40) q1896 hl.1 (Nat.le_of_ble_eq_true rfl) ⟨Nat.le_of_ble_eq_true rfl, Nat.le_of_ble_eq_true rfl⟩ ⟨Nat.le_of_ble_eq_true rfl, Nat.le_of_ble_eq_true rfl⟩ dX2_fits_162 (fun H locs hO hS => ?_)
                            refine lv_bipush (v := (-2)) hx hb dX2_fits_165 (by decide) ?_
                            refine lv_icmp_ne (tgt := 210) hx hb dX2_fits_167 (by decide) (fun c41 => ?_) (fun c41 => ?_)
                            · have h := it_f c41 h
                              exact hk32 _ _ _ _ _ _ _ h hO hS (lv_sub hl [0, 1, 2, 3, 4, 5, 6, 7, 8, 9, 10] rfl)
                            · have h := it_t c41 h
                              refine lv_iinc (v := (v8 + 1)) (lv' := [(8, .int (v8 + 1)), (0, .ref o), (1, .int x1), (3, .int x3), (4, .int y9), (5, .int y10), (6, .int u11), (7, .int r13), (9, .int v9), (10, .int v10), (11, .int v11)]) hx hb dX2_fits_170 hl (k := 7) rfl rfl (by decide) rfl (fun ls hl => ?_)
                              refine lv_iload hx hb dX2_fits_173 (lv_at hl 8 rfl) ?_
                              refine lv_bipush (v := (-2)) hx hb dX2_fits_175 (by decide) ?_
                              obtain ⟨k43, e49, h⟩ := pin_nm2 h
                              have hk43 : ∀ (u42 : Int32) (ls : Array Slot), k43 u42 = some (r, zq) → lv_has ls 12 [(0, .ref o), (1, .int x1), (3, .int x3), (4, .int y9), (5, .int y10), (6, .int u11), (7, .int r13), (8, .int (v8 + 1)), (10, .int v10), (11, .int v11)] → W p l e ({ frames := 59, cells := 0, slots := 0, locals := 1347 }) s m ([.ref o, .int x1, .int x2, .int x3] : List Value).toArray below meth c H locs 0 0 (MQ below (QG (some (.int r)) (OM D aC o ad zq) A) ([.ref o, .int x1, .int x2, .int x3] : List Value).toArray s 0 0 A) (F0 m 187 ls [.int u42]) := by
                                intro u42 ls h hl
                                rw [e49] at h
                                refine lv_istore (lv' := [(9, .int u42), (0, .ref o), (1, .int x1), (3, .int x3), (4, .int y9), (5, .int y10), (6, .int u11), (7, .int r13), (8, .int (v8 + 1)), (10, .int v10), (11, .int v11)]) hx hb dX2_fits_187 hl (by decide) rfl (fun ls hl => ?_)
                                refine lv_iload hx hb dX2_fits_189 (lv_at hl 9 rfl) ?_
                                refine lv_iload hx hb dX2_fits_191 (lv_at hl 10 rfl) ?_
                                refine lv_iconst (v := (-1)) hx hb dX2_fits_193 (by decide) ?_
                                obtain ⟨k45, e47, h⟩ := pin_nm2 h
                                have hk45 : ∀ (u44 : Int32) (ls : Array Slot), k45 u44 = some (r, zq) → lv_has ls 12 [(0, .ref o), (1, .int x1), (3, .int x3), (4, .int y9), (5, .int y10), (6, .int u11), (7, .int r13), (8, .int (v8 + 1)), (9, .int u42), (11, .int v11)] → W p l e ({ frames := 59, cells := 0, slots := 0, locals := 1347 }) s m ([.ref o, .int x1, .int x2, .int x3] : List Value).toArray below meth c H locs 0 0 (MQ below (QG (some (.int r)) (OM D aC o ad zq) A) ([.ref o, .int x1, .int x2, .int x3] : List Value).toArray s 0 0 A) (F0 m 207 ls [.int u44, .int v10]) := by
                                  intro u44 ls h hl
                                  rw [e47] at h
                                  refine lv_ior hx hb dX2_fits_207 ?_
                                  refine lv_topi (fun y46 ey46 => ?_)
                                  have h := pin_to ey46 h
                                  refine lv_istore (lv' := [(10, .int y46), (0, .ref o), (1, .int x1), (3, .int x3), (4, .int y9), (5, .int y10), (6, .int u11), (7, .int r13), (8, .int (v8 + 1)), (9, .int u42), (11, .int v11)]) hx hb dX2_fits_208 hl (by decide) rfl (fun ls hl => ?_)
                                  exact hk32 _ _ _ _ _ _ _ h hO hS (lv_sub hl [1, 2, 3, 4, 5, 6, 7, 8, 9, 0, 10] rfl)
                                refine lv_icmp_ne (tgt := 203) hx hb dX2_fits_194 (by decide) (fun c48 => ?_) (fun c48 => ?_)
                                · have h := pt_f (k := k45) c48 h
                                  refine lv_iconst (v := 1) hx hb dX2_fits_203 (by decide) ?_
                                  refine lv_iload hx hb dX2_fits_204 (lv_at hl 10 rfl) ?_
                                  refine g_ishl hx hb dX2_fits_206 ?_
                                  exact hk45 _ _ h (lv_sub hl [1, 2, 3, 4, 5, 6, 7, 8, 0, 10] rfl)
                                · have h := pt_t (k := k45) c48 h
                                  refine lv_sipush (v := 256) hx hb dX2_fits_197 (by decide) ?_
                                  refine lv_goto (tgt := 207) hx hb dX2_fits_200 (by decide) ?_
                                  exact hk45 _ _ h (lv_sub hl [1, 2, 3, 4, 5, 6, 7, 8, 0, 10] rfl)
                              refine lv_icmp_ne (tgt := 185) hx hb dX2_fits_177 (by decide) (fun c50 => ?_) (fun c50 => ?_)
                              · have h := pt_f (k := k43) c50 h
                                refine lv_iload hx hb dX2_fits_185 (lv_at hl 8 rfl) ?_
                                exact hk43 _ _ h (lv_sub hl [1, 2, 3, 4, 5, 6, 7, 0, 9, 10] rfl)
                              · have h := pt_t (k := k43) c50 h
                                refine lv_iload hx hb dX2_fits_180 (lv_at hl 10 rfl) ?_
                                refine lv_goto (tgt := 187) hx hb dX2_fits_182 (by decide) ?_
                                exact hk43 _ _ h (lv_sub hl [1, 2, 3, 4, 5, 6, 7, 0, 9, 10] rfl)
                          refine lv_icmp_lt (tgt := 158) hx hb dX2_fits_148 (by decide) (fun c51 => ?_) (fun c51 => ?_)
                          · have h := it_t c51 h
                            exact hk37 _ h (lv_sub hl [0, 1, 2, 3, 4, 5, 6, 7, 8, 9, 10] rfl)
                          · have h := it_f c51 h
                            refine lv_iload hx hb dX2_fits_151 (lv_at hl 10 rfl) ?_
                            refine lv_iload hx hb dX2_fits_153 (lv_at hl 4 rfl) ?_
                            refine lv_icmp_eq (tgt := 210) hx hb dX2_fits_155 (by decide) (fun c52 => ?_) (fun c52 => ?_)
                            · have h := it_t c52 h
                              exact hk32 _ _ _ _ _ _ _ h hO hS (lv_sub hl [0, 1, 2, 3, 4, 5, 6, 7, 8, 9, 10] rfl)
                            · have h := it_f c52 h
                              exact hk37 _ h (lv_sub hl [0, 1, 2, 3, 4, 5, 6, 7, 8, 9, 10] rfl)
                      refine lv_icmp_ne (tgt := 131) hx hb dX2_fits_119 (by decide) (fun c56 => ?_) (fun c56 => ?_)
                      · have h := pt_f (k := k28) c56 h
                        refine lv_bipush (v := 9) hx hb dX2_fits_131 (by decide) ?_
                        exact hk28 _ _ h (lv_sub hl [0, 1, 2, 3, 4, 5, 6, 7, 8, 9, 10] rfl)
                      · have h := pt_t (k := k28) c56 h
                        refine lv_aload_n hx hb dX2_fits_122 rfl (lv_at hl 0 rfl) ?_
                        refine X2_getF hx hb hts hown hK hO 2 (by decide) rfl (hts _ q1539) dX2_fits_123 ?_
                        refine lv_iconst (v := 1) hx hb dX2_fits_126 (by decide) ?_
                        refine lv_isub hx hb dX2_fits_127 ?_
                        refine lv_goto (tgt := 133) hx hb dX2_fits_128 (by decide) ?_
                        exact hk28 _ _ h (lv_sub hl [0, 1, 2, 3, 4, 5, 6, 7, 8, 9, 10] rfl)
                  exact key57 FU _ _ _ _ _ _ _ _ h hO hS (lv_sub hl [1, 2, 3, 4, 5, 6, 7, 8, 9, 10, 0] rfl)
                refine lv_icmp_ne (tgt := 112) hx hb dX2_fits_105 (by decide) (fun c60 => ?_) (fun c60 => ?_)
                · have h := pt_f (k := k16) c60 h
                  refine lv_iconst (v := 0) hx hb dX2_fits_112 (by decide) ?_
                  exact hk16 _ _ h (lv_sub hl [5, 6, 7, 8, 9, 4, 3, 2, 1, 0] rfl)
                · have h := pt_t (k := k16) c60 h
                  refine lv_iconst (v := (-1)) hx hb dX2_fits_108 (by decide) ?_
                  refine lv_goto (tgt := 113) hx hb dX2_fits_109 (by decide) ?_
                  exact hk16 _ _ h (lv_sub hl [5, 6, 7, 8, 9, 4, 3, 2, 1, 0] rfl)
              refine lv_icmp_ne (tgt := 80) hx hb dX2_fits_73 (by decide) (fun c62 => ?_) (fun c62 => ?_)
              · have h := pt_f (k := k12) c62 h
                refine lv_iconst (v := 1) hx hb dX2_fits_80 (by decide) ?_
                exact hk12 _ _ h (lv_sub hl [2, 3, 5, 1, 0] rfl)
              · have h := pt_t (k := k12) c62 h
                refine lv_iconst (v := 4) hx hb dX2_fits_76 (by decide) ?_
                refine lv_goto (tgt := 81) hx hb dX2_fits_77 (by decide) ?_
                exact hk12 _ _ h (lv_sub hl [2, 3, 5, 1, 0] rfl)
            · have h := it_f c8 h
              refine lv_aload_n hx hb dX2_fits_53 rfl (lv_at hl 0 rfl) ?_
              refine lv_iload_n hx hb dX2_fits_54 rfl (lv_at hl 1 rfl) ?_
              obtain ⟨r63, e64, h⟩ := bn1_e h
              refine clX2_bytesIn hf hK hO (metX2_bytesIn l D aC o ad x1 z r63 e64) q1892 hl.1 (Nat.le_of_ble_eq_true rfl) ⟨Nat.le_of_ble_eq_true rfl, Nat.le_of_ble_eq_true rfl⟩ ⟨Nat.le_of_ble_eq_true rfl, Nat.le_of_ble_eq_true rfl⟩ dX2_fits_55 ?_
              obtain ⟨e8, rfl⟩ := Prod.mk.inj (Option.some.inj h)
              exact g_retG hx hb hr hlocks e8 hO hS dX2_fits_58
          · have h := it_t c5 h
            refine lv_iconst (v := (-1)) hx hb dX2_fits_42 (by decide) ?_
            obtain ⟨e8, rfl⟩ := Prod.mk.inj (Option.some.inj h)
            exact g_retG hx hb hr hlocks e8 hO hS dX2_fits_43
theorem clX2_fits {p : Program} {l : Launch} {e : Env} {R : Room} {s : State} {m : MethodId} {args : Array Value} {below : List Frame} {meth : Method} {c : Code} {H : Heap} {locs : List Loc} {cells slots : Nat} {Q : State → Prop} {cc : ByteArray} {pc nL idx fr lo : Nat} {ls : Array Slot} {rest : List Value} {own : String} {D : va_G} {aC : Nat → ClassId} {o : Nat} {ad : Nat → Nat} {z : GS} {zq : GS} {A : Nat → Prop} {x1 : Int32} {x2 : Int32} {x3 : Int32} {r : Int32} (hf : CallFix p m c cc nL s args lw_all own) (hK : va_K D vwCl (tysG aC) s) (hO : OM D aC o ad z H) (hS : va_S A s.heap H locs) (hM : Met l yX2_fits (ws_ yX2_fits cX2_fits 12 (some .int)) ({ frames := fr, cells := 0, slots := 0, locals := lo }) (va_Pc [.ref o, .int x1, .int x2, .int x3] (PM D aC o ad z)) (QG (some (.int r)) (OM D aC o ad zq) A) 0 0 A) (hq : Cond.methodLink own idx yX2_fits ∈ lw_all) (hs : ls.size = nL) (hr : (rest.map fun v => v.category).sum ≤ 8) (hR : fr + 1 ≤ R.frames ∧ 8 + (12 + 11) + lo ≤ R.locals) (hcs : cells + 0 ≤ R.cells ∧ slots + 0 ≤ R.slots) (hd : decode cc pc = .ok (.invokevirtual idx, 3)) (kk : ∀ (H1 : Heap) (locs1 : List Loc), OM D aC o ad zq H1 → va_S A s.heap H1 locs1 → W p l e R s m args below meth c H1 locs1 cells slots Q (F0 m (pc + 3) ls (.int r :: rest))) : W p l e R s m args below meth c H locs cells slots Q (F0 m pc ls (.int x3 :: .int x2 :: .int x1 :: .ref o :: rest)) :=
  g_callG (W.runV (As := [.int x1, .int x2, .int x3]) (rest := rest) hf hM (cwV 3 hf.2.2.2.2 (lw_V hq q1901 q1902 q92 q1903) rfl rfl rfl (by decide +kernel) hR) ⟨fun a U g mk q => ⟨q.1, q.2.1, va_K.moved (u := U) (U := U.calling g mk a) (Vm.Alike.refl U.vm) q.2.2⟩, OA.recv hK hO rfl, fun U hU hW => ⟨rfl, by rw [hU]; exact hO, va_K.moved hW.alike hK⟩⟩ rfl rfl hs rfl (lv_room hr) hd hcs) hS (fun H1 locs1 hP hS _ _ => kk H1 locs1 hP hS)
theorem metX2_can (l : Launch) (D : va_G) (aC : Nat → ClassId) (o : Nat) (ad : Nat → Nat) (x1 : Int32) (x2 : Int32) (z : GS) (r : Int64) (h : FX2_can x1 x2 z = some r) : Met l yX2_can (ws_ yX2_can cX2_can 7 (some .long)) ({ frames := 2, cells := 0, slots := 0, locals := 60 }) (va_Pc [.ref o, .int x1, .int x2] (PM D aC o ad z)) (QR (some (.long r))) 0 0 (fun _ => False) := by
  refine g_ofW (cc := cX2_can) (maxL := 7) (ret := (some .long)) (own := RX2) (by decide) rfl rfl [.ref o, .int x1, .int x2] (PM D aC o ad z) (Nat.le_of_ble_eq_true rfl) ?_
  intro p e s m below meth c ls hx hb hr hml hts hown hlocks hnm hPre hl
  obtain ⟨hO, hK⟩ := hPre
  have hf : CallFix p m c cX2_can 7 s _ lw_all RX2 := ⟨hx, hb, hml, hown, hts⟩
  have hl : lv_has ls 7 [(0, .ref o), (1, .int x1), (2, .int x2)] := hl
  unfold FX2_can at h
  refine lv_iload_n hx hb dX2_can_0 rfl (lv_at hl 1 rfl) ?_
  refine clX2_isShelf hf (metX2_isShelf l x1 _ rfl) q1879 hl.1 (Nat.le_of_ble_eq_true rfl) ⟨Nat.le_of_ble_eq_true rfl, Nat.le_of_ble_eq_true rfl⟩ ⟨Nat.le_of_ble_eq_true rfl, Nat.le_of_ble_eq_true rfl⟩ dX2_can_1 ?_
  refine lv_if_eq (tgt := 25) hx hb dX2_can_4 (by decide) (fun c1 => ?_) (fun c1 => ?_)
  · have h := it_t c1 h
    refine lv_ldc2 (v := (-9223372036854775808)) hx hb hown (hts _ q1908) dX2_can_25 ?_
    exact g_retRl hx hb hr hlocks (Option.some.inj h) dX2_can_28
  · have h := it_f c1 h
    refine lv_iload_n hx hb dX2_can_7 rfl (lv_at hl 2 rfl) ?_
    refine lv_iconst (v := 0) hx hb dX2_can_8 (by decide) ?_
    refine lv_iconst (v := 1) hx hb dX2_can_9 (by decide) ?_
    refine clX2_isIn hf (metX2_isIn l x2 0 1 _ rfl) q1675 hl.1 (Nat.le_of_ble_eq_true rfl) ⟨Nat.le_of_ble_eq_true rfl, Nat.le_of_ble_eq_true rfl⟩ ⟨Nat.le_of_ble_eq_true rfl, Nat.le_of_ble_eq_true rfl⟩ dX2_can_10 ?_
    refine lv_if_eq (tgt := 25) hx hb dX2_can_13 (by decide) (fun c2 => ?_) (fun c2 => ?_)
    · have h := it_t c2 h
      refine lv_ldc2 (v := (-9223372036854775808)) hx hb hown (hts _ q1908) dX2_can_25 ?_
      exact g_retRl hx hb hr hlocks (Option.some.inj h) dX2_can_28
    · have h := it_f c2 h
      refine lv_aload_n hx hb dX2_can_16 rfl (lv_at hl 0 rfl) ?_
      refine lv_iload_n hx hb dX2_can_17 rfl (lv_at hl 1 rfl) ?_
      obtain ⟨r3, e4, h⟩ := bn1_e h
      refine clX2_bytesIn hf hK hO (metX2_bytesIn l D aC o ad x1 z r3 e4) q1892 hl.1 (Nat.le_of_ble_eq_true rfl) ⟨Nat.le_of_ble_eq_true rfl, Nat.le_of_ble_eq_true rfl⟩ ⟨Nat.le_of_ble_eq_true rfl, Nat.le_of_ble_eq_true rfl⟩ dX2_can_18 ?_
      refine lv_iconst (v := 1) hx hb dX2_can_21 (by decide) ?_
      refine lv_icmp_ge (tgt := 29) hx hb dX2_can_22 (by decide) (fun c5 => ?_) (fun c5 => ?_)
      · have h := it_t c5 h
        refine lv_iconst (v := 0) hx hb dX2_can_29 (by decide) ?_
        refine lv_istore_n (lv' := [(3, .int 0), (0, .ref o), (1, .int x1), (2, .int x2)]) hx hb dX2_can_30 rfl hl (by decide) rfl (fun ls hl => ?_)
        refine lv_iconst (v := 0) hx hb dX2_can_31 (by decide) ?_
        refine lv_istore (lv' := [(4, .int 0), (3, .int 0), (0, .ref o), (1, .int x1), (2, .int x2)]) hx hb dX2_can_32 hl (by decide) rfl (fun ls hl => ?_)
        obtain ⟨k6, e30, h⟩ := pin_nm h
        have hk6 : ∀ (v7 : Int32) (ls : Array Slot), k6 v7 = some r → lv_has ls 7 [(0, .ref o), (2, .int x2), (3, .int v7)] → W p l e ({ frames := 2, cells := 0, slots := 0, locals := 60 }) s m ([.ref o, .int x1, .int x2] : List Value).toArray below meth c s.heap [] 0 0 (MQ below (QR (some (.long r))) ([.ref o, .int x1, .int x2] : List Value).toArray s 0 0 (fun _ => False)) (F0 m 81 ls []) := by
          intro v7 ls h hl
          rw [e30] at h
          refine lv_lconst (v := 1) hx hb dX2_can_81 (by decide) ?_
          refine lv_lstore (lv' := [(4, .long 1), (0, .ref o), (2, .int x2), (3, .int v7)]) hx hb dX2_can_82 hl (by decide) rfl (fun ls hl => ?_)
          refine lv_iconst (v := 0) hx hb dX2_can_84 (by decide) ?_
          refine lv_istore (lv' := [(6, .int 0), (4, .long 1), (0, .ref o), (2, .int x2), (3, .int v7)]) hx hb dX2_can_85 hl (by decide) rfl (fun ls hl => ?_)
          obtain ⟨k8, e16, h⟩ := pin_nm h
          have hk8 : ∀ (v9 : Int64) (ls : Array Slot), k8 v9 = some r → lv_has ls 7 [(0, .ref o), (2, .int x2), (3, .int v7), (4, .long v9)] → W p l e ({ frames := 2, cells := 0, slots := 0, locals := 60 }) s m ([.ref o, .int x1, .int x2] : List Value).toArray below meth c s.heap [] 0 0 (MQ below (QR (some (.long r))) ([.ref o, .int x1, .int x2] : List Value).toArray s 0 0 (fun _ => False)) (F0 m 110 ls []) := by
            intro v9 ls h hl
            rw [e16] at h
            refine lv_iload_n hx hb dX2_can_110 rfl (lv_at hl 1 rfl) ?_
            refine lv_iconst (v := 1) hx hb dX2_can_111 (by decide) ?_
            refine lv_icmp_ne (tgt := 122) hx hb dX2_can_112 (by decide) (fun c10 => ?_) (fun c10 => ?_)
            · have h := it_f c10 h
              refine lv_iload_n hx hb dX2_can_122 rfl (lv_at hl 2 rfl) ?_
              refine lv_if_lt (tgt := 131) hx hb dX2_can_123 (by decide) (fun c11 => ?_) (fun c11 => ?_)
              · have h := it_t c11 h
                refine lv_lconst (v := 1) hx hb dX2_can_131 (by decide) ?_
                exact g_retRl hx hb hr hlocks (Option.some.inj h) dX2_can_132
              · have h := it_f c11 h
                refine lv_lload hx hb dX2_can_126 (lv_at hl 3 rfl) ?_
                refine lv_goto (tgt := 132) hx hb dX2_can_128 (by decide) ?_
                exact g_retRl hx hb hr hlocks (Option.some.inj h) dX2_can_132
            · have h := it_t c10 h
              refine lv_lload hx hb dX2_can_115 (lv_at hl 3 rfl) ?_
              refine lv_lconst (v := 1) hx hb dX2_can_117 (by decide) ?_
              refine lv_ladd hx hb dX2_can_118 ?_
              refine lv_goto (tgt := 132) hx hb dX2_can_119 (by decide) ?_
              exact g_retRl hx hb hr hlocks (Option.some.inj h) dX2_can_132
          have key15 : ∀ (f : Nat) (v4 : Int64) (v6 : Int32) (ls : Array Slot), FX2_can_L87 k8 x2 v7 z f v4 v6 = some r → lv_has ls 7 [(0, .ref o), (2, .int x2), (3, .int v7), (4, .long v4), (6, .int v6)] → W p l e ({ frames := 2, cells := 0, slots := 0, locals := 60 }) s m ([.ref o, .int x1, .int x2] : List Value).toArray below meth c s.heap [] 0 0 (MQ below (QR (some (.long r))) ([.ref o, .int x1, .int x2] : List Value).toArray s 0 0 (fun _ => False)) (F0 m 87 ls []) := by
            intro f
            induction f with
            | zero =>
              intro v4 v6 ls h
              rw [FX2_can_L87] at h
              cases h
            | succ f ih12 =>
              intro v4 v6 ls h hl
              rw [FX2_can_L87] at h
              refine lv_iload hx hb dX2_can_87 (lv_at hl 4 rfl) ?_
              refine lv_iload_n hx hb dX2_can_89 rfl (lv_at hl 2 rfl) ?_
              refine g_mabs hx hb (hml.trans hl.1.symm) hown (hts _ q1778) (hts _ q821) (hts _ q106) (hts _ q822) (Nat.le_of_ble_eq_true rfl) (Nat.le_of_ble_eq_true rfl) (Nat.le_refl _) (Nat.le_refl _) dX2_can_90 ?_
              refine lv_icmp_ge (tgt := 110) hx hb dX2_can_93 (by decide) (fun c13 => ?_) (fun c13 => ?_)
              · have h := it_t c13 h
                exact hk8 _ _ h (lv_sub hl [0, 1, 2, 3] rfl)
              · have h := it_f c13 h
                refine lv_lload hx hb dX2_can_96 (lv_at hl 3 rfl) ?_
                refine lv_ldc2 (v := 3) hx hb hown (hts _ q1882) dX2_can_98 ?_
                refine lv_lmul hx hb dX2_can_101 ?_
                refine lv_topl (fun y14 ey14 => ?_)
                have h := pin_to ey14 h
                refine lv_lstore (lv' := [(4, .long y14), (0, .ref o), (2, .int x2), (3, .int v7), (6, .int v6)]) hx hb dX2_can_102 hl (by decide) rfl (fun ls hl => ?_)
                refine lv_iinc (v := (v6 + 1)) (lv' := [(6, .int (v6 + 1)), (4, .long y14), (0, .ref o), (2, .int x2), (3, .int v7)]) hx hb dX2_can_104 hl (k := 4) rfl rfl (by decide) rfl (fun ls hl => ?_)
                refine lv_goto (tgt := 87) hx hb dX2_can_107 (by decide) ?_
                exact ih12 _ _ _ h (lv_sub hl [2, 3, 4, 1, 0] rfl)
          exact key15 FU _ _ _ h (lv_sub hl [2, 3, 4, 1, 0] rfl)
        have key29 : ∀ (f : Nat) (v3 : Int32) (v4 : Int32) (ls : Array Slot), FX2_can_L34 k6 x1 x2 z f v3 v4 = some r → lv_has ls 7 [(0, .ref o), (1, .int x1), (2, .int x2), (3, .int v3), (4, .int v4)] → W p l e ({ frames := 2, cells := 0, slots := 0, locals := 60 }) s m ([.ref o, .int x1, .int x2] : List Value).toArray below meth c s.heap [] 0 0 (MQ below (QR (some (.long r))) ([.ref o, .int x1, .int x2] : List Value).toArray s 0 0 (fun _ => False)) (F0 m 34 ls []) := by
          intro f
          induction f with
          | zero =>
            intro v3 v4 ls h
            rw [FX2_can_L34] at h
            cases h
          | succ f ih17 =>
            intro v3 v4 ls h hl
            rw [FX2_can_L34] at h
            refine lv_iload hx hb dX2_can_34 (lv_at hl 4 rfl) ?_
            refine lv_bipush (v := 30) hx hb dX2_can_36 (by decide) ?_
            refine lv_icmp_ge (tgt := 81) hx hb dX2_can_38 (by decide) (fun c18 => ?_) (fun c18 => ?_)
            · have h := it_t c18 h
              exact hk6 _ _ h (lv_sub hl [0, 2, 3] rfl)
            · have h := it_f c18 h
              refine lv_aload_n hx hb dX2_can_41 rfl (lv_at hl 0 rfl) ?_
              refine lv_iload_n hx hb dX2_can_42 rfl (lv_at hl 1 rfl) ?_
              refine lv_iload hx hb dX2_can_43 (lv_at hl 4 rfl) ?_
              obtain ⟨r19, e20, h⟩ := bn1_e h
              refine clX2_byteAt hf hK hO (metX2_byteAt l D aC o ad x1 v4 z r19 e20) q1884 hl.1 (Nat.le_of_ble_eq_true rfl) ⟨Nat.le_of_ble_eq_true rfl, Nat.le_of_ble_eq_true rfl⟩ ⟨Nat.le_of_ble_eq_true rfl, Nat.le_of_ble_eq_true rfl⟩ dX2_can_45 ?_
              refine lv_iconst (v := 0) hx hb dX2_can_48 (by decide) ?_
              refine lv_iconst (v := 1) hx hb dX2_can_49 (by decide) ?_
              refine clX2_isIn hf (metX2_isIn l r19 0 1 _ rfl) q1675 hl.1 (Nat.le_of_ble_eq_true rfl) ⟨Nat.le_of_ble_eq_true rfl, Nat.le_of_ble_eq_true rfl⟩ ⟨Nat.le_of_ble_eq_true rfl, Nat.le_of_ble_eq_true rfl⟩ dX2_can_50 ?_
              refine lv_if_eq (tgt := 81) hx hb dX2_can_53 (by decide) (fun c21 => ?_) (fun c21 => ?_)
              · have h := it_t c21 h
                exact hk6 _ _ h (lv_sub hl [0, 2, 3] rfl)
              · have h := it_f c21 h
                refine lv_iload_n hx hb dX2_can_56 rfl (lv_at hl 3 rfl) ?_
                refine lv_aload_n hx hb dX2_can_57 rfl (lv_at hl 0 rfl) ?_
                refine lv_iload_n hx hb dX2_can_58 rfl (lv_at hl 1 rfl) ?_
                refine lv_iload hx hb dX2_can_59 (lv_at hl 4 rfl) ?_
                obtain ⟨r22, e23, h⟩ := bn1_e h
                refine clX2_byteAt hf hK hO (metX2_byteAt l D aC o ad x1 v4 z r22 e23) q1884 hl.1 (Nat.le_of_ble_eq_true rfl) ⟨Nat.le_of_ble_eq_true rfl, Nat.le_of_ble_eq_true rfl⟩ ⟨Nat.le_of_ble_eq_true rfl, Nat.le_of_ble_eq_true rfl⟩ dX2_can_61 ?_
                refine lv_iconst (v := 1) hx hb dX2_can_64 (by decide) ?_
                obtain ⟨k25, e27, h⟩ := pin_nm2 h
                have hk25 : ∀ (u24 : Int32) (ls : Array Slot), k25 u24 = some r → lv_has ls 7 [(0, .ref o), (1, .int x1), (2, .int x2), (4, .int v4)] → W p l e ({ frames := 2, cells := 0, slots := 0, locals := 60 }) s m ([.ref o, .int x1, .int x2] : List Value).toArray below meth c s.heap [] 0 0 (MQ below (QR (some (.long r))) ([.ref o, .int x1, .int x2] : List Value).toArray s 0 0 (fun _ => False)) (F0 m 73 ls [.int u24, .int v3]) := by
                  intro u24 ls h hl
                  rw [e27] at h
                  refine lv_iadd hx hb dX2_can_73 ?_
                  refine lv_topi (fun y26 ey26 => ?_)
                  have h := pin_to ey26 h
                  refine lv_istore_n (lv' := [(3, .int y26), (0, .ref o), (1, .int x1), (2, .int x2), (4, .int v4)]) hx hb dX2_can_74 rfl hl (by decide) rfl (fun ls hl => ?_)
                  refine lv_iinc (v := (v4 + 1)) (lv' := [(4, .int (v4 + 1)), (3, .int y26), (0, .ref o), (1, .int x1), (2, .int x2)]) hx hb dX2_can_75 hl (k := 4) rfl rfl (by decide) rfl (fun ls hl => ?_)
                  refine lv_goto (tgt := 34) hx hb dX2_can_78 (by decide) ?_
                  exact ih17 _ _ _ h (lv_sub hl [2, 3, 4, 1, 0] rfl)
                refine lv_icmp_ne (tgt := 72) hx hb dX2_can_65 (by decide) (fun c28 => ?_) (fun c28 => ?_)
                · have h := pt_f (k := k25) c28 h
                  refine lv_iconst (v := (-1)) hx hb dX2_can_72 (by decide) ?_
                  exact hk25 _ _ h (lv_sub hl [0, 1, 2, 4] rfl)
                · have h := pt_t (k := k25) c28 h
                  refine lv_iconst (v := 1) hx hb dX2_can_68 (by decide) ?_
                  refine lv_goto (tgt := 73) hx hb dX2_can_69 (by decide) ?_
                  exact hk25 _ _ h (lv_sub hl [0, 1, 2, 4] rfl)
        exact key29 FU _ _ _ h (lv_sub hl [2, 3, 4, 1, 0] rfl)
      · have h := it_f c5 h
        refine lv_ldc2 (v := (-9223372036854775808)) hx hb hown (hts _ q1908) dX2_can_25 ?_
        exact g_retRl hx hb hr hlocks (Option.some.inj h) dX2_can_28
theorem clX2_can {p : Program} {l : Launch} {e : Env} {R : Room} {s : State} {m : MethodId} {args : Array Value} {below : List Frame} {meth : Method} {c : Code} {H : Heap} {locs : List Loc} {cells slots : Nat} {Q : State → Prop} {cc : ByteArray} {pc nL idx fr lo : Nat} {ls : Array Slot} {rest : List Value} {own : String} {D : va_G} {aC : Nat → ClassId} {o : Nat} {ad : Nat → Nat} {z : GS} {x1 : Int32} {x2 : Int32} {r : Int64} (hf : CallFix p m c cc nL s args lw_all own) (hK : va_K D vwCl (tysG aC) s) (hO : OM D aC o ad z H) (hM : Met l yX2_can (ws_ yX2_can cX2_can 7 (some .long)) ({ frames := fr, cells := 0, slots := 0, locals := lo }) (va_Pc [.ref o, .int x1, .int x2] (PM D aC o ad z)) (QR (some (.long r))) 0 0 (fun _ => False)) (hq : Cond.methodLink own idx yX2_can ∈ lw_all) (hs : ls.size = nL) (hr : (rest.map fun v => v.category).sum ≤ 8) (hR : fr + 1 ≤ R.frames ∧ 8 + (7 + 11) + lo ≤ R.locals) (hcs : cells + 0 ≤ R.cells ∧ slots + 0 ≤ R.slots) (hd : decode cc pc = .ok (.invokevirtual idx, 3)) (kk : W p l e R s m args below meth c H locs cells slots Q (F0 m (pc + 3) ls (.long r :: rest))) : W p l e R s m args below meth c H locs cells slots Q (F0 m pc ls (.int x2 :: .int x1 :: .ref o :: rest)) :=
  g_callR (W.runV (As := [.int x1, .int x2]) (rest := rest) hf hM (cwV 2 hf.2.2.2.2 (lw_V hq q1905 q1906 q92 q1907) rfl rfl rfl (by decide +kernel) hR) ⟨fun a U g mk q => ⟨q.1, q.2.1, va_K.moved (u := U) (U := U.calling g mk a) (Vm.Alike.refl U.vm) q.2.2⟩, OA.recv hK hO rfl, fun U hU hW => ⟨rfl, by rw [hU]; exact hO, va_K.moved hW.alike hK⟩⟩ rfl rfl hs rfl (lv_room hr) hd hcs) kk
theorem metX2_paid (l : Launch) (D : va_G) (aC : Nat → ClassId) (o : Nat) (ad : Nat → Nat) (x1 : Int32) (x2 : Int32) (z : GS) (r : Int32) (h : FX2_paid x1 x2 z = some r) : Met l yX2_paid (ws_ yX2_paid cX2_paid 7 (some .int)) ({ frames := 2, cells := 0, slots := 0, locals := 45 }) (va_Pc [.ref o, .int x1, .int x2] (PM D aC o ad z)) (QR (some (.int r))) 0 0 (fun _ => False) := by
  refine g_ofW (cc := cX2_paid) (maxL := 7) (ret := (some .int)) (own := RX2) (by decide) rfl rfl [.ref o, .int x1, .int x2] (PM D aC o ad z) (Nat.le_of_ble_eq_true rfl) ?_
  intro p e s m below meth c ls hx hb hr hml hts hown hlocks hnm hPre hl
  obtain ⟨hO, hK⟩ := hPre
  have hf : CallFix p m c cX2_paid 7 s _ lw_all RX2 := ⟨hx, hb, hml, hown, hts⟩
  have hl : lv_has ls 7 [(0, .ref o), (1, .int x1), (2, .int x2)] := hl
  unfold FX2_paid at h
  refine lv_aload_n hx hb dX2_paid_0 rfl (lv_at hl 0 rfl) ?_
  refine lv_iload_n hx hb dX2_paid_1 rfl (lv_at hl 1 rfl) ?_
  refine clX2_isOne hf hK hO (metX2_isOne l D aC o ad x1 z _ rfl) q1694 hl.1 (Nat.le_of_ble_eq_true rfl) ⟨Nat.le_of_ble_eq_true rfl, Nat.le_of_ble_eq_true rfl⟩ ⟨Nat.le_of_ble_eq_true rfl, Nat.le_of_ble_eq_true rfl⟩ dX2_paid_2 ?_
  refine lv_if_eq (tgt := 19) hx hb dX2_paid_5 (by decide) (fun c1 => ?_) (fun c1 => ?_)
  · have h := it_t c1 h
    refine lv_iconst (v := (-1)) hx hb dX2_paid_19 (by decide) ?_
    exact g_retR hx hb hr hlocks (Option.some.inj h) dX2_paid_20
  · have h := it_f c1 h
    refine lv_iload_n hx hb dX2_paid_8 rfl (lv_at hl 2 rfl) ?_
    refine lv_iconst (v := 0) hx hb dX2_paid_9 (by decide) ?_
    refine lv_sipush (v := 9999) hx hb dX2_paid_10 (by decide) ?_
    refine clX2_isIn hf (metX2_isIn l x2 0 9999 _ rfl) q1675 hl.1 (Nat.le_of_ble_eq_true rfl) ⟨Nat.le_of_ble_eq_true rfl, Nat.le_of_ble_eq_true rfl⟩ ⟨Nat.le_of_ble_eq_true rfl, Nat.le_of_ble_eq_true rfl⟩ dX2_paid_13 ?_
    refine lv_if_ne (tgt := 21) hx hb dX2_paid_16 (by decide) (fun c2 => ?_) (fun c2 => ?_)
    · have h := it_f c2 h
      refine lv_iconst (v := 0) hx hb dX2_paid_21 (by decide) ?_
      refine lv_istore_n (lv' := [(3, .int 0), (0, .ref o), (1, .int x1), (2, .int x2)]) hx hb dX2_paid_22 rfl hl (by decide) rfl (fun ls hl => ?_)
      refine lv_iconst (v := 0) hx hb dX2_paid_23 (by decide) ?_
      refine lv_istore (lv' := [(4, .int 0), (3, .int 0), (0, .ref o), (1, .int x1), (2, .int x2)]) hx hb dX2_paid_24 hl (by decide) rfl (fun ls hl => ?_)
      refine lv_iconst (v := 0) hx hb dX2_paid_26 (by decide) ?_
      refine lv_istore (lv' := [(5, .int 0), (4, .int 0), (3, .int 0), (0, .ref o), (1, .int x1), (2, .int x2)]) hx hb dX2_paid_27 hl (by decide) rfl (fun ls hl => ?_)
      obtain ⟨k3, e40, h⟩ := pin_nm h
      have hk3 : ∀ (v4 : Int32) (v5 : Int32) (ls : Array Slot), k3 v4 v5 = some r → lv_has ls 7 [(0, .ref o), (2, .int x2), (3, .int v4), (4, .int v5)] → W p l e ({ frames := 2, cells := 0, slots := 0, locals := 45 }) s m ([.ref o, .int x1, .int x2] : List Value).toArray below meth c s.heap [] 0 0 (MQ below (QR (some (.int r))) ([.ref o, .int x1, .int x2] : List Value).toArray s 0 0 (fun _ => False)) (F0 m 121 ls []) := by
        intro v4 v5 ls h hl
        rw [e40] at h
        refine lv_iload_n hx hb dX2_paid_121 rfl (lv_at hl 2 rfl) ?_
        refine lv_if_ne (tgt := 129) hx hb dX2_paid_122 (by decide) (fun c6 => ?_) (fun c6 => ?_)
        · have h := it_f c6 h
          refine lv_iload_n hx hb dX2_paid_129 rfl (lv_at hl 1 rfl) ?_
          refine lv_iload hx hb dX2_paid_130 (lv_at hl 3 rfl) ?_
          refine lv_imul hx hb dX2_paid_132 ?_
          refine lv_iload_n hx hb dX2_paid_133 rfl (lv_at hl 2 rfl) ?_
          obtain ⟨g7, h⟩ := grd h
          refine lv_idiv hx hb dX2_paid_134 g7 ?_
          exact g_retR hx hb hr hlocks (Option.some.inj h) dX2_paid_135
        · have h := it_t c6 h
          refine lv_iconst (v := 0) hx hb dX2_paid_125 (by decide) ?_
          refine lv_goto (tgt := 135) hx hb dX2_paid_126 (by decide) ?_
          exact g_retR hx hb hr hlocks (Option.some.inj h) dX2_paid_135
      have key39 : ∀ (f : Nat) (v3 : Int32) (v4 : Int32) (v5 : Int32) (ls : Array Slot), FX2_paid_L29 k3 x1 x2 z f v3 v4 v5 = some r → lv_has ls 7 [(0, .ref o), (1, .int x1), (2, .int x2), (3, .int v3), (4, .int v4), (5, .int v5)] → W p l e ({ frames := 2, cells := 0, slots := 0, locals := 45 }) s m ([.ref o, .int x1, .int x2] : List Value).toArray below meth c s.heap [] 0 0 (MQ below (QR (some (.int r))) ([.ref o, .int x1, .int x2] : List Value).toArray s 0 0 (fun _ => False)) (F0 m 29 ls []) := by
        intro f
        induction f with
        | zero =>
          intro v3 v4 v5 ls h
          rw [FX2_paid_L29] at h
          cases h
        | succ f ih8 =>
          intro v3 v4 v5 ls h hl
          rw [FX2_paid_L29] at h
          refine lv_iload hx hb dX2_paid_29 (lv_at hl 5 rfl) ?_
          refine lv_aload_n hx hb dX2_paid_31 rfl (lv_at hl 0 rfl) ?_
          refine X2_getF hx hb hts hown hK hO 2 (by decide) rfl (hts _ q1539) dX2_paid_32 ?_
          refine lv_icmp_ge (tgt := 121) hx hb dX2_paid_35 (by decide) (fun c9 => ?_) (fun c9 => ?_)
          · have h := it_t c9 h
            exact hk3 _ _ _ h (lv_sub hl [0, 2, 3, 4] rfl)
          · have h := it_f c9 h
            refine lv_aload_n hx hb dX2_paid_38 rfl (lv_at hl 0 rfl) ?_
            refine lv_iload hx hb dX2_paid_39 (lv_at hl 5 rfl) ?_
            refine lv_iconst (v := 4) hx hb dX2_paid_41 (by decide) ?_
            obtain ⟨r10, e11, h⟩ := bn1_e h
            refine clX2_number_2 hf hK hO (metX2_number_2 l D aC o ad v5 4 z r10 e11) q1771 hl.1 (Nat.le_of_ble_eq_true rfl) ⟨Nat.le_of_ble_eq_true rfl, Nat.le_of_ble_eq_true rfl⟩ ⟨Nat.le_of_ble_eq_true rfl, Nat.le_of_ble_eq_true rfl⟩ dX2_paid_42 ?_
            refine lv_iconst (v := (-1)) hx hb dX2_paid_45 (by decide) ?_
            obtain ⟨k12, e38, h⟩ := pin_nm h
            have hk12 : ∀ (u13 : Int32) (ls : Array Slot), k12 u13 = some r → lv_has ls 7 [(0, .ref o), (1, .int x1), (2, .int x2), (3, .int v3), (4, .int v4), (5, .int v5)] → W p l e ({ frames := 2, cells := 0, slots := 0, locals := 45 }) s m ([.ref o, .int x1, .int x2] : List Value).toArray below meth c s.heap [] 0 0 (MQ below (QR (some (.int r))) ([.ref o, .int x1, .int x2] : List Value).toArray s 0 0 (fun _ => False)) (F0 m 69 ls [.int u13]) := by
              intro u13 ls h hl
              rw [e38] at h
              refine lv_istore (lv' := [(6, .int u13), (0, .ref o), (1, .int x1), (2, .int x2), (3, .int v3), (4, .int v4), (5, .int v5)]) hx hb dX2_paid_69 hl (by decide) rfl (fun ls hl => ?_)
              refine lv_iload_n hx hb dX2_paid_71 rfl (lv_at hl 4 rfl) ?_
              refine lv_iload hx hb dX2_paid_72 (lv_at hl 0 rfl) ?_
              obtain ⟨k14, e29, h⟩ := pin_nm h
              have hk14 : ∀ (u15 : Int32) (ls : Array Slot), k14 u15 = some r → lv_has ls 7 [(0, .ref o), (1, .int x1), (2, .int x2), (4, .int v4), (5, .int v5), (6, .int u13)] → W p l e ({ frames := 2, cells := 0, slots := 0, locals := 45 }) s m ([.ref o, .int x1, .int x2] : List Value).toArray below meth c s.heap [] 0 0 (MQ below (QR (some (.int r))) ([.ref o, .int x1, .int x2] : List Value).toArray s 0 0 (fun _ => False)) (F0 m 88 ls [.int u15, .int v3]) := by
                intro u15 ls h hl
                rw [e29] at h
                refine lv_iadd hx hb dX2_paid_88 ?_
                refine lv_topi (fun y16 ey16 => ?_)
                have h := pin_to ey16 h
                refine lv_istore_n (lv' := [(3, .int y16), (0, .ref o), (1, .int x1), (2, .int x2), (4, .int v4), (5, .int v5), (6, .int u13)]) hx hb dX2_paid_89 rfl hl (by decide) rfl (fun ls hl => ?_)
                refine lv_iload hx hb dX2_paid_90 (lv_at hl 6 rfl) ?_
                obtain ⟨k17, e25, h⟩ := pin_nm h
                have hk17 : ∀ (u18 : Int32) (ls : Array Slot), k17 u18 = some r → lv_has ls 7 [(0, .ref o), (1, .int x1), (2, .int x2), (3, .int y16), (5, .int v5)] → W p l e ({ frames := 2, cells := 0, slots := 0, locals := 45 }) s m ([.ref o, .int x1, .int x2] : List Value).toArray below meth c s.heap [] 0 0 (MQ below (QR (some (.int r))) ([.ref o, .int x1, .int x2] : List Value).toArray s 0 0 (fun _ => False)) (F0 m 113 ls [.int u18]) := by
                  intro u18 ls h hl
                  rw [e25] at h
                  refine lv_istore (lv' := [(4, .int u18), (0, .ref o), (1, .int x1), (2, .int x2), (3, .int y16), (5, .int v5)]) hx hb dX2_paid_113 hl (by decide) rfl (fun ls hl => ?_)
                  refine lv_iinc (v := (v5 + 1)) (lv' := [(5, .int (v5 + 1)), (4, .int u18), (0, .ref o), (1, .int x1), (2, .int x2), (3, .int y16)]) hx hb dX2_paid_115 hl (k := 5) rfl rfl (by decide) rfl (fun ls hl => ?_)
                  refine lv_goto (tgt := 29) hx hb dX2_paid_118 (by decide) ?_
                  exact ih8 _ _ _ _ h (lv_sub hl [2, 3, 4, 5, 1, 0] rfl)
                obtain ⟨k19, e24, h⟩ := pin_nm h
                have hk19 : ∀  (ls : Array Slot), k19  = some r → lv_has ls 7 [(0, .ref o), (1, .int x1), (2, .int x2), (3, .int y16), (4, .int v4), (5, .int v5)] → W p l e ({ frames := 2, cells := 0, slots := 0, locals := 45 }) s m ([.ref o, .int x1, .int x2] : List Value).toArray below meth c s.heap [] 0 0 (MQ below (QR (some (.int r))) ([.ref o, .int x1, .int x2] : List Value).toArray s 0 0 (fun _ => False)) (F0 m 111 ls []) := by
                  intro  ls h hl
                  rw [e24] at h
                  refine lv_iload hx hb dX2_paid_111 (lv_at hl 4 rfl) ?_
                  exact hk17 _ _ h (lv_sub hl [0, 1, 2, 3, 5] rfl)
                refine lv_if_eq (tgt := 111) hx hb dX2_paid_92 (by decide) (fun c20 => ?_) (fun c20 => ?_)
                · have h := it_t c20 h
                  exact hk19 _ h (lv_sub hl [1, 2, 3, 0, 4, 5] rfl)
                · have h := it_f c20 h
                  refine lv_iload hx hb dX2_paid_95 (lv_at hl 5 rfl) ?_
                  refine lv_iload_n hx hb dX2_paid_97 rfl (lv_at hl 2 rfl) ?_
                  refine lv_icmp_ne (tgt := 111) hx hb dX2_paid_98 (by decide) (fun c21 => ?_) (fun c21 => ?_)
                  · have h := it_f c21 h
                    exact hk19 _ h (lv_sub hl [1, 2, 3, 0, 4, 5] rfl)
                  · have h := it_t c21 h
                    refine lv_aload_n hx hb dX2_paid_101 rfl (lv_at hl 1 rfl) ?_
                    refine lv_iload hx hb dX2_paid_102 (lv_at hl 5 rfl) ?_
                    refine lv_iconst (v := 1) hx hb dX2_paid_104 (by decide) ?_
                    obtain ⟨r22, e23, h⟩ := bn1_e h
                    refine clX2_number_2 hf hK hO (metX2_number_2 l D aC o ad v5 1 z r22 e23) q1771 hl.1 (Nat.le_of_ble_eq_true rfl) ⟨Nat.le_of_ble_eq_true rfl, Nat.le_of_ble_eq_true rfl⟩ ⟨Nat.le_of_ble_eq_true rfl, Nat.le_of_ble_eq_true rfl⟩ dX2_paid_105 ?_
                    refine lv_goto (tgt := 113) hx hb dX2_paid_108 (by decide) ?_
                    exact hk17 _ _ h (lv_sub hl [1, 2, 3, 0, 5] rfl)
              refine lv_if_eq (tgt := 87) hx hb dX2_paid_74 (by decide) (fun c26 => ?_) (fun c26 => ?_)
              · have h := it_t c26 h
                refine lv_iconst (v := 0) hx hb dX2_paid_87 (by decide) ?_
                exact hk14 _ _ h (lv_sub hl [1, 2, 3, 5, 6, 0] rfl)
              · have h := it_f c26 h
                refine lv_aload_n hx hb dX2_paid_77 rfl (lv_at hl 1 rfl) ?_
                refine lv_iload hx hb dX2_paid_78 (lv_at hl 6 rfl) ?_
                refine lv_iconst (v := 1) hx hb dX2_paid_80 (by decide) ?_
                obtain ⟨r27, e28, h⟩ := bn1_e h
                refine clX2_number_2 hf hK hO (metX2_number_2 l D aC o ad v5 1 z r27 e28) q1771 hl.1 (Nat.le_of_ble_eq_true rfl) ⟨Nat.le_of_ble_eq_true rfl, Nat.le_of_ble_eq_true rfl⟩ ⟨Nat.le_of_ble_eq_true rfl, Nat.le_of_ble_eq_true rfl⟩ dX2_paid_81 ?_
                refine lv_goto (tgt := 88) hx hb dX2_paid_84 (by decide) ?_
                exact hk14 _ _ h (lv_sub hl [1, 2, 3, 5, 6, 0] rfl)
            obtain ⟨k30, e37, h⟩ := pin_nm h
            have hk30 : ∀  (ls : Array Slot), k30  = some r → lv_has ls 7 [(0, .ref o), (1, .int x1), (2, .int x2), (3, .int v3), (4, .int v4), (5, .int v5)] → W p l e ({ frames := 2, cells := 0, slots := 0, locals := 45 }) s m ([.ref o, .int x1, .int x2] : List Value).toArray below meth c s.heap [] 0 0 (MQ below (QR (some (.int r))) ([.ref o, .int x1, .int x2] : List Value).toArray s 0 0 (fun _ => False)) (F0 m 68 ls []) := by
              intro  ls h hl
              rw [e37] at h
              refine lv_iconst (v := 0) hx hb dX2_paid_68 (by decide) ?_
              exact hk12 _ _ h (lv_sub hl [0, 1, 2, 3, 4, 5] rfl)
            refine lv_icmp_eq (tgt := 68) hx hb dX2_paid_46 (by decide) (fun c31 => ?_) (fun c31 => ?_)
            · have h := it_t c31 h
              exact hk30 _ h (lv_sub hl [0, 1, 2, 3, 4, 5] rfl)
            · have h := it_f c31 h
              refine lv_aload_n hx hb dX2_paid_49 rfl (lv_at hl 0 rfl) ?_
              refine lv_aload_n hx hb dX2_paid_50 rfl (lv_at hl 0 rfl) ?_
              refine lv_iload hx hb dX2_paid_51 (lv_at hl 5 rfl) ?_
              refine lv_iconst (v := 4) hx hb dX2_paid_53 (by decide) ?_
              obtain ⟨r32, e33, h⟩ := bn1_e h
              refine clX2_number_2 hf hK hO (metX2_number_2 l D aC o ad v5 4 z r32 e33) q1771 hl.1 (Nat.le_of_ble_eq_true rfl) ⟨Nat.le_of_ble_eq_true rfl, Nat.le_of_ble_eq_true rfl⟩ ⟨Nat.le_of_ble_eq_true rfl, Nat.le_of_ble_eq_true rfl⟩ dX2_paid_54 ?_
              obtain ⟨r34, e35, h⟩ := bn1_e h
              refine clX2_carers hf hK hO (metX2_carers l D aC o ad r32 z r34 e35) q1779 hl.1 (Nat.le_of_ble_eq_true rfl) ⟨Nat.le_of_ble_eq_true rfl, Nat.le_of_ble_eq_true rfl⟩ ⟨Nat.le_of_ble_eq_true rfl, Nat.le_of_ble_eq_true rfl⟩ dX2_paid_57 ?_
              refine lv_iconst (v := 1) hx hb dX2_paid_60 (by decide) ?_
              refine lv_icmp_ne (tgt := 68) hx hb dX2_paid_61 (by decide) (fun c36 => ?_) (fun c36 => ?_)
              · have h := it_f c36 h
                exact hk30 _ h (lv_sub hl [0, 1, 2, 3, 4, 5] rfl)
              · have h := it_t c36 h
                refine lv_iconst (v := 1) hx hb dX2_paid_64 (by decide) ?_
                refine lv_goto (tgt := 69) hx hb dX2_paid_65 (by decide) ?_
                exact hk12 _ _ h (lv_sub hl [0, 1, 2, 3, 4, 5] rfl)
      exact key39 FU _ _ _ _ h (lv_sub hl [3, 4, 5, 2, 1, 0] rfl)
    · have h := it_t c2 h
      refine lv_iconst (v := (-1)) hx hb dX2_paid_19 (by decide) ?_
      exact g_retR hx hb hr hlocks (Option.some.inj h) dX2_paid_20
theorem clX2_paid {p : Program} {l : Launch} {e : Env} {R : Room} {s : State} {m : MethodId} {args : Array Value} {below : List Frame} {meth : Method} {c : Code} {H : Heap} {locs : List Loc} {cells slots : Nat} {Q : State → Prop} {cc : ByteArray} {pc nL idx fr lo : Nat} {ls : Array Slot} {rest : List Value} {own : String} {D : va_G} {aC : Nat → ClassId} {o : Nat} {ad : Nat → Nat} {z : GS} {x1 : Int32} {x2 : Int32} {r : Int32} (hf : CallFix p m c cc nL s args lw_all own) (hK : va_K D vwCl (tysG aC) s) (hO : OM D aC o ad z H) (hM : Met l yX2_paid (ws_ yX2_paid cX2_paid 7 (some .int)) ({ frames := fr, cells := 0, slots := 0, locals := lo }) (va_Pc [.ref o, .int x1, .int x2] (PM D aC o ad z)) (QR (some (.int r))) 0 0 (fun _ => False)) (hq : Cond.methodLink own idx yX2_paid ∈ lw_all) (hs : ls.size = nL) (hr : (rest.map fun v => v.category).sum ≤ 8) (hR : fr + 1 ≤ R.frames ∧ 8 + (7 + 11) + lo ≤ R.locals) (hcs : cells + 0 ≤ R.cells ∧ slots + 0 ≤ R.slots) (hd : decode cc pc = .ok (.invokevirtual idx, 3)) (kk : W p l e R s m args below meth c H locs cells slots Q (F0 m (pc + 3) ls (.int r :: rest))) : W p l e R s m args below meth c H locs cells slots Q (F0 m pc ls (.int x2 :: .int x1 :: .ref o :: rest)) :=
  g_callR (W.runV (As := [.int x1, .int x2]) (rest := rest) hf hM (cwV 2 hf.2.2.2.2 (lw_V hq q1910 q1911 q92 q1912) rfl rfl rfl (by decide +kernel) hR) ⟨fun a U g mk q => ⟨q.1, q.2.1, va_K.moved (u := U) (U := U.calling g mk a) (Vm.Alike.refl U.vm) q.2.2⟩, OA.recv hK hO rfl, fun U hU hW => ⟨rfl, by rw [hU]; exact hO, va_K.moved hW.alike hK⟩⟩ rfl rfl hs rfl (lv_room hr) hd hcs) kk
theorem metX2_passOn (l : Launch) (D : va_G) (aC : Nat → ClassId) (o : Nat) (ad : Nat → Nat) (A : Nat → Prop) (hD : OD A 44 kdM o ad) (x1 : Int32) (z : GS)  (zq : GS) (h : FX2_passOn x1 z = some zq) : Met l yX2_passOn (ws_ yX2_passOn cX2_passOn 3 none) ({ frames := 1, cells := 0, slots := 0, locals := 23 }) (va_Pc [.ref o, .int x1] (PM D aC o ad z)) (QG none (OM D aC o ad zq) A) 0 0 A := by
  refine g_ofW (cc := cX2_passOn) (maxL := 3) (ret := none) (own := RX2) (by decide) rfl rfl [.ref o, .int x1] (PM D aC o ad z) (Nat.le_of_ble_eq_true rfl) ?_
  intro p e s m below meth c ls hx hb hr hml hts hown hlocks hnm hPre hl
  obtain ⟨hO, hK⟩ := hPre
  have hf : CallFix p m c cX2_passOn 3 s _ lw_all RX2 := ⟨hx, hb, hml, hown, hts⟩
  have hl : lv_has ls 3 [(0, .ref o), (1, .int x1)] := hl
  refine g_open (A := A) (OM D aC o ad z) hO (fun H locs hO hS => ?_)
  unfold FX2_passOn at h
  refine lv_aload_n hx hb dX2_passOn_0 rfl (lv_at hl 0 rfl) ?_
  refine lv_iload_n hx hb dX2_passOn_1 rfl (lv_at hl 1 rfl) ?_
  refine lv_iconst (v := 4) hx hb dX2_passOn_2 (by decide) ?_
  obtain ⟨r1, e2, h⟩ := bn1_e h
  refine clX2_number_2 hf hK hO (metX2_number_2 l D aC o ad x1 4 z r1 e2) q1771 hl.1 (Nat.le_of_ble_eq_true rfl) ⟨Nat.le_of_ble_eq_true rfl, Nat.le_of_ble_eq_true rfl⟩ ⟨Nat.le_of_ble_eq_true rfl, Nat.le_of_ble_eq_true rfl⟩ dX2_passOn_3 ?_
  refine lv_iconst (v := 1) hx hb dX2_passOn_6 (by decide) ?_
  refine lv_iadd hx hb dX2_passOn_7 ?_
  refine lv_aload_n hx hb dX2_passOn_8 rfl (lv_at hl 0 rfl) ?_
  refine X2_getF hx hb hts hown hK hO 2 (by decide) rfl (hts _ q1539) dX2_passOn_9 ?_
  obtain ⟨g3, h⟩ := grd h
  refine g_irem hx hb dX2_passOn_12 g3 ?_
  refine lv_topi (fun y4 ey4 => ?_)
  have h := pin_to ey4 h
  refine lv_istore_n (lv' := [(2, .int y4), (0, .ref o), (1, .int x1)]) hx hb dX2_passOn_13 rfl hl (by decide) rfl (fun ls hl => ?_)
  refine lv_iload_n hx hb dX2_passOn_14 rfl (lv_at hl 0 rfl) ?_
  refine lv_iload_n hx hb dX2_passOn_15 rfl (lv_at hl 2 rfl) ?_
  obtain ⟨k5, e15, h⟩ := pin_nm h
  have hk5 : ∀ (u6 : Int32) (ls : Array Slot), k5 u6 = some zq → lv_has ls 3 [(0, .ref o), (1, .int x1)] → W p l e ({ frames := 1, cells := 0, slots := 0, locals := 23 }) s m ([.ref o, .int x1] : List Value).toArray below meth c H locs 0 0 (MQ below (QG none (OM D aC o ad zq) A) ([.ref o, .int x1] : List Value).toArray s 0 0 A) (F0 m 31 ls [.int u6]) := by
    intro u6 ls h hl
    rw [e15] at h
    refine lv_istore_n (lv' := [(2, .int u6), (0, .ref o), (1, .int x1)]) hx hb dX2_passOn_31 rfl hl (by decide) rfl (fun ls hl => ?_)
    refine lv_aload_n hx hb dX2_passOn_32 rfl (lv_at hl 1 rfl) ?_
    refine lv_iload_n hx hb dX2_passOn_33 rfl (lv_at hl 2 rfl) ?_
    refine lv_iconst (v := 4) hx hb dX2_passOn_34 (by decide) ?_
    refine lv_iload_n hx hb dX2_passOn_35 rfl (lv_at hl 0 rfl) ?_
    refine lv_iload_n hx hb dX2_passOn_36 rfl (lv_at hl 2 rfl) ?_
    obtain ⟨k8, e11, h⟩ := pin_nm2 h
    have hk8 : ∀ (u7 : Int32) (ls : Array Slot), k8 u7 = some zq → lv_has ls 3 [(0, .ref o)] → W p l e ({ frames := 1, cells := 0, slots := 0, locals := 23 }) s m ([.ref o, .int x1] : List Value).toArray below meth c H locs 0 0 (MQ below (QG none (OM D aC o ad zq) A) ([.ref o, .int x1] : List Value).toArray s 0 0 A) (F0 m 45 ls [.int u7, .int 4, .int x1, .ref o]) := by
      intro u7 ls h hl
      rw [e11] at h
      obtain ⟨z9, e10, h⟩ := bn1_e h
      refine clX2_change hf hK hO hS (metX2_change l D aC o ad A hD x1 4 u7 z z9 e10) q1682 hl.1 (Nat.le_of_ble_eq_true rfl) ⟨Nat.le_of_ble_eq_true rfl, Nat.le_of_ble_eq_true rfl⟩ ⟨Nat.le_of_ble_eq_true rfl, Nat.le_of_ble_eq_true rfl⟩ dX2_passOn_45 (fun H locs hO hS => ?_)
      cases Option.some.inj h
      exact g_retGv hx hb hr hlocks hO hS dX2_passOn_48
    refine lv_icmp_ne (tgt := 44) hx hb dX2_passOn_37 (by decide) (fun c12 => ?_) (fun c12 => ?_)
    · have h := pt_f (k := k8) c12 h
      refine lv_iload_n hx hb dX2_passOn_44 rfl (lv_at hl 0 rfl) ?_
      exact hk8 _ _ h (lv_sub hl [1] rfl)
    · have h := pt_t (k := k8) c12 h
      refine lv_iconst (v := (-1)) hx hb dX2_passOn_40 (by decide) ?_
      refine lv_goto (tgt := 45) hx hb dX2_passOn_41 (by decide) ?_
      exact hk8 _ _ h (lv_sub hl [1] rfl)
  refine lv_icmp_ne (tgt := 30) hx hb dX2_passOn_16 (by decide) (fun c13 => ?_) (fun c13 => ?_)
  · have h := it_f c13 h
    refine lv_iload_n hx hb dX2_passOn_30 rfl (lv_at hl 0 rfl) ?_
    exact hk5 _ _ h (lv_sub hl [1, 2] rfl)
  · have h := it_t c13 h
    refine lv_iload_n hx hb dX2_passOn_19 rfl (lv_at hl 0 rfl) ?_
    refine lv_iconst (v := 1) hx hb dX2_passOn_20 (by decide) ?_
    refine lv_iadd hx hb dX2_passOn_21 ?_
    refine lv_aload_n hx hb dX2_passOn_22 rfl (lv_at hl 1 rfl) ?_
    refine X2_getF hx hb hts hown hK hO 2 (by decide) rfl (hts _ q1539) dX2_passOn_23 ?_
    obtain ⟨g14, h⟩ := grd h
    refine g_irem hx hb dX2_passOn_26 g14 ?_
    refine lv_goto (tgt := 31) hx hb dX2_passOn_27 (by decide) ?_
    exact hk5 _ _ h (lv_sub hl [1, 2] rfl)
theorem clX2_passOn {p : Program} {l : Launch} {e : Env} {R : Room} {s : State} {m : MethodId} {args : Array Value} {below : List Frame} {meth : Method} {c : Code} {H : Heap} {locs : List Loc} {cells slots : Nat} {Q : State → Prop} {cc : ByteArray} {pc nL idx fr lo : Nat} {ls : Array Slot} {rest : List Value} {own : String} {D : va_G} {aC : Nat → ClassId} {o : Nat} {ad : Nat → Nat} {z : GS} {zq : GS} {A : Nat → Prop} {x1 : Int32}  (hf : CallFix p m c cc nL s args lw_all own) (hK : va_K D vwCl (tysG aC) s) (hO : OM D aC o ad z H) (hS : va_S A s.heap H locs) (hM : Met l yX2_passOn (ws_ yX2_passOn cX2_passOn 3 none) ({ frames := fr, cells := 0, slots := 0, locals := lo }) (va_Pc [.ref o, .int x1] (PM D aC o ad z)) (QG none (OM D aC o ad zq) A) 0 0 A) (hq : Cond.methodLink own idx yX2_passOn ∈ lw_all) (hs : ls.size = nL) (hr : (rest.map fun v => v.category).sum ≤ 8) (hR : fr + 1 ≤ R.frames ∧ 8 + (3 + 11) + lo ≤ R.locals) (hcs : cells + 0 ≤ R.cells ∧ slots + 0 ≤ R.slots) (hd : decode cc pc = .ok (.invokevirtual idx, 3)) (kk : ∀ (H1 : Heap) (locs1 : List Loc), OM D aC o ad zq H1 → va_S A s.heap H1 locs1 → W p l e R s m args below meth c H1 locs1 cells slots Q (F0 m (pc + 3) ls (rest))) : W p l e R s m args below meth c H locs cells slots Q (F0 m pc ls (.int x1 :: .ref o :: rest)) :=
  g_callG (W.runV (As := [.int x1]) (rest := rest) hf hM (cwV 1 hf.2.2.2.2 (lw_V hq q1923 qs85 q92 q1924) rfl rfl rfl (by decide +kernel) hR) ⟨fun a U g mk q => ⟨q.1, q.2.1, va_K.moved (u := U) (U := U.calling g mk a) (Vm.Alike.refl U.vm) q.2.2⟩, OA.recv hK hO rfl, fun U hU hW => ⟨rfl, by rw [hU]; exact hO, va_K.moved hW.alike hK⟩⟩ rfl rfl hs rfl (lv_room hr) hd hcs) hS (fun H1 locs1 hP hS _ _ => kk H1 locs1 hP hS)
theorem clX2_turns {p : Program} {l : Launch} {e : Env} {R : Room} {s : State} {m : MethodId} {args : Array Value} {below : List Frame} {meth : Method} {c : Code} {H : Heap} {locs : List Loc} {cells slots : Nat} {Q : State → Prop} {cc : ByteArray} {pc nL idx fr lo : Nat} {ls : Array Slot} {rest : List Value} {own : String} {D : va_G} {aC : Nat → ClassId} {o : Nat} {ad : Nat → Nat} {z : GS} {zq : GS} {A : Nat → Prop} {x1 : Int32} {x2 : Int32} {x3 : Int32} {r : Int32} (hf : CallFix p m c cc nL s args lw_all own) (hK : va_K D vwCl (tysG aC) s) (hO : OM D aC o ad z H) (hS : va_S A s.heap H locs) (hM : Met l yX2_turns (ws_ yX2_turns cX2_turns 10 (some .int)) ({ frames := fr, cells := 0, slots := 0, locals := lo }) (va_Pc [.ref o, .int x1, .int x2, .int x3] (PM D aC o ad z)) (QG (some (.int r)) (OM D aC o ad zq) A) 0 0 A) (hq : Cond.methodLink own idx yX2_turns ∈ lw_all) (hs : ls.size = nL) (hr : (rest.map fun v => v.category).sum ≤ 8) (hR : fr + 1 ≤ R.frames ∧ 8 + (10 + 11) + lo ≤ R.locals) (hcs : cells + 0 ≤ R.cells ∧ slots + 0 ≤ R.slots) (hd : decode cc pc = .ok (.invokevirtual idx, 3)) (kk : ∀ (H1 : Heap) (locs1 : List Loc), OM D aC o ad zq H1 → va_S A s.heap H1 locs1 → W p l e R s m args below meth c H1 locs1 cells slots Q (F0 m (pc + 3) ls (.int r :: rest))) : W p l e R s m args below meth c H locs cells slots Q (F0 m pc ls (.int x3 :: .int x2 :: .int x1 :: .ref o :: rest)) :=
  g_callG (W.runV (As := [.int x1, .int x2, .int x3]) (rest := rest) hf hM (cwV 3 hf.2.2.2.2 (lw_V hq q1919 qs84 q92 q1920) rfl rfl rfl (by decide +kernel) hR) ⟨fun a U g mk q => ⟨q.1, q.2.1, va_K.moved (u := U) (U := U.calling g mk a) (Vm.Alike.refl U.vm) q.2.2⟩, OA.recv hK hO rfl, fun U hU hW => ⟨rfl, by rw [hU]; exact hO, va_K.moved hW.alike hK⟩⟩ rfl rfl hs rfl (lv_room hr) hd hcs) hS (fun H1 locs1 hP hS _ _ => kk H1 locs1 hP hS)
theorem metX2_turnsb (l : Launch) (D : va_G) (aC : Nat → ClassId) (o : Nat) (ad : Nat → Nat) (A : Nat → Prop) (hD : OD A 44 kdM o ad) (n : Nat) (rec : Int32 → Int32 → Int32 → GS → Option (Int32 × GS)) (hrec : ∀ (x1 : Int32) (x2 : Int32) (x3 : Int32) (z : GS) (r : Int32) (zq : GS), rec x1 x2 x3 z = some (r, zq) → Met l yX2_turns (ws_ yX2_turns cX2_turns 10 (some .int)) ({ frames := 59 * n, cells := 0, slots := 0, locals := 1345 * n }) (va_Pc [.ref o, .int x1, .int x2, .int x3] (PM D aC o ad z)) (QG (some (.int r)) (OM D aC o ad zq) A) 0 0 A) (x1 : Int32) (x2 : Int32) (x3 : Int32) (z : GS) (r : Int32) (zq : GS) (h : FX2_turnsb rec x1 x2 x3 z = some (r, zq)) : Met l yX2_turns (ws_ yX2_turns cX2_turns 10 (some .int)) ({ frames := 59 * (n + 1), cells := 0, slots := 0, locals := 1345 * (n + 1) }) (va_Pc [.ref o, .int x1, .int x2, .int x3] (PM D aC o ad z)) (QG (some (.int r)) (OM D aC o ad zq) A) 0 0 A := by
  refine g_ofW (cc := cX2_turns) (maxL := 10) (ret := (some .int)) (own := RX2) (by decide) rfl rfl [.ref o, .int x1, .int x2, .int x3] (PM D aC o ad z) (Nat.le_of_ble_eq_true rfl) ?_
  intro p e s m below meth c ls hx hb hr hml hts hown hlocks hnm hPre hl
  obtain ⟨hO, hK⟩ := hPre
  have hf : CallFix p m c cX2_turns 10 s _ lw_all RX2 := ⟨hx, hb, hml, hown, hts⟩
  have hl : lv_has ls 10 [(0, .ref o), (1, .int x1), (2, .int x2), (3, .int x3)] := hl
  refine g_open (A := A) (OM D aC o ad z) hO (fun H locs hO hS => ?_)
  unfold FX2_turnsb at h
  refine lv_aload_n hx hb dX2_turns_0 rfl (lv_at hl 0 rfl) ?_
  refine lv_iconst (v := 1) hx hb dX2_turns_1 (by decide) ?_
  refine lv_iload_n hx hb dX2_turns_2 rfl (lv_at hl 1 rfl) ?_
  refine lv_iadd hx hb dX2_turns_3 ?_
  obtain ⟨z1, e2, h⟩ := bn1_e h
  refine clX2_keepAll hf hK hO hS (metX2_keepAll l D aC o ad A hD (1 + x1) z z1 e2) q1796 hl.1 (Nat.le_of_ble_eq_true rfl) ⟨by dsimp only; omega, by dsimp only; omega⟩ ⟨Nat.le_of_ble_eq_true rfl, Nat.le_of_ble_eq_true rfl⟩ dX2_turns_4 (fun H locs hO hS => ?_)
  refine lv_iload_n hx hb dX2_turns_7 rfl (lv_at hl 1 rfl) ?_
  refine lv_iload_n hx hb dX2_turns_8 rfl (lv_at hl 2 rfl) ?_
  refine lv_icmp_ne (tgt := 36) hx hb dX2_turns_9 (by decide) (fun c3 => ?_) (fun c3 => ?_)
  · have h := it_f c3 h
    refine lv_iload_n hx hb dX2_turns_36 rfl (lv_at hl 1 rfl) ?_
    refine lv_iconst (v := 2) hx hb dX2_turns_37 (by decide) ?_
    refine g_irem hx hb dX2_turns_38 (by decide) ?_
    obtain ⟨k5, e53, h⟩ := pin_nm2 h
    have hk5 : ∀ (u4 : Int32) (ls : Array Slot), k5 u4 = some (r, zq) → lv_has ls 10 [(0, .ref o), (1, .int x1), (2, .int x2), (3, .int x3)] → W p l e ({ frames := 59 * (n + 1), cells := 0, slots := 0, locals := 1345 * (n + 1) }) s m ([.ref o, .int x1, .int x2, .int x3] : List Value).toArray below meth c H locs 0 0 (MQ below (QG (some (.int r)) (OM D aC o ad zq) A) ([.ref o, .int x1, .int x2, .int x3] : List Value).toArray s 0 0 A) (F0 m 47 ls [.int u4]) := by
      intro u4 ls h hl
      rw [e53] at h
      refine lv_istore (lv' := [(4, .int u4), (0, .ref o), (1, .int x1), (2, .int x2), (3, .int x3)]) hx hb dX2_turns_47 hl (by decide) rfl (fun ls hl => ?_)
      refine lv_iload hx hb dX2_turns_49 (lv_at hl 0 rfl) ?_
      obtain ⟨k7, e51, h⟩ := pin_nm2 h
      have hk7 : ∀ (u6 : Int32) (ls : Array Slot), k7 u6 = some (r, zq) → lv_has ls 10 [(0, .ref o), (1, .int x1), (2, .int x2), (3, .int x3), (4, .int u4)] → W p l e ({ frames := 59 * (n + 1), cells := 0, slots := 0, locals := 1345 * (n + 1) }) s m ([.ref o, .int x1, .int x2, .int x3] : List Value).toArray below meth c H locs 0 0 (MQ below (QG (some (.int r)) (OM D aC o ad zq) A) ([.ref o, .int x1, .int x2, .int x3] : List Value).toArray s 0 0 A) (F0 m 61 ls [.int u6]) := by
        intro u6 ls h hl
        rw [e51] at h
        refine lv_istore (lv' := [(5, .int u6), (0, .ref o), (1, .int x1), (2, .int x2), (3, .int x3), (4, .int u4)]) hx hb dX2_turns_61 hl (by decide) rfl (fun ls hl => ?_)
        refine lv_bipush (v := 8) hx hb dX2_turns_63 (by decide) ?_
        refine lv_istore (lv' := [(6, .int 8), (5, .int u6), (0, .ref o), (1, .int x1), (2, .int x2), (3, .int x3), (4, .int u4)]) hx hb dX2_turns_65 hl (by decide) rfl (fun ls hl => ?_)
        refine lv_iconst (v := (-1)) hx hb dX2_turns_67 (by decide) ?_
        refine lv_istore (lv' := [(7, .int (-1)), (6, .int 8), (5, .int u6), (0, .ref o), (1, .int x1), (2, .int x2), (3, .int x3), (4, .int u4)]) hx hb dX2_turns_68 hl (by decide) rfl (fun ls hl => ?_)
        obtain ⟨k8, e50, h⟩ := pin_nm h
        have hk8 : ∀ (v9 : Int32) (v10 : Int32) (z11 : GS) (H : Heap) (locs : List Loc) (ls : Array Slot), k8 v9 v10 z11 = some (r, zq) → OM D aC o ad z11 H → va_S A s.heap H locs → lv_has ls 10 [(0, .ref o), (5, .int v9), (6, .int v10)] → W p l e ({ frames := 59 * (n + 1), cells := 0, slots := 0, locals := 1345 * (n + 1) }) s m ([.ref o, .int x1, .int x2, .int x3] : List Value).toArray below meth c H locs 0 0 (MQ below (QG (some (.int r)) (OM D aC o ad zq) A) ([.ref o, .int x1, .int x2, .int x3] : List Value).toArray s 0 0 A) (F0 m 220 ls []) := by
          intro v9 v10 z11 H locs ls h hO hS hl
          rw [e50] at h
          refine lv_aload_n hx hb dX2_turns_220 rfl (lv_at hl 0 rfl) ?_
          refine lv_iload hx hb dX2_turns_221 (lv_at hl 2 rfl) ?_
          refine X2_putF hx hb hts hown hK hO hD hS 32 (by decide) rfl (hts _ q1569) rfl (ty := .int) rfl rfl rfl dX2_turns_223 (fun H locs z12 ez12 hO hS => ?_)
          have h := pin_to ez12 h
          refine lv_iload hx hb dX2_turns_226 (lv_at hl 1 rfl) ?_
          obtain ⟨e8, rfl⟩ := Prod.mk.inj (Option.some.inj h)
          exact g_retG hx hb hr hlocks e8 hO hS dX2_turns_228
        have key49 : ∀ (f : Nat) (v5 : Int32) (v6 : Int32) (v7 : Int32) (z : GS) (H : Heap) (locs : List Loc) (ls : Array Slot), FX2_turns_L70 rec k8 x1 x2 x3 u4 f v5 v6 v7 z = some (r, zq) → OM D aC o ad z H → va_S A s.heap H locs → lv_has ls 10 [(0, .ref o), (1, .int x1), (2, .int x2), (3, .int x3), (4, .int u4), (5, .int v5), (6, .int v6), (7, .int v7)] → W p l e ({ frames := 59 * (n + 1), cells := 0, slots := 0, locals := 1345 * (n + 1) }) s m ([.ref o, .int x1, .int x2, .int x3] : List Value).toArray below meth c H locs 0 0 (MQ below (QG (some (.int r)) (OM D aC o ad zq) A) ([.ref o, .int x1, .int x2, .int x3] : List Value).toArray s 0 0 A) (F0 m 70 ls []) := by
          intro f
          induction f with
          | zero =>
            intro v5 v6 v7 z H locs ls h
            rw [FX2_turns_L70] at h
            cases h
          | succ f ih13 =>
            intro v5 v6 v7 z H locs ls h hO hS hl
            rw [FX2_turns_L70] at h
            refine lv_iload hx hb dX2_turns_70 (lv_at hl 7 rfl) ?_
            refine lv_aload_n hx hb dX2_turns_72 rfl (lv_at hl 0 rfl) ?_
            refine X2_getF hx hb hts hown hK hO 2 (by decide) rfl (hts _ q1539) dX2_turns_73 ?_
            refine lv_icmp_ge (tgt := 220) hx hb dX2_turns_76 (by decide) (fun c14 => ?_) (fun c14 => ?_)
            · have h := it_t c14 h
              exact hk8 _ _ _ _ _ _ h hO hS (lv_sub hl [0, 5, 6] rfl)
            · have h := it_f c14 h
              refine lv_iload hx hb dX2_turns_79 (lv_at hl 7 rfl) ?_
              obtain ⟨k15, e48, h⟩ := pin_nm h
              have hk15 : ∀  (z16 : GS) (H : Heap) (locs : List Loc) (ls : Array Slot), k15  z16 = some (r, zq) → OM D aC o ad z16 H → va_S A s.heap H locs → lv_has ls 10 [(0, .ref o), (1, .int x1), (2, .int x2), (3, .int x3), (4, .int u4), (5, .int v5), (6, .int v6), (7, .int v7)] → W p l e ({ frames := 59 * (n + 1), cells := 0, slots := 0, locals := 1345 * (n + 1) }) s m ([.ref o, .int x1, .int x2, .int x3] : List Value).toArray below meth c H locs 0 0 (MQ below (QG (some (.int r)) (OM D aC o ad zq) A) ([.ref o, .int x1, .int x2, .int x3] : List Value).toArray s 0 0 A) (F0 m 123 ls []) := by
                intro  z16 H locs ls h hO hS hl
                rw [e48] at h
                refine lv_aload_n hx hb dX2_turns_123 rfl (lv_at hl 0 rfl) ?_
                refine lv_iload_n hx hb dX2_turns_124 rfl (lv_at hl 1 rfl) ?_
                refine lv_iconst (v := 1) hx hb dX2_turns_125 (by decide) ?_
                refine lv_iadd hx hb dX2_turns_126 ?_
                refine lv_iload_n hx hb dX2_turns_127 rfl (lv_at hl 2 rfl) ?_
                refine lv_iload_n hx hb dX2_turns_128 rfl (lv_at hl 3 rfl) ?_
                obtain ⟨r17, z18, e19, h⟩ := bnd_e h
                refine clX2_turns hf hK hO hS (hrec (x1 + 1) x2 x3 z16 r17 z18 e19) q1917 hl.1 (Nat.le_of_ble_eq_true rfl) ⟨by dsimp only; omega, by dsimp only; omega⟩ ⟨Nat.le_of_ble_eq_true rfl, Nat.le_of_ble_eq_true rfl⟩ dX2_turns_129 (fun H locs hO hS => ?_)
                refine lv_istore (lv' := [(8, .int r17), (0, .ref o), (1, .int x1), (2, .int x2), (3, .int x3), (4, .int u4), (5, .int v5), (6, .int v6), (7, .int v7)]) hx hb dX2_turns_132 hl (by decide) rfl (fun ls hl => ?_)
                refine lv_iload hx hb dX2_turns_134 (lv_at hl 5 rfl) ?_
                obtain ⟨k21, e33, h⟩ := pin_nm2 h
                have hk21 : ∀ (u20 : Int32) (ls : Array Slot), k21 u20 = some (r, zq) → lv_has ls 10 [(0, .ref o), (1, .int x1), (2, .int x2), (3, .int x3), (4, .int u4), (5, .int v5), (6, .int v6), (7, .int v7), (8, .int r17)] → W p l e ({ frames := 59 * (n + 1), cells := 0, slots := 0, locals := 1345 * (n + 1) }) s m ([.ref o, .int x1, .int x2, .int x3] : List Value).toArray below meth c H locs 0 0 (MQ below (QG (some (.int r)) (OM D aC o ad zq) A) ([.ref o, .int x1, .int x2, .int x3] : List Value).toArray s 0 0 A) (F0 m 166 ls [.int u20]) := by
                  intro u20 ls h hl
                  rw [e33] at h
                  refine lv_istore (lv' := [(9, .int u20), (0, .ref o), (1, .int x1), (2, .int x2), (3, .int x3), (4, .int u4), (5, .int v5), (6, .int v6), (7, .int v7), (8, .int r17)]) hx hb dX2_turns_166 hl (by decide) rfl (fun ls hl => ?_)
                  refine lv_iload hx hb dX2_turns_168 (lv_at hl 0 rfl) ?_
                  obtain ⟨k23, e30, h⟩ := pin_nm2 h
                  have hk23 : ∀ (u22 : Int32) (ls : Array Slot), k23 u22 = some (r, zq) → lv_has ls 10 [(0, .ref o), (1, .int x1), (2, .int x2), (3, .int x3), (4, .int u4), (5, .int v5), (7, .int v7), (8, .int r17), (9, .int u20)] → W p l e ({ frames := 59 * (n + 1), cells := 0, slots := 0, locals := 1345 * (n + 1) }) s m ([.ref o, .int x1, .int x2, .int x3] : List Value).toArray below meth c H locs 0 0 (MQ below (QG (some (.int r)) (OM D aC o ad zq) A) ([.ref o, .int x1, .int x2, .int x3] : List Value).toArray s 0 0 A) (F0 m 191 ls [.int u22]) := by
                    intro u22 ls h hl
                    rw [e30] at h
                    refine lv_istore (lv' := [(6, .int u22), (0, .ref o), (1, .int x1), (2, .int x2), (3, .int x3), (4, .int u4), (5, .int v5), (7, .int v7), (8, .int r17), (9, .int u20)]) hx hb dX2_turns_191 hl (by decide) rfl (fun ls hl => ?_)
                    refine lv_iload hx hb dX2_turns_193 (lv_at hl 9 rfl) ?_
                    obtain ⟨k25, e28, h⟩ := pin_nm2 h
                    have hk25 : ∀ (u24 : Int32) (ls : Array Slot), k25 u24 = some (r, zq) → lv_has ls 10 [(0, .ref o), (1, .int x1), (2, .int x2), (3, .int x3), (4, .int u4), (6, .int u22), (7, .int v7)] → W p l e ({ frames := 59 * (n + 1), cells := 0, slots := 0, locals := 1345 * (n + 1) }) s m ([.ref o, .int x1, .int x2, .int x3] : List Value).toArray below meth c H locs 0 0 (MQ below (QG (some (.int r)) (OM D aC o ad zq) A) ([.ref o, .int x1, .int x2, .int x3] : List Value).toArray s 0 0 A) (F0 m 205 ls [.int u24]) := by
                      intro u24 ls h hl
                      rw [e28] at h
                      refine lv_istore (lv' := [(5, .int u24), (0, .ref o), (1, .int x1), (2, .int x2), (3, .int x3), (4, .int u4), (6, .int u22), (7, .int v7)]) hx hb dX2_turns_205 hl (by decide) rfl (fun ls hl => ?_)
                      refine lv_aload_n hx hb dX2_turns_207 rfl (lv_at hl 1 rfl) ?_
                      refine lv_iconst (v := 1) hx hb dX2_turns_208 (by decide) ?_
                      refine lv_iload_n hx hb dX2_turns_209 rfl (lv_at hl 2 rfl) ?_
                      refine lv_iadd hx hb dX2_turns_210 ?_
                      obtain ⟨z26, e27, h⟩ := bn1_e h
                      refine clX2_layAll hf hK hO hS (metX2_layAll l D aC o ad A hD (1 + x1) z18 z26 e27) q1812 hl.1 (Nat.le_of_ble_eq_true rfl) ⟨by dsimp only; omega, by dsimp only; omega⟩ ⟨Nat.le_of_ble_eq_true rfl, Nat.le_of_ble_eq_true rfl⟩ dX2_turns_211 (fun H locs hO hS => ?_)
                      refine lv_iinc (v := (v7 + 1)) (lv' := [(7, .int (v7 + 1)), (5, .int u24), (0, .ref o), (1, .int x1), (2, .int x2), (3, .int x3), (4, .int u4), (6, .int u22)]) hx hb dX2_turns_214 hl (k := 7) rfl rfl (by decide) rfl (fun ls hl => ?_)
                      refine lv_goto (tgt := 70) hx hb dX2_turns_217 (by decide) ?_
                      exact ih13 _ _ _ _ _ _ _ h hO hS (lv_sub hl [2, 3, 4, 5, 6, 1, 7, 0] rfl)
                    refine lv_if_eq (tgt := 203) hx hb dX2_turns_195 (by decide) (fun c29 => ?_) (fun c29 => ?_)
                    · have h := pt_t (k := k25) c29 h
                      refine lv_iload hx hb dX2_turns_203 (lv_at hl 6 rfl) ?_
                      exact hk25 _ _ h (lv_sub hl [1, 2, 3, 4, 5, 0, 7] rfl)
                    · have h := pt_f (k := k25) c29 h
                      refine lv_iload hx hb dX2_turns_198 (lv_at hl 8 rfl) ?_
                      refine lv_goto (tgt := 205) hx hb dX2_turns_200 (by decide) ?_
                      exact hk25 _ _ h (lv_sub hl [1, 2, 3, 4, 5, 0, 7] rfl)
                  refine lv_if_eq (tgt := 189) hx hb dX2_turns_170 (by decide) (fun c31 => ?_) (fun c31 => ?_)
                  · have h := pt_t (k := k23) c31 h
                    refine lv_iload hx hb dX2_turns_189 (lv_at hl 7 rfl) ?_
                    exact hk23 _ _ h (lv_sub hl [1, 2, 3, 4, 5, 6, 8, 9, 0] rfl)
                  · have h := pt_f (k := k23) c31 h
                    refine lv_iload hx hb dX2_turns_173 (lv_at hl 8 rfl) ?_
                    refine lv_iconst (v := (-1)) hx hb dX2_turns_175 (by decide) ?_
                    refine lv_icmp_ne (tgt := 184) hx hb dX2_turns_176 (by decide) (fun c32 => ?_) (fun c32 => ?_)
                    · have h := pt_f (k := k23) c32 h
                      refine lv_iload hx hb dX2_turns_184 (lv_at hl 8 rfl) ?_
                      refine lv_goto (tgt := 191) hx hb dX2_turns_186 (by decide) ?_
                      exact hk23 _ _ h (lv_sub hl [1, 2, 3, 4, 5, 6, 8, 9, 0] rfl)
                    · have h := pt_t (k := k23) c32 h
                      refine lv_bipush (v := 8) hx hb dX2_turns_179 (by decide) ?_
                      refine lv_goto (tgt := 191) hx hb dX2_turns_181 (by decide) ?_
                      exact hk23 _ _ h (lv_sub hl [1, 2, 3, 4, 5, 6, 8, 9, 0] rfl)
                refine lv_if_eq (tgt := 154) hx hb dX2_turns_136 (by decide) (fun c34 => ?_) (fun c34 => ?_)
                · have h := pt_t (k := k21) c34 h
                  refine lv_iload hx hb dX2_turns_154 (lv_at hl 0 rfl) ?_
                  refine lv_iload hx hb dX2_turns_156 (lv_at hl 6 rfl) ?_
                  refine lv_icmp_le (tgt := 165) hx hb dX2_turns_158 (by decide) (fun c35 => ?_) (fun c35 => ?_)
                  · have h := pt_t (k := k21) c35 h
                    refine lv_iconst (v := 0) hx hb dX2_turns_165 (by decide) ?_
                    exact hk21 _ _ h (lv_sub hl [1, 2, 3, 4, 5, 6, 7, 8, 0] rfl)
                  · have h := pt_f (k := k21) c35 h
                    refine lv_iconst (v := 1) hx hb dX2_turns_161 (by decide) ?_
                    refine lv_goto (tgt := 166) hx hb dX2_turns_162 (by decide) ?_
                    exact hk21 _ _ h (lv_sub hl [1, 2, 3, 4, 5, 6, 7, 8, 0] rfl)
                · have h := pt_f (k := k21) c34 h
                  refine lv_iload hx hb dX2_turns_139 (lv_at hl 0 rfl) ?_
                  refine lv_iload hx hb dX2_turns_141 (lv_at hl 6 rfl) ?_
                  refine lv_icmp_ge (tgt := 150) hx hb dX2_turns_143 (by decide) (fun c36 => ?_) (fun c36 => ?_)
                  · have h := pt_t (k := k21) c36 h
                    refine lv_iconst (v := 0) hx hb dX2_turns_150 (by decide) ?_
                    refine lv_goto (tgt := 166) hx hb dX2_turns_151 (by decide) ?_
                    exact hk21 _ _ h (lv_sub hl [1, 2, 3, 4, 5, 6, 7, 8, 0] rfl)
                  · have h := pt_f (k := k21) c36 h
                    refine lv_iconst (v := 1) hx hb dX2_turns_146 (by decide) ?_
                    refine lv_goto (tgt := 166) hx hb dX2_turns_147 (by decide) ?_
                    exact hk21 _ _ h (lv_sub hl [1, 2, 3, 4, 5, 6, 7, 8, 0] rfl)
              obtain ⟨k37, e47, h⟩ := pin_nm h
              have hk37 : ∀  (ls : Array Slot), k37  = some (r, zq) → lv_has ls 10 [(0, .ref o), (1, .int x1), (2, .int x2), (3, .int x3), (4, .int u4), (5, .int v5), (6, .int v6), (7, .int v7)] → W p l e ({ frames := 59 * (n + 1), cells := 0, slots := 0, locals := 1345 * (n + 1) }) s m ([.ref o, .int x1, .int x2, .int x3] : List Value).toArray below meth c H locs 0 0 (MQ below (QG (some (.int r)) (OM D aC o ad zq) A) ([.ref o, .int x1, .int x2, .int x3] : List Value).toArray s 0 0 A) (F0 m 98 ls []) := by
                intro  ls h hl
                rw [e47] at h
                refine lv_iload hx hb dX2_turns_98 (lv_at hl 7 rfl) ?_
                refine lv_if_lt (tgt := 123) hx hb dX2_turns_100 (by decide) (fun c38 => ?_) (fun c38 => ?_)
                · have h := it_t c38 h
                  exact hk15 _ _ _ _ h hO hS (lv_sub hl [0, 1, 2, 3, 4, 5, 6, 7] rfl)
                · have h := it_f c38 h
                  refine lv_aload_n hx hb dX2_turns_103 rfl (lv_at hl 0 rfl) ?_
                  refine lv_iload hx hb dX2_turns_104 (lv_at hl 7 rfl) ?_
                  refine lv_iconst (v := 3) hx hb dX2_turns_106 (by decide) ?_
                  refine lv_iconst (v := 0) hx hb dX2_turns_107 (by decide) ?_
                  refine lv_aload_n hx hb dX2_turns_108 rfl (lv_at hl 0 rfl) ?_
                  refine lv_iload hx hb dX2_turns_109 (lv_at hl 7 rfl) ?_
                  refine lv_iconst (v := 3) hx hb dX2_turns_111 (by decide) ?_
                  obtain ⟨r39, e40, h⟩ := bn1_e h
                  refine clX2_number_2 hf hK hO (metX2_number_2 l D aC o ad v7 3 z r39 e40) q1771 hl.1 (Nat.le_of_ble_eq_true rfl) ⟨by dsimp only; omega, by dsimp only; omega⟩ ⟨Nat.le_of_ble_eq_true rfl, Nat.le_of_ble_eq_true rfl⟩ dX2_turns_112 ?_
                  refine lv_iconst (v := 5) hx hb dX2_turns_115 (by decide) ?_
                  refine lv_isub hx hb dX2_turns_116 ?_
                  refine g_mmax hx hb (hml.trans hl.1.symm) hown (hts _ q1791) (hts _ q666) (hts _ q106) (hts _ q667) (by show _ ≤ _; dsimp only; omega) (by show _ ≤ _; dsimp only; simp [Value.category] <;> omega) (Nat.le_refl _) (Nat.le_refl _) dX2_turns_117 ?_
                  obtain ⟨z41, e42, h⟩ := bn1_e h
                  refine clX2_change hf hK hO hS (metX2_change l D aC o ad A hD v7 3 (jmax 0 (r39 - 5)) z z41 e42) q1682 hl.1 (Nat.le_of_ble_eq_true rfl) ⟨by dsimp only; omega, by dsimp only; omega⟩ ⟨Nat.le_of_ble_eq_true rfl, Nat.le_of_ble_eq_true rfl⟩ dX2_turns_120 (fun H locs hO hS => ?_)
                  exact hk15 _ _ _ _ h hO hS (lv_sub hl [0, 1, 2, 3, 4, 5, 6, 7] rfl)
              refine lv_if_lt (tgt := 98) hx hb dX2_turns_81 (by decide) (fun c43 => ?_) (fun c43 => ?_)
              · have h := it_t c43 h
                exact hk37 _ h (lv_sub hl [0, 1, 2, 3, 4, 5, 6, 7] rfl)
              · have h := it_f c43 h
                refine lv_iload hx hb dX2_turns_84 (lv_at hl 4 rfl) ?_
                refine lv_if_eq (tgt := 98) hx hb dX2_turns_86 (by decide) (fun c44 => ?_) (fun c44 => ?_)
                · have h := it_t c44 h
                  exact hk37 _ h (lv_sub hl [0, 1, 2, 3, 4, 5, 6, 7] rfl)
                · have h := it_f c44 h
                  refine lv_aload_n hx hb dX2_turns_89 rfl (lv_at hl 0 rfl) ?_
                  refine lv_iload hx hb dX2_turns_90 (lv_at hl 7 rfl) ?_
                  obtain ⟨z45, e46, h⟩ := bn1_e h
                  refine clX2_passOn hf hK hO hS (metX2_passOn l D aC o ad A hD v7 z z45 e46) q1921 hl.1 (Nat.le_of_ble_eq_true rfl) ⟨by dsimp only; omega, by dsimp only; omega⟩ ⟨Nat.le_of_ble_eq_true rfl, Nat.le_of_ble_eq_true rfl⟩ dX2_turns_92 (fun H locs hO hS => ?_)
                  refine lv_goto (tgt := 123) hx hb dX2_turns_95 (by decide) ?_
                  exact hk15 _ _ _ _ h hO hS (lv_sub hl [0, 1, 2, 3, 4, 5, 6, 7] rfl)
        exact key49 FU _ _ _ _ _ _ _ h hO hS (lv_sub hl [3, 4, 5, 6, 7, 2, 1, 0] rfl)
      refine lv_if_eq (tgt := 60) hx hb dX2_turns_51 (by decide) (fun c52 => ?_) (fun c52 => ?_)
      · have h := pt_t (k := k7) c52 h
        refine lv_iconst (v := (-1)) hx hb dX2_turns_60 (by decide) ?_
        exact hk7 _ _ h (lv_sub hl [1, 2, 3, 4, 0] rfl)
      · have h := pt_f (k := k7) c52 h
        refine lv_ldcw (v := 2147483647) hx hb hown (hts _ q1845) dX2_turns_54 ?_
        refine lv_goto (tgt := 61) hx hb dX2_turns_57 (by decide) ?_
        exact hk7 _ _ h (lv_sub hl [1, 2, 3, 4, 0] rfl)
    refine lv_if_ne (tgt := 46) hx hb dX2_turns_39 (by decide) (fun c54 => ?_) (fun c54 => ?_)
    · have h := pt_f (k := k5) c54 h
      refine lv_iconst (v := 0) hx hb dX2_turns_46 (by decide) ?_
      exact hk5 _ _ h (lv_sub hl [0, 1, 2, 3] rfl)
    · have h := pt_t (k := k5) c54 h
      refine lv_iconst (v := 1) hx hb dX2_turns_42 (by decide) ?_
      refine lv_goto (tgt := 47) hx hb dX2_turns_43 (by decide) ?_
      exact hk5 _ _ h (lv_sub hl [0, 1, 2, 3] rfl)
  · have h := it_t c3 h
    refine lv_aload_n hx hb dX2_turns_12 rfl (lv_at hl 0 rfl) ?_
    refine lv_iload_n hx hb dX2_turns_13 rfl (lv_at hl 3 rfl) ?_
    obtain ⟨z55, e56, h⟩ := bn1_e h
    refine clX2_goDays hf hK hO hS (metX2_goDays l D aC o ad A hD x3 z1 z55 e56) q1800 hl.1 (Nat.le_of_ble_eq_true rfl) ⟨by dsimp only; omega, by dsimp only; omega⟩ ⟨Nat.le_of_ble_eq_true rfl, Nat.le_of_ble_eq_true rfl⟩ dX2_turns_14 (fun H locs hO hS => ?_)
    refine lv_aload_n hx hb dX2_turns_17 rfl (lv_at hl 0 rfl) ?_
    obtain ⟨r57, e58, h⟩ := bn1_e h
    refine clX2_lacks hf hK hO (metX2_lacks l D aC o ad z55 r57 e58) q1820 hl.1 (Nat.le_of_ble_eq_true rfl) ⟨by dsimp only; omega, by dsimp only; omega⟩ ⟨Nat.le_of_ble_eq_true rfl, Nat.le_of_ble_eq_true rfl⟩ dX2_turns_18 ?_
    refine clJ13_bitCount hf (metJ13_bitCount l r57 _ rfl) q1862 hl.1 (Nat.le_of_ble_eq_true rfl) ⟨by dsimp only; omega, by dsimp only; omega⟩ ⟨Nat.le_of_ble_eq_true rfl, Nat.le_of_ble_eq_true rfl⟩ dX2_turns_21 ?_
    refine lv_topi (fun y59 ey59 => ?_)
    have h := pin_to ey59 h
    refine lv_istore (lv' := [(4, .int y59), (0, .ref o), (1, .int x1), (2, .int x2), (3, .int x3)]) hx hb dX2_turns_24 hl (by decide) rfl (fun ls hl => ?_)
    refine lv_aload_n hx hb dX2_turns_26 rfl (lv_at hl 1 rfl) ?_
    refine lv_iconst (v := 1) hx hb dX2_turns_27 (by decide) ?_
    refine lv_iload_n hx hb dX2_turns_28 rfl (lv_at hl 2 rfl) ?_
    refine lv_iadd hx hb dX2_turns_29 ?_
    obtain ⟨z60, e61, h⟩ := bn1_e h
    refine clX2_layAll hf hK hO hS (metX2_layAll l D aC o ad A hD (1 + x1) z55 z60 e61) q1812 hl.1 (Nat.le_of_ble_eq_true rfl) ⟨by dsimp only; omega, by dsimp only; omega⟩ ⟨Nat.le_of_ble_eq_true rfl, Nat.le_of_ble_eq_true rfl⟩ dX2_turns_30 (fun H locs hO hS => ?_)
    refine lv_iload hx hb dX2_turns_33 (lv_at hl 0 rfl) ?_
    obtain ⟨e8, rfl⟩ := Prod.mk.inj (Option.some.inj h)
    exact g_retG hx hb hr hlocks e8 hO hS dX2_turns_35
theorem metX2_turns (l : Launch) (D : va_G) (aC : Nat → ClassId) (o : Nat) (ad : Nat → Nat) (A : Nat → Prop) (hD : OD A 44 kdM o ad) (n : Nat) : ∀ (x1 : Int32) (x2 : Int32) (x3 : Int32) (z : GS) (r : Int32) (zq : GS), FX2_turns n x1 x2 x3 z = some (r, zq) → Met l yX2_turns (ws_ yX2_turns cX2_turns 10 (some .int)) ({ frames := 59 * n, cells := 0, slots := 0, locals := 1345 * n }) (va_Pc [.ref o, .int x1, .int x2, .int x3] (PM D aC o ad z)) (QG (some (.int r)) (OM D aC o ad zq) A) 0 0 A := by
  induction n with
  | zero =>
    intro x1 x2 x3 z r zq h
    rw [FX2_turns] at h
    cases h
  | succ n ih =>
    intro x1 x2 x3 z r zq h
    rw [FX2_turns] at h
    exact metX2_turnsb l D aC o ad A hD n _ ih x1 x2 x3 z r zq h
theorem metX2_byTurns (l : Launch) (D : va_G) (aC : Nat → ClassId) (o : Nat) (ad : Nat → Nat) (A : Nat → Prop) (hD : OD A 44 kdM o ad) (x1 : Int32) (x2 : Int32) (z : GS) (r : Int32) (zq : GS) (h : FX2_byTurns x1 x2 z = some (r, zq)) : Met l yX2_byTurns (ws_ yX2_byTurns cX2_byTurns 4 (some .int)) ({ frames := 296, cells := 0, slots := 0, locals := 6754 }) (va_Pc [.ref o, .int x1, .int x2] (PM D aC o ad z)) (QG (some (.int r)) (OM D aC o ad zq) A) 0 0 A := by
  refine g_ofW (cc := cX2_byTurns) (maxL := 4) (ret := (some .int)) (own := RX2) (by decide) rfl rfl [.ref o, .int x1, .int x2] (PM D aC o ad z) (Nat.le_of_ble_eq_true rfl) ?_
  intro p e s m below meth c ls hx hb hr hml hts hown hlocks hnm hPre hl
  obtain ⟨hO, hK⟩ := hPre
  have hf : CallFix p m c cX2_byTurns 4 s _ lw_all RX2 := ⟨hx, hb, hml, hown, hts⟩
  have hl : lv_has ls 4 [(0, .ref o), (1, .int x1), (2, .int x2)] := hl
  refine g_open (A := A) (OM D aC o ad z) hO (fun H locs hO hS => ?_)
  unfold FX2_byTurns at h
  refine lv_iload_n hx hb dX2_byTurns_0 rfl (lv_at hl 1 rfl) ?_
  refine lv_if_lt (tgt := 38) hx hb dX2_byTurns_1 (by decide) (fun c1 => ?_) (fun c1 => ?_)
  · have h := it_t c1 h
    refine lv_iconst (v := (-1)) hx hb dX2_byTurns_38 (by decide) ?_
    obtain ⟨e8, rfl⟩ := Prod.mk.inj (Option.some.inj h)
    exact g_retG hx hb hr hlocks e8 hO hS dX2_byTurns_39
  · have h := it_f c1 h
    refine lv_iload_n hx hb dX2_byTurns_4 rfl (lv_at hl 1 rfl) ?_
    refine lv_bipush (v := 10) hx hb dX2_byTurns_5 (by decide) ?_
    refine lv_idiv hx hb dX2_byTurns_7 (by decide) ?_
    refine lv_iconst (v := 1) hx hb dX2_byTurns_8 (by decide) ?_
    refine lv_iconst (v := 3) hx hb dX2_byTurns_9 (by decide) ?_
    refine clX2_isIn hf (metX2_isIn l (x1 / 10) 1 3 _ rfl) q1675 hl.1 (Nat.le_of_ble_eq_true rfl) ⟨Nat.le_of_ble_eq_true rfl, Nat.le_of_ble_eq_true rfl⟩ ⟨Nat.le_of_ble_eq_true rfl, Nat.le_of_ble_eq_true rfl⟩ dX2_byTurns_10 ?_
    refine lv_if_eq (tgt := 38) hx hb dX2_byTurns_13 (by decide) (fun c2 => ?_) (fun c2 => ?_)
    · have h := it_t c2 h
      refine lv_iconst (v := (-1)) hx hb dX2_byTurns_38 (by decide) ?_
      obtain ⟨e8, rfl⟩ := Prod.mk.inj (Option.some.inj h)
      exact g_retG hx hb hr hlocks e8 hO hS dX2_byTurns_39
    · have h := it_f c2 h
      refine lv_iload_n hx hb dX2_byTurns_16 rfl (lv_at hl 1 rfl) ?_
      refine lv_bipush (v := 10) hx hb dX2_byTurns_17 (by decide) ?_
      refine g_irem hx hb dX2_byTurns_19 (by decide) ?_
      refine lv_iconst (v := 0) hx hb dX2_byTurns_20 (by decide) ?_
      refine lv_bipush (v := 6) hx hb dX2_byTurns_21 (by decide) ?_
      refine clX2_isIn hf (metX2_isIn l (jrem x1 10) 0 6 _ rfl) q1675 hl.1 (Nat.le_of_ble_eq_true rfl) ⟨Nat.le_of_ble_eq_true rfl, Nat.le_of_ble_eq_true rfl⟩ ⟨Nat.le_of_ble_eq_true rfl, Nat.le_of_ble_eq_true rfl⟩ dX2_byTurns_23 ?_
      refine lv_if_eq (tgt := 38) hx hb dX2_byTurns_26 (by decide) (fun c3 => ?_) (fun c3 => ?_)
      · have h := it_t c3 h
        refine lv_iconst (v := (-1)) hx hb dX2_byTurns_38 (by decide) ?_
        obtain ⟨e8, rfl⟩ := Prod.mk.inj (Option.some.inj h)
        exact g_retG hx hb hr hlocks e8 hO hS dX2_byTurns_39
      · have h := it_f c3 h
        refine lv_iload_n hx hb dX2_byTurns_29 rfl (lv_at hl 2 rfl) ?_
        refine lv_iconst (v := 0) hx hb dX2_byTurns_30 (by decide) ?_
        refine lv_iconst (v := 1) hx hb dX2_byTurns_31 (by decide) ?_
        refine clX2_isIn hf (metX2_isIn l x2 0 1 _ rfl) q1675 hl.1 (Nat.le_of_ble_eq_true rfl) ⟨Nat.le_of_ble_eq_true rfl, Nat.le_of_ble_eq_true rfl⟩ ⟨Nat.le_of_ble_eq_true rfl, Nat.le_of_ble_eq_true rfl⟩ dX2_byTurns_32 ?_
        refine lv_if_ne (tgt := 40) hx hb dX2_byTurns_35 (by decide) (fun c4 => ?_) (fun c4 => ?_)
        · have h := it_f c4 h
          refine lv_aload_n hx hb dX2_byTurns_40 rfl (lv_at hl 0 rfl) ?_
          refine lv_iconst (v := 0) hx hb dX2_byTurns_41 (by decide) ?_
          refine lv_iload_n hx hb dX2_byTurns_42 rfl (lv_at hl 1 rfl) ?_
          refine lv_bipush (v := 10) hx hb dX2_byTurns_43 (by decide) ?_
          refine lv_idiv hx hb dX2_byTurns_45 (by decide) ?_
          refine lv_iload_n hx hb dX2_byTurns_46 rfl (lv_at hl 1 rfl) ?_
          refine lv_bipush (v := 10) hx hb dX2_byTurns_47 (by decide) ?_
          refine g_irem hx hb dX2_byTurns_49 (by decide) ?_
          obtain ⟨r5, z6, e7, h⟩ := bnd_e h
          refine clX2_turns hf hK hO hS (metX2_turns l D aC o ad A hD 5 0 (x1 / 10) (jrem x1 10) z r5 z6 e7) q1917 hl.1 (Nat.le_of_ble_eq_true rfl) ⟨Nat.le_of_ble_eq_true rfl, Nat.le_of_ble_eq_true rfl⟩ ⟨Nat.le_of_ble_eq_true rfl, Nat.le_of_ble_eq_true rfl⟩ dX2_byTurns_50 (fun H locs hO hS => ?_)
          refine lv_istore_n (lv' := [(3, .int r5), (0, .ref o), (1, .int x1), (2, .int x2)]) hx hb dX2_byTurns_53 rfl hl (by decide) rfl (fun ls hl => ?_)
          refine lv_iload_n hx hb dX2_byTurns_54 rfl (lv_at hl 3 rfl) ?_
          refine lv_if_ne (tgt := 62) hx hb dX2_byTurns_55 (by decide) (fun c8 => ?_) (fun c8 => ?_)
          · have h := it_f c8 h
            refine lv_aload_n hx hb dX2_byTurns_62 rfl (lv_at hl 1 rfl) ?_
            refine X2_getF hx hb hts hown hK hO 32 (by decide) rfl (hts _ q1569) dX2_byTurns_63 ?_
            obtain ⟨e8, rfl⟩ := Prod.mk.inj (Option.some.inj h)
            exact g_retG hx hb hr hlocks e8 hO hS dX2_byTurns_66
          · have h := it_t c8 h
            refine lv_iload_n hx hb dX2_byTurns_58 rfl (lv_at hl 0 rfl) ?_
            refine lv_goto (tgt := 66) hx hb dX2_byTurns_59 (by decide) ?_
            obtain ⟨e8, rfl⟩ := Prod.mk.inj (Option.some.inj h)
            exact g_retG hx hb hr hlocks e8 hO hS dX2_byTurns_66
        · have h := it_t c4 h
          refine lv_iconst (v := (-1)) hx hb dX2_byTurns_38 (by decide) ?_
          obtain ⟨e8, rfl⟩ := Prod.mk.inj (Option.some.inj h)
          exact g_retG hx hb hr hlocks e8 hO hS dX2_byTurns_39
theorem clX2_byTurns {p : Program} {l : Launch} {e : Env} {R : Room} {s : State} {m : MethodId} {args : Array Value} {below : List Frame} {meth : Method} {c : Code} {H : Heap} {locs : List Loc} {cells slots : Nat} {Q : State → Prop} {cc : ByteArray} {pc nL idx fr lo : Nat} {ls : Array Slot} {rest : List Value} {own : String} {D : va_G} {aC : Nat → ClassId} {o : Nat} {ad : Nat → Nat} {z : GS} {zq : GS} {A : Nat → Prop} {x1 : Int32} {x2 : Int32} {r : Int32} (hf : CallFix p m c cc nL s args lw_all own) (hK : va_K D vwCl (tysG aC) s) (hO : OM D aC o ad z H) (hS : va_S A s.heap H locs) (hM : Met l yX2_byTurns (ws_ yX2_byTurns cX2_byTurns 4 (some .int)) ({ frames := fr, cells := 0, slots := 0, locals := lo }) (va_Pc [.ref o, .int x1, .int x2] (PM D aC o ad z)) (QG (some (.int r)) (OM D aC o ad zq) A) 0 0 A) (hq : Cond.methodLink own idx yX2_byTurns ∈ lw_all) (hs : ls.size = nL) (hr : (rest.map fun v => v.category).sum ≤ 8) (hR : fr + 1 ≤ R.frames ∧ 8 + (4 + 11) + lo ≤ R.locals) (hcs : cells + 0 ≤ R.cells ∧ slots + 0 ≤ R.slots) (hd : decode cc pc = .ok (.invokevirtual idx, 3)) (kk : ∀ (H1 : Heap) (locs1 : List Loc), OM D aC o ad zq H1 → va_S A s.heap H1 locs1 → W p l e R s m args below meth c H1 locs1 cells slots Q (F0 m (pc + 3) ls (.int r :: rest))) : W p l e R s m args below meth c H locs cells slots Q (F0 m pc ls (.int x2 :: .int x1 :: .ref o :: rest)) :=
  g_callG (W.runV (As := [.int x1, .int x2]) (rest := rest) hf hM (cwV 2 hf.2.2.2.2 (lw_V hq q1914 q1915 q92 q1916) rfl rfl rfl (by decide +kernel) hR) ⟨fun a U g mk q => ⟨q.1, q.2.1, va_K.moved (u := U) (U := U.calling g mk a) (Vm.Alike.refl U.vm) q.2.2⟩, OA.recv hK hO rfl, fun U hU hW => ⟨rfl, by rw [hU]; exact hO, va_K.moved hW.alike hK⟩⟩ rfl rfl hs rfl (lv_room hr) hd hcs) hS (fun H1 locs1 hP hS _ _ => kk H1 locs1 hP hS)
theorem metX2_drawn (l : Launch) (D : va_G) (aC : Nat → ClassId) (o : Nat) (ad : Nat → Nat) (A : Nat → Prop) (hD : OD A 44 kdM o ad) (x1 : Int32) (x2 : Int32) (x3 : Int32) (z : GS) (r : Int32) (zq : GS) (h : FX2_drawn x1 x2 x3 z = some (r, zq)) : Met l yX2_drawn (ws_ yX2_drawn cX2_drawn 9 (some .int)) ({ frames := 58, cells := 0, slots := 0, locals := 1323 }) (va_Pc [.ref o, .int x1, .int x2, .int x3] (PM D aC o ad z)) (QG (some (.int r)) (OM D aC o ad zq) A) 0 0 A := by
  refine g_ofW (cc := cX2_drawn) (maxL := 9) (ret := (some .int)) (own := RX2) (by decide) rfl rfl [.ref o, .int x1, .int x2, .int x3] (PM D aC o ad z) (Nat.le_of_ble_eq_true rfl) ?_
  intro p e s m below meth c ls hx hb hr hml hts hown hlocks hnm hPre hl
  obtain ⟨hO, hK⟩ := hPre
  have hf : CallFix p m c cX2_drawn 9 s _ lw_all RX2 := ⟨hx, hb, hml, hown, hts⟩
  have hl : lv_has ls 9 [(0, .ref o), (1, .int x1), (2, .int x2), (3, .int x3)] := hl
  refine g_open (A := A) (OM D aC o ad z) hO (fun H locs hO hS => ?_)
  unfold FX2_drawn at h
  refine lv_iload_n hx hb dX2_drawn_0 rfl (lv_at hl 2 rfl) ?_
  refine lv_if_lt (tgt := 44) hx hb dX2_drawn_1 (by decide) (fun c1 => ?_) (fun c1 => ?_)
  · have h := it_t c1 h
    refine lv_iconst (v := (-1)) hx hb dX2_drawn_44 (by decide) ?_
    obtain ⟨e8, rfl⟩ := Prod.mk.inj (Option.some.inj h)
    exact g_retG hx hb hr hlocks e8 hO hS dX2_drawn_45
  · have h := it_f c1 h
    refine lv_iload_n hx hb dX2_drawn_4 rfl (lv_at hl 2 rfl) ?_
    refine lv_bipush (v := 100) hx hb dX2_drawn_5 (by decide) ?_
    refine lv_idiv hx hb dX2_drawn_7 (by decide) ?_
    refine lv_iconst (v := 1) hx hb dX2_drawn_8 (by decide) ?_
    refine lv_bipush (v := 30) hx hb dX2_drawn_9 (by decide) ?_
    refine clX2_isIn hf (metX2_isIn l (x2 / 100) 1 30 _ rfl) q1675 hl.1 (Nat.le_of_ble_eq_true rfl) ⟨Nat.le_of_ble_eq_true rfl, Nat.le_of_ble_eq_true rfl⟩ ⟨Nat.le_of_ble_eq_true rfl, Nat.le_of_ble_eq_true rfl⟩ dX2_drawn_11 ?_
    refine lv_if_eq (tgt := 44) hx hb dX2_drawn_14 (by decide) (fun c2 => ?_) (fun c2 => ?_)
    · have h := it_t c2 h
      refine lv_iconst (v := (-1)) hx hb dX2_drawn_44 (by decide) ?_
      obtain ⟨e8, rfl⟩ := Prod.mk.inj (Option.some.inj h)
      exact g_retG hx hb hr hlocks e8 hO hS dX2_drawn_45
    · have h := it_f c2 h
      refine lv_iload_n hx hb dX2_drawn_17 rfl (lv_at hl 2 rfl) ?_
      refine lv_bipush (v := 100) hx hb dX2_drawn_18 (by decide) ?_
      refine g_irem hx hb dX2_drawn_20 (by decide) ?_
      refine lv_iconst (v := 1) hx hb dX2_drawn_21 (by decide) ?_
      refine lv_bipush (v := 40) hx hb dX2_drawn_22 (by decide) ?_
      refine clX2_isIn hf (metX2_isIn l (jrem x2 100) 1 40 _ rfl) q1675 hl.1 (Nat.le_of_ble_eq_true rfl) ⟨Nat.le_of_ble_eq_true rfl, Nat.le_of_ble_eq_true rfl⟩ ⟨Nat.le_of_ble_eq_true rfl, Nat.le_of_ble_eq_true rfl⟩ dX2_drawn_24 ?_
      refine lv_if_eq (tgt := 44) hx hb dX2_drawn_27 (by decide) (fun c3 => ?_) (fun c3 => ?_)
      · have h := it_t c3 h
        refine lv_iconst (v := (-1)) hx hb dX2_drawn_44 (by decide) ?_
        obtain ⟨e8, rfl⟩ := Prod.mk.inj (Option.some.inj h)
        exact g_retG hx hb hr hlocks e8 hO hS dX2_drawn_45
      · have h := it_f c3 h
        refine lv_iload_n hx hb dX2_drawn_30 rfl (lv_at hl 3 rfl) ?_
        refine lv_iconst (v := (-1)) hx hb dX2_drawn_31 (by decide) ?_
        refine lv_aload_n hx hb dX2_drawn_32 rfl (lv_at hl 0 rfl) ?_
        refine X2_getF hx hb hts hown hK hO 2 (by decide) rfl (hts _ q1539) dX2_drawn_33 ?_
        refine lv_iconst (v := 1) hx hb dX2_drawn_36 (by decide) ?_
        refine lv_isub hx hb dX2_drawn_37 ?_
        refine clX2_isIn hf (metX2_isIn l x3 (-1) ((gF z 2) - 1) _ rfl) q1675 hl.1 (Nat.le_of_ble_eq_true rfl) ⟨Nat.le_of_ble_eq_true rfl, Nat.le_of_ble_eq_true rfl⟩ ⟨Nat.le_of_ble_eq_true rfl, Nat.le_of_ble_eq_true rfl⟩ dX2_drawn_38 ?_
        refine lv_if_ne (tgt := 46) hx hb dX2_drawn_41 (by decide) (fun c4 => ?_) (fun c4 => ?_)
        · have h := it_f c4 h
          refine lv_iload_n hx hb dX2_drawn_46 rfl (lv_at hl 1 rfl) ?_
          refine lv_istore (lv' := [(4, .int x1), (0, .ref o), (1, .int x1), (2, .int x2), (3, .int x3)]) hx hb dX2_drawn_47 hl (by decide) rfl (fun ls hl => ?_)
          refine lv_iconst (v := 0) hx hb dX2_drawn_49 (by decide) ?_
          refine lv_istore (lv' := [(5, .int 0), (4, .int x1), (0, .ref o), (1, .int x1), (2, .int x2), (3, .int x3)]) hx hb dX2_drawn_50 hl (by decide) rfl (fun ls hl => ?_)
          refine lv_iconst (v := 0) hx hb dX2_drawn_52 (by decide) ?_
          refine lv_istore (lv' := [(6, .int 0), (5, .int 0), (4, .int x1), (0, .ref o), (1, .int x1), (2, .int x2), (3, .int x3)]) hx hb dX2_drawn_53 hl (by decide) rfl (fun ls hl => ?_)
          have key37 : ∀ (f : Nat) (v4 : Int32) (v5 : Int32) (v6 : Int32) (z : GS) (H : Heap) (locs : List Loc) (ls : Array Slot), FX2_drawn_L55 x2 x3 f v4 v5 v6 z = some (r, zq) → OM D aC o ad z H → va_S A s.heap H locs → lv_has ls 9 [(0, .ref o), (2, .int x2), (3, .int x3), (4, .int v4), (5, .int v5), (6, .int v6)] → W p l e ({ frames := 58, cells := 0, slots := 0, locals := 1323 }) s m ([.ref o, .int x1, .int x2, .int x3] : List Value).toArray below meth c H locs 0 0 (MQ below (QG (some (.int r)) (OM D aC o ad zq) A) ([.ref o, .int x1, .int x2, .int x3] : List Value).toArray s 0 0 A) (F0 m 55 ls []) := by
            intro f
            induction f with
            | zero =>
              intro v4 v5 v6 z H locs ls h
              rw [FX2_drawn_L55] at h
              cases h
            | succ f ih5 =>
              intro v4 v5 v6 z H locs ls h hO hS hl
              rw [FX2_drawn_L55] at h
              refine lv_iload hx hb dX2_drawn_55 (lv_at hl 5 rfl) ?_
              refine lv_iload_n hx hb dX2_drawn_57 rfl (lv_at hl 1 rfl) ?_
              refine lv_bipush (v := 100) hx hb dX2_drawn_58 (by decide) ?_
              refine lv_idiv hx hb dX2_drawn_60 (by decide) ?_
              refine lv_icmp_ge (tgt := 186) hx hb dX2_drawn_61 (by decide) (fun c6 => ?_) (fun c6 => ?_)
              · have h := it_t c6 h
                refine lv_iload hx hb dX2_drawn_186 (lv_at hl 4 rfl) ?_
                obtain ⟨e8, rfl⟩ := Prod.mk.inj (Option.some.inj h)
                exact g_retG hx hb hr hlocks e8 hO hS dX2_drawn_188
              · have h := it_f c6 h
                refine lv_aload_n hx hb dX2_drawn_64 rfl (lv_at hl 0 rfl) ?_
                refine lv_iconst (v := 0) hx hb dX2_drawn_65 (by decide) ?_
                obtain ⟨z7, e8, h⟩ := bn1_e h
                refine clX2_keepAll hf hK hO hS (metX2_keepAll l D aC o ad A hD 0 z z7 e8) q1796 hl.1 (Nat.le_of_ble_eq_true rfl) ⟨Nat.le_of_ble_eq_true rfl, Nat.le_of_ble_eq_true rfl⟩ ⟨Nat.le_of_ble_eq_true rfl, Nat.le_of_ble_eq_true rfl⟩ dX2_drawn_66 (fun H locs hO hS => ?_)
                refine lv_iconst (v := 0) hx hb dX2_drawn_69 (by decide) ?_
                refine lv_istore (lv' := [(7, .int 0), (0, .ref o), (2, .int x2), (3, .int x3), (4, .int v4), (5, .int v5), (6, .int v6)]) hx hb dX2_drawn_70 hl (by decide) rfl (fun ls hl => ?_)
                obtain ⟨k9, e36, h⟩ := pin_nm h
                have hk9 : ∀ (v10 : Int32) (z11 : GS) (H : Heap) (locs : List Loc) (ls : Array Slot), k9 v10 z11 = some (r, zq) → OM D aC o ad z11 H → va_S A s.heap H locs → lv_has ls 9 [(0, .ref o), (2, .int x2), (3, .int x3), (4, .int v10), (5, .int v5), (6, .int v6)] → W p l e ({ frames := 58, cells := 0, slots := 0, locals := 1323 }) s m ([.ref o, .int x1, .int x2, .int x3] : List Value).toArray below meth c H locs 0 0 (MQ below (QG (some (.int r)) (OM D aC o ad zq) A) ([.ref o, .int x1, .int x2, .int x3] : List Value).toArray s 0 0 A) (F0 m 149 ls []) := by
                  intro v10 z11 H locs ls h hO hS hl
                  rw [e36] at h
                  refine lv_iload hx hb dX2_drawn_149 (lv_at hl 4 rfl) ?_
                  refine lv_iload_n hx hb dX2_drawn_151 rfl (lv_at hl 2 rfl) ?_
                  refine lv_iconst (v := (-1)) hx hb dX2_drawn_152 (by decide) ?_
                  obtain ⟨k12, e22, h⟩ := pin_nm h
                  have hk12 : ∀ (u13 : Int32) (ls : Array Slot), k12 u13 = some (r, zq) → lv_has ls 9 [(0, .ref o), (2, .int x2), (3, .int x3), (4, .int v10), (6, .int v6)] → W p l e ({ frames := 58, cells := 0, slots := 0, locals := 1323 }) s m ([.ref o, .int x1, .int x2, .int x3] : List Value).toArray below meth c H locs 0 0 (MQ below (QG (some (.int r)) (OM D aC o ad zq) A) ([.ref o, .int x1, .int x2, .int x3] : List Value).toArray s 0 0 A) (F0 m 172 ls [.int u13, .int v5]) := by
                    intro u13 ls h hl
                    rw [e22] at h
                    refine lv_iadd hx hb dX2_drawn_172 ?_
                    refine lv_topi (fun y14 ey14 => ?_)
                    have h := pin_to ey14 h
                    refine lv_istore (lv' := [(5, .int y14), (0, .ref o), (2, .int x2), (3, .int x3), (4, .int v10), (6, .int v6)]) hx hb dX2_drawn_173 hl (by decide) rfl (fun ls hl => ?_)
                    refine lv_aload_n hx hb dX2_drawn_175 rfl (lv_at hl 1 rfl) ?_
                    refine lv_iconst (v := 0) hx hb dX2_drawn_176 (by decide) ?_
                    obtain ⟨z15, e16, h⟩ := bn1_e h
                    refine clX2_layAll hf hK hO hS (metX2_layAll l D aC o ad A hD 0 z11 z15 e16) q1812 hl.1 (Nat.le_of_ble_eq_true rfl) ⟨Nat.le_of_ble_eq_true rfl, Nat.le_of_ble_eq_true rfl⟩ ⟨Nat.le_of_ble_eq_true rfl, Nat.le_of_ble_eq_true rfl⟩ dX2_drawn_177 (fun H locs hO hS => ?_)
                    refine lv_iinc (v := (v6 + 1)) (lv' := [(6, .int (v6 + 1)), (5, .int y14), (0, .ref o), (2, .int x2), (3, .int x3), (4, .int v10)]) hx hb dX2_drawn_180 hl (k := 5) rfl rfl (by decide) rfl (fun ls hl => ?_)
                    refine lv_goto (tgt := 55) hx hb dX2_drawn_183 (by decide) ?_
                    exact ih5 _ _ _ _ _ _ _ h hO hS (lv_sub hl [2, 3, 4, 5, 1, 0] rfl)
                  refine lv_icmp_ne (tgt := 166) hx hb dX2_drawn_153 (by decide) (fun c17 => ?_) (fun c17 => ?_)
                  · have h := it_f c17 h
                    refine lv_aload_n hx hb dX2_drawn_166 rfl (lv_at hl 0 rfl) ?_
                    refine lv_iload_n hx hb dX2_drawn_167 rfl (lv_at hl 2 rfl) ?_
                    refine lv_iconst (v := 3) hx hb dX2_drawn_168 (by decide) ?_
                    obtain ⟨r18, e19, h⟩ := bn1_e h
                    refine clX2_number_2 hf hK hO (metX2_number_2 l D aC o ad x3 3 z11 r18 e19) q1771 hl.1 (Nat.le_of_ble_eq_true rfl) ⟨Nat.le_of_ble_eq_true rfl, Nat.le_of_ble_eq_true rfl⟩ ⟨Nat.le_of_ble_eq_true rfl, Nat.le_of_ble_eq_true rfl⟩ dX2_drawn_169 ?_
                    exact hk12 _ _ h (lv_sub hl [0, 1, 2, 3, 5] rfl)
                  · have h := it_t c17 h
                    refine lv_aload_n hx hb dX2_drawn_156 rfl (lv_at hl 0 rfl) ?_
                    obtain ⟨r20, e21, h⟩ := bn1_e h
                    refine clX2_lacks hf hK hO (metX2_lacks l D aC o ad z11 r20 e21) q1820 hl.1 (Nat.le_of_ble_eq_true rfl) ⟨Nat.le_of_ble_eq_true rfl, Nat.le_of_ble_eq_true rfl⟩ ⟨Nat.le_of_ble_eq_true rfl, Nat.le_of_ble_eq_true rfl⟩ dX2_drawn_157 ?_
                    refine clJ13_bitCount hf (metJ13_bitCount l r20 _ rfl) q1862 hl.1 (Nat.le_of_ble_eq_true rfl) ⟨Nat.le_of_ble_eq_true rfl, Nat.le_of_ble_eq_true rfl⟩ ⟨Nat.le_of_ble_eq_true rfl, Nat.le_of_ble_eq_true rfl⟩ dX2_drawn_160 ?_
                    refine lv_goto (tgt := 172) hx hb dX2_drawn_163 (by decide) ?_
                    exact hk12 _ _ h (lv_sub hl [0, 1, 2, 3, 5] rfl)
                have key35 : ∀ (f : Nat) (v4 : Int32) (v7 : Int32) (z : GS) (H : Heap) (locs : List Loc) (ls : Array Slot), FX2_drawn_L72 k9 x2 x3 v5 v6 f v4 v7 z = some (r, zq) → OM D aC o ad z H → va_S A s.heap H locs → lv_has ls 9 [(0, .ref o), (2, .int x2), (3, .int x3), (4, .int v4), (5, .int v5), (6, .int v6), (7, .int v7)] → W p l e ({ frames := 58, cells := 0, slots := 0, locals := 1323 }) s m ([.ref o, .int x1, .int x2, .int x3] : List Value).toArray below meth c H locs 0 0 (MQ below (QG (some (.int r)) (OM D aC o ad zq) A) ([.ref o, .int x1, .int x2, .int x3] : List Value).toArray s 0 0 A) (F0 m 72 ls []) := by
                  intro f
                  induction f with
                  | zero =>
                    intro v4 v7 z H locs ls h
                    rw [FX2_drawn_L72] at h
                    cases h
                  | succ f ih23 =>
                    intro v4 v7 z H locs ls h hO hS hl
                    rw [FX2_drawn_L72] at h
                    refine lv_iload hx hb dX2_drawn_72 (lv_at hl 6 rfl) ?_
                    refine lv_iload_n hx hb dX2_drawn_74 rfl (lv_at hl 1 rfl) ?_
                    refine lv_bipush (v := 100) hx hb dX2_drawn_75 (by decide) ?_
                    refine g_irem hx hb dX2_drawn_77 (by decide) ?_
                    refine lv_icmp_ge (tgt := 149) hx hb dX2_drawn_78 (by decide) (fun c24 => ?_) (fun c24 => ?_)
                    · have h := it_t c24 h
                      exact hk9 _ _ _ _ _ h hO hS (lv_sub hl [0, 1, 2, 3, 4, 5] rfl)
                    · have h := it_f c24 h
                      refine lv_aload_n hx hb dX2_drawn_81 rfl (lv_at hl 0 rfl) ?_
                      refine X2_getF hx hb hts hown hK hO 2 (by decide) rfl (hts _ q1539) dX2_drawn_82 ?_
                      refine lv_if_le (tgt := 149) hx hb dX2_drawn_85 (by decide) (fun c25 => ?_) (fun c25 => ?_)
                      · have h := it_t c25 h
                        exact hk9 _ _ _ _ _ h hO hS (lv_sub hl [0, 1, 2, 3, 4, 5] rfl)
                      · have h := it_f c25 h
                        refine lv_iload hx hb dX2_drawn_88 (lv_at hl 3 rfl) ?_
                        refine lv_ldcw (v := 1103515245) hx hb hown (hts _ q1929) dX2_drawn_90 ?_
                        refine lv_imul hx hb dX2_drawn_93 ?_
                        refine lv_sipush (v := 12345) hx hb dX2_drawn_94 (by decide) ?_
                        refine lv_iadd hx hb dX2_drawn_97 ?_
                        refine lv_topi (fun y26 ey26 => ?_)
                        have h := pin_to ey26 h
                        refine lv_istore (lv' := [(4, .int y26), (0, .ref o), (2, .int x2), (3, .int x3), (5, .int v5), (6, .int v6), (7, .int v7)]) hx hb dX2_drawn_98 hl (by decide) rfl (fun ls hl => ?_)
                        refine lv_iload hx hb dX2_drawn_100 (lv_at hl 0 rfl) ?_
                        refine lv_bipush (v := 8) hx hb dX2_drawn_102 (by decide) ?_
                        refine g_iushr hx hb dX2_drawn_104 ?_
                        refine lv_aload_n hx hb dX2_drawn_105 rfl (lv_at hl 1 rfl) ?_
                        refine X2_getF hx hb hts hown hK hO 2 (by decide) rfl (hts _ q1539) dX2_drawn_106 ?_
                        obtain ⟨g27, h⟩ := grd h
                        refine g_irem hx hb dX2_drawn_109 g27 ?_
                        refine lv_topi (fun y28 ey28 => ?_)
                        have h := pin_to ey28 h
                        refine lv_istore (lv' := [(8, .int y28), (4, .int y26), (0, .ref o), (2, .int x2), (3, .int x3), (5, .int v5), (6, .int v6), (7, .int v7)]) hx hb dX2_drawn_110 hl (by decide) rfl (fun ls hl => ?_)
                        refine lv_aload_n hx hb dX2_drawn_112 rfl (lv_at hl 2 rfl) ?_
                        refine lv_iload hx hb dX2_drawn_113 (lv_at hl 0 rfl) ?_
                        refine lv_iconst (v := 3) hx hb dX2_drawn_115 (by decide) ?_
                        refine lv_iconst (v := 0) hx hb dX2_drawn_116 (by decide) ?_
                        refine lv_aload_n hx hb dX2_drawn_117 rfl (lv_at hl 2 rfl) ?_
                        refine lv_iload hx hb dX2_drawn_118 (lv_at hl 0 rfl) ?_
                        refine lv_iconst (v := 3) hx hb dX2_drawn_120 (by decide) ?_
                        obtain ⟨r29, e30, h⟩ := bn1_e h
                        refine clX2_number_2 hf hK hO (metX2_number_2 l D aC o ad y28 3 z r29 e30) q1771 hl.1 (Nat.le_of_ble_eq_true rfl) ⟨Nat.le_of_ble_eq_true rfl, Nat.le_of_ble_eq_true rfl⟩ ⟨Nat.le_of_ble_eq_true rfl, Nat.le_of_ble_eq_true rfl⟩ dX2_drawn_121 ?_
                        refine lv_iload hx hb dX2_drawn_124 (lv_at hl 1 rfl) ?_
                        refine lv_bipush (v := 16) hx hb dX2_drawn_126 (by decide) ?_
                        refine g_iushr hx hb dX2_drawn_128 ?_
                        refine lv_bipush (v := 10) hx hb dX2_drawn_129 (by decide) ?_
                        refine g_irem hx hb dX2_drawn_131 (by decide) ?_
                        refine lv_isub hx hb dX2_drawn_132 ?_
                        refine g_mmax hx hb (hml.trans hl.1.symm) hown (hts _ q1791) (hts _ q666) (hts _ q106) (hts _ q667) (Nat.le_of_ble_eq_true rfl) (Nat.le_of_ble_eq_true rfl) (Nat.le_refl _) (Nat.le_refl _) dX2_drawn_133 ?_
                        obtain ⟨z31, e32, h⟩ := bn1_e h
                        refine clX2_change hf hK hO hS (metX2_change l D aC o ad A hD y28 3 (jmax 0 (r29 - (jrem (jushr y26 16) 10))) z z31 e32) q1682 hl.1 (Nat.le_of_ble_eq_true rfl) ⟨Nat.le_of_ble_eq_true rfl, Nat.le_of_ble_eq_true rfl⟩ ⟨Nat.le_of_ble_eq_true rfl, Nat.le_of_ble_eq_true rfl⟩ dX2_drawn_136 (fun H locs hO hS => ?_)
                        refine lv_aload_n hx hb dX2_drawn_139 rfl (lv_at hl 2 rfl) ?_
                        obtain ⟨z33, e34, h⟩ := bn1_e h
                        refine clX2_goDay hf hK hO hS (metX2_goDay l D aC o ad A hD z31 z33 e34) q1804 hl.1 (Nat.le_of_ble_eq_true rfl) ⟨Nat.le_of_ble_eq_true rfl, Nat.le_of_ble_eq_true rfl⟩ ⟨Nat.le_of_ble_eq_true rfl, Nat.le_of_ble_eq_true rfl⟩ dX2_drawn_140 (fun H locs hO hS => ?_)
                        refine lv_iinc (v := (v7 + 1)) (lv' := [(7, .int (v7 + 1)), (8, .int y28), (4, .int y26), (0, .ref o), (2, .int x2), (3, .int x3), (5, .int v5), (6, .int v6)]) hx hb dX2_drawn_143 hl (k := 7) rfl rfl (by decide) rfl (fun ls hl => ?_)
                        refine lv_goto (tgt := 72) hx hb dX2_drawn_146 (by decide) ?_
                        exact ih23 _ _ _ _ _ _ h hO hS (lv_sub hl [3, 4, 5, 2, 6, 7, 0] rfl)
                exact key35 FU _ _ _ _ _ _ h hO hS (lv_sub hl [1, 2, 3, 4, 5, 6, 0] rfl)
          exact key37 FU _ _ _ _ _ _ _ h hO hS (lv_sub hl [3, 5, 6, 2, 1, 0] rfl)
        · have h := it_t c4 h
          refine lv_iconst (v := (-1)) hx hb dX2_drawn_44 (by decide) ?_
          obtain ⟨e8, rfl⟩ := Prod.mk.inj (Option.some.inj h)
          exact g_retG hx hb hr hlocks e8 hO hS dX2_drawn_45
theorem clX2_drawn {p : Program} {l : Launch} {e : Env} {R : Room} {s : State} {m : MethodId} {args : Array Value} {below : List Frame} {meth : Method} {c : Code} {H : Heap} {locs : List Loc} {cells slots : Nat} {Q : State → Prop} {cc : ByteArray} {pc nL idx fr lo : Nat} {ls : Array Slot} {rest : List Value} {own : String} {D : va_G} {aC : Nat → ClassId} {o : Nat} {ad : Nat → Nat} {z : GS} {zq : GS} {A : Nat → Prop} {x1 : Int32} {x2 : Int32} {x3 : Int32} {r : Int32} (hf : CallFix p m c cc nL s args lw_all own) (hK : va_K D vwCl (tysG aC) s) (hO : OM D aC o ad z H) (hS : va_S A s.heap H locs) (hM : Met l yX2_drawn (ws_ yX2_drawn cX2_drawn 9 (some .int)) ({ frames := fr, cells := 0, slots := 0, locals := lo }) (va_Pc [.ref o, .int x1, .int x2, .int x3] (PM D aC o ad z)) (QG (some (.int r)) (OM D aC o ad zq) A) 0 0 A) (hq : Cond.methodLink own idx yX2_drawn ∈ lw_all) (hs : ls.size = nL) (hr : (rest.map fun v => v.category).sum ≤ 8) (hR : fr + 1 ≤ R.frames ∧ 8 + (9 + 11) + lo ≤ R.locals) (hcs : cells + 0 ≤ R.cells ∧ slots + 0 ≤ R.slots) (hd : decode cc pc = .ok (.invokevirtual idx, 3)) (kk : ∀ (H1 : Heap) (locs1 : List Loc), OM D aC o ad zq H1 → va_S A s.heap H1 locs1 → W p l e R s m args below meth c H1 locs1 cells slots Q (F0 m (pc + 3) ls (.int r :: rest))) : W p l e R s m args below meth c H locs cells slots Q (F0 m pc ls (.int x3 :: .int x2 :: .int x1 :: .ref o :: rest)) :=
  g_callG (W.runV (As := [.int x1, .int x2, .int x3]) (rest := rest) hf hM (cwV 3 hf.2.2.2.2 (lw_V hq q1926 q1927 q92 q1928) rfl rfl rfl (by decide +kernel) hR) ⟨fun a U g mk q => ⟨q.1, q.2.1, va_K.moved (u := U) (U := U.calling g mk a) (Vm.Alike.refl U.vm) q.2.2⟩, OA.recv hK hO rfl, fun U hU hW => ⟨rfl, by rw [hU]; exact hO, va_K.moved hW.alike hK⟩⟩ rfl rfl hs rfl (lv_room hr) hd hcs) hS (fun H1 locs1 hP hS _ _ => kk H1 locs1 hP hS)
theorem metX2_day (l : Launch) (D : va_G) (aC : Nat → ClassId) (o : Nat) (ad : Nat → Nat) (A : Nat → Prop) (hD : OD A 44 kdM o ad)  (z : GS) (r : Int32) (zq : GS) (h : FX2_day z = some (r, zq)) : Met l yX2_day (ws_ yX2_day cX2_day 2 (some .int)) ({ frames := 58, cells := 0, slots := 0, locals := 1323 }) (va_Pc [.ref o] (PM D aC o ad z)) (QG (some (.int r)) (OM D aC o ad zq) A) 0 0 A := by
  refine g_ofW (cc := cX2_day) (maxL := 2) (ret := (some .int)) (own := RX2) (by decide) rfl rfl [.ref o] (PM D aC o ad z) (Nat.le_of_ble_eq_true rfl) ?_
  intro p e s m below meth c ls hx hb hr hml hts hown hlocks hnm hPre hl
  obtain ⟨hO, hK⟩ := hPre
  have hf : CallFix p m c cX2_day 2 s _ lw_all RX2 := ⟨hx, hb, hml, hown, hts⟩
  have hl : lv_has ls 2 [(0, .ref o)] := hl
  refine g_open (A := A) (OM D aC o ad z) hO (fun H locs hO hS => ?_)
  unfold FX2_day at h
  refine lv_aload_n hx hb dX2_day_0 rfl (lv_at hl 0 rfl) ?_
  obtain ⟨r1, e2, h⟩ := bn1_e h
  refine clX2_lacks hf hK hO (metX2_lacks l D aC o ad z r1 e2) q1820 hl.1 (Nat.le_of_ble_eq_true rfl) ⟨Nat.le_of_ble_eq_true rfl, Nat.le_of_ble_eq_true rfl⟩ ⟨Nat.le_of_ble_eq_true rfl, Nat.le_of_ble_eq_true rfl⟩ dX2_day_1 ?_
  refine lv_istore_n (lv' := [(1, .int r1), (0, .ref o)]) hx hb dX2_day_4 rfl hl (by decide) rfl (fun ls hl => ?_)
  refine lv_aload_n hx hb dX2_day_5 rfl (lv_at hl 1 rfl) ?_
  obtain ⟨z3, e4, h⟩ := bn1_e h
  refine clX2_goDay hf hK hO hS (metX2_goDay l D aC o ad A hD z z3 e4) q1804 hl.1 (Nat.le_of_ble_eq_true rfl) ⟨Nat.le_of_ble_eq_true rfl, Nat.le_of_ble_eq_true rfl⟩ ⟨Nat.le_of_ble_eq_true rfl, Nat.le_of_ble_eq_true rfl⟩ dX2_day_6 (fun H locs hO hS => ?_)
  refine lv_aload_n hx hb dX2_day_9 rfl (lv_at hl 1 rfl) ?_
  refine X2_getA hx hb hts hown hK hO 33 (by decide) rfl (hts _ q1570) dX2_day_10 ?_
  refine lv_iconst (v := 0) hx hb dX2_day_13 (by decide) ?_
  refine lv_dup2_11 hx hb dX2_day_14 rfl rfl ?_
  obtain ⟨g5, h⟩ := grd h
  refine X2_iaload hx hb hK hO 33 (by decide) rfl rfl g5 dX2_day_15 ?_
  refine lv_iconst (v := 1) hx hb dX2_day_16 (by decide) ?_
  refine lv_iadd hx hb dX2_day_17 ?_
  obtain ⟨g6, h⟩ := grd h
  refine X2_iastore hx hb hK hO hD hS 33 (by decide) rfl rfl g6 dX2_day_18 (fun H locs z7 ez7 hO hS => ?_)
  have h := pin_to ez7 h
  refine lv_aload_n hx hb dX2_day_19 rfl (lv_at hl 1 rfl) ?_
  refine X2_getA hx hb hts hown hK hO 33 (by decide) rfl (hts _ q1570) dX2_day_20 ?_
  refine lv_iconst (v := 1) hx hb dX2_day_23 (by decide) ?_
  refine lv_dup2_11 hx hb dX2_day_24 rfl rfl ?_
  obtain ⟨g8, h⟩ := grd h
  refine X2_iaload hx hb hK hO 33 (by decide) rfl rfl g8 dX2_day_25 ?_
  refine lv_aload_n hx hb dX2_day_26 rfl (lv_at hl 1 rfl) ?_
  refine X2_getF hx hb hts hown hK hO 22 (by decide) rfl (hts _ q1559) dX2_day_27 ?_
  refine lv_iadd hx hb dX2_day_30 ?_
  obtain ⟨g9, h⟩ := grd h
  refine X2_iastore hx hb hK hO hD hS 33 (by decide) rfl rfl g9 dX2_day_31 (fun H locs z10 ez10 hO hS => ?_)
  have h := pin_to ez10 h
  refine lv_aload_n hx hb dX2_day_32 rfl (lv_at hl 1 rfl) ?_
  refine X2_getA hx hb hts hown hK hO 33 (by decide) rfl (hts _ q1570) dX2_day_33 ?_
  refine lv_iconst (v := 4) hx hb dX2_day_36 (by decide) ?_
  refine lv_dup2_11 hx hb dX2_day_37 rfl rfl ?_
  obtain ⟨g11, h⟩ := grd h
  refine X2_iaload hx hb hK hO 33 (by decide) rfl rfl g11 dX2_day_38 ?_
  refine lv_aload_n hx hb dX2_day_39 rfl (lv_at hl 1 rfl) ?_
  obtain ⟨r12, e13, h⟩ := bn1_e h
  refine clX2_lacks hf hK hO (metX2_lacks l D aC o ad z10 r12 e13) q1820 hl.1 (Nat.le_of_ble_eq_true rfl) ⟨Nat.le_of_ble_eq_true rfl, Nat.le_of_ble_eq_true rfl⟩ ⟨Nat.le_of_ble_eq_true rfl, Nat.le_of_ble_eq_true rfl⟩ dX2_day_40 ?_
  refine lv_iload_n hx hb dX2_day_43 rfl (lv_at hl 0 rfl) ?_
  refine lv_iconst (v := (-1)) hx hb dX2_day_44 (by decide) ?_
  refine lv_ixor hx hb dX2_day_45 ?_
  refine lv_iand hx hb dX2_day_46 ?_
  refine clJ13_bitCount hf (metJ13_bitCount l (r12 &&& (r1 ^^^ (-1))) _ rfl) q1862 hl.1 (Nat.le_of_ble_eq_true rfl) ⟨Nat.le_of_ble_eq_true rfl, Nat.le_of_ble_eq_true rfl⟩ ⟨Nat.le_of_ble_eq_true rfl, Nat.le_of_ble_eq_true rfl⟩ dX2_day_47 ?_
  refine lv_iadd hx hb dX2_day_50 ?_
  obtain ⟨g14, h⟩ := grd h
  refine X2_iastore hx hb hK hO hD hS 33 (by decide) rfl rfl g14 dX2_day_51 (fun H locs z15 ez15 hO hS => ?_)
  have h := pin_to ez15 h
  refine lv_aload_n hx hb dX2_day_52 rfl (lv_at hl 1 rfl) ?_
  obtain ⟨r16, e17, h⟩ := bn1_e h
  refine clX2_lacks hf hK hO (metX2_lacks l D aC o ad z15 r16 e17) q1820 hl.1 (Nat.le_of_ble_eq_true rfl) ⟨Nat.le_of_ble_eq_true rfl, Nat.le_of_ble_eq_true rfl⟩ ⟨Nat.le_of_ble_eq_true rfl, Nat.le_of_ble_eq_true rfl⟩ dX2_day_53 ?_
  refine clJ13_bitCount hf (metJ13_bitCount l r16 _ rfl) q1862 hl.1 (Nat.le_of_ble_eq_true rfl) ⟨Nat.le_of_ble_eq_true rfl, Nat.le_of_ble_eq_true rfl⟩ ⟨Nat.le_of_ble_eq_true rfl, Nat.le_of_ble_eq_true rfl⟩ dX2_day_56 ?_
  obtain ⟨e8, rfl⟩ := Prod.mk.inj (Option.some.inj h)
  exact g_retG hx hb hr hlocks e8 hO hS dX2_day_59
theorem clX2_day {p : Program} {l : Launch} {e : Env} {R : Room} {s : State} {m : MethodId} {args : Array Value} {below : List Frame} {meth : Method} {c : Code} {H : Heap} {locs : List Loc} {cells slots : Nat} {Q : State → Prop} {cc : ByteArray} {pc nL idx fr lo : Nat} {ls : Array Slot} {rest : List Value} {own : String} {D : va_G} {aC : Nat → ClassId} {o : Nat} {ad : Nat → Nat} {z : GS} {zq : GS} {A : Nat → Prop}  {r : Int32} (hf : CallFix p m c cc nL s args lw_all own) (hK : va_K D vwCl (tysG aC) s) (hO : OM D aC o ad z H) (hS : va_S A s.heap H locs) (hM : Met l yX2_day (ws_ yX2_day cX2_day 2 (some .int)) ({ frames := fr, cells := 0, slots := 0, locals := lo }) (va_Pc [.ref o] (PM D aC o ad z)) (QG (some (.int r)) (OM D aC o ad zq) A) 0 0 A) (hq : Cond.methodLink own idx yX2_day ∈ lw_all) (hs : ls.size = nL) (hr : (rest.map fun v => v.category).sum ≤ 8) (hR : fr + 1 ≤ R.frames ∧ 8 + (2 + 11) + lo ≤ R.locals) (hcs : cells + 0 ≤ R.cells ∧ slots + 0 ≤ R.slots) (hd : decode cc pc = .ok (.invokevirtual idx, 3)) (kk : ∀ (H1 : Heap) (locs1 : List Loc), OM D aC o ad zq H1 → va_S A s.heap H1 locs1 → W p l e R s m args below meth c H1 locs1 cells slots Q (F0 m (pc + 3) ls (.int r :: rest))) : W p l e R s m args below meth c H locs cells slots Q (F0 m pc ls (.ref o :: rest)) :=
  g_callG (W.runV (As := []) (rest := rest) hf hM (cwV 0 hf.2.2.2.2 (lw_V hq q1931 q1932 q92 q1933) rfl rfl rfl (by decide +kernel) hR) ⟨fun a U g mk q => ⟨q.1, q.2.1, va_K.moved (u := U) (U := U.calling g mk a) (Vm.Alike.refl U.vm) q.2.2⟩, OA.recv hK hO rfl, fun U hU hW => ⟨rfl, by rw [hU]; exact hO, va_K.moved hW.alike hK⟩⟩ rfl rfl hs rfl (lv_room hr) hd hcs) hS (fun H1 locs1 hP hS _ _ => kk H1 locs1 hP hS)
theorem metX2_cares (l : Launch) (D : va_G) (aC : Nat → ClassId) (o : Nat) (ad : Nat → Nat) (A : Nat → Prop) (hD : OD A 44 kdM o ad) (x1 : Int32) (x2 : Int32) (z : GS) (r : Int32) (zq : GS) (h : FX2_cares x1 x2 z = some (r, zq)) : Met l yX2_cares (ws_ yX2_cares cX2_cares 4 (some .int)) ({ frames := 2, cells := 0, slots := 0, locals := 43 }) (va_Pc [.ref o, .int x1, .int x2] (PM D aC o ad z)) (QG (some (.int r)) (OM D aC o ad zq) A) 0 0 A := by
  refine g_ofW (cc := cX2_cares) (maxL := 4) (ret := (some .int)) (own := RX2) (by decide) rfl rfl [.ref o, .int x1, .int x2] (PM D aC o ad z) (Nat.le_of_ble_eq_true rfl) ?_
  intro p e s m below meth c ls hx hb hr hml hts hown hlocks hnm hPre hl
  obtain ⟨hO, hK⟩ := hPre
  have hf : CallFix p m c cX2_cares 4 s _ lw_all RX2 := ⟨hx, hb, hml, hown, hts⟩
  have hl : lv_has ls 4 [(0, .ref o), (1, .int x1), (2, .int x2)] := hl
  refine g_open (A := A) (OM D aC o ad z) hO (fun H locs hO hS => ?_)
  unfold FX2_cares at h
  refine lv_aload_n hx hb dX2_cares_0 rfl (lv_at hl 0 rfl) ?_
  refine lv_iload_n hx hb dX2_cares_1 rfl (lv_at hl 1 rfl) ?_
  refine clX2_isOne hf hK hO (metX2_isOne l D aC o ad x1 z _ rfl) q1694 hl.1 (Nat.le_of_ble_eq_true rfl) ⟨Nat.le_of_ble_eq_true rfl, Nat.le_of_ble_eq_true rfl⟩ ⟨Nat.le_of_ble_eq_true rfl, Nat.le_of_ble_eq_true rfl⟩ dX2_cares_2 ?_
  refine lv_if_eq (tgt := 27) hx hb dX2_cares_5 (by decide) (fun c1 => ?_) (fun c1 => ?_)
  · have h := it_t c1 h
    refine lv_ldc (v := (-2000000000)) hx hb hown (hts _ q1698) dX2_cares_27 ?_
    obtain ⟨e8, rfl⟩ := Prod.mk.inj (Option.some.inj h)
    exact g_retG hx hb hr hlocks e8 hO hS dX2_cares_29
  · have h := it_f c1 h
    refine lv_iload_n hx hb dX2_cares_8 rfl (lv_at hl 2 rfl) ?_
    refine lv_iconst (v := (-1)) hx hb dX2_cares_9 (by decide) ?_
    refine lv_aload_n hx hb dX2_cares_10 rfl (lv_at hl 0 rfl) ?_
    refine X2_getF hx hb hts hown hK hO 2 (by decide) rfl (hts _ q1539) dX2_cares_11 ?_
    refine lv_iconst (v := 1) hx hb dX2_cares_14 (by decide) ?_
    refine lv_isub hx hb dX2_cares_15 ?_
    refine clX2_isIn hf (metX2_isIn l x2 (-1) ((gF z 2) - 1) _ rfl) q1675 hl.1 (Nat.le_of_ble_eq_true rfl) ⟨Nat.le_of_ble_eq_true rfl, Nat.le_of_ble_eq_true rfl⟩ ⟨Nat.le_of_ble_eq_true rfl, Nat.le_of_ble_eq_true rfl⟩ dX2_cares_16 ?_
    refine lv_if_eq (tgt := 27) hx hb dX2_cares_19 (by decide) (fun c2 => ?_) (fun c2 => ?_)
    · have h := it_t c2 h
      refine lv_ldc (v := (-2000000000)) hx hb hown (hts _ q1698) dX2_cares_27 ?_
      obtain ⟨e8, rfl⟩ := Prod.mk.inj (Option.some.inj h)
      exact g_retG hx hb hr hlocks e8 hO hS dX2_cares_29
    · have h := it_f c2 h
      refine lv_iload_n hx hb dX2_cares_22 rfl (lv_at hl 2 rfl) ?_
      refine lv_iload_n hx hb dX2_cares_23 rfl (lv_at hl 1 rfl) ?_
      refine lv_icmp_ne (tgt := 30) hx hb dX2_cares_24 (by decide) (fun c3 => ?_) (fun c3 => ?_)
      · have h := it_f c3 h
        refine lv_aload_n hx hb dX2_cares_30 rfl (lv_at hl 0 rfl) ?_
        refine lv_iload_n hx hb dX2_cares_31 rfl (lv_at hl 1 rfl) ?_
        refine lv_iconst (v := 4) hx hb dX2_cares_32 (by decide) ?_
        obtain ⟨r4, e5, h⟩ := bn1_e h
        refine clX2_number_2 hf hK hO (metX2_number_2 l D aC o ad x1 4 z r4 e5) q1771 hl.1 (Nat.le_of_ble_eq_true rfl) ⟨Nat.le_of_ble_eq_true rfl, Nat.le_of_ble_eq_true rfl⟩ ⟨Nat.le_of_ble_eq_true rfl, Nat.le_of_ble_eq_true rfl⟩ dX2_cares_33 ?_
        refine lv_istore_n (lv' := [(3, .int r4), (0, .ref o), (1, .int x1), (2, .int x2)]) hx hb dX2_cares_36 rfl hl (by decide) rfl (fun ls hl => ?_)
        refine lv_aload_n hx hb dX2_cares_37 rfl (lv_at hl 1 rfl) ?_
        refine lv_iload_n hx hb dX2_cares_38 rfl (lv_at hl 2 rfl) ?_
        refine lv_iconst (v := 4) hx hb dX2_cares_39 (by decide) ?_
        refine lv_iload_n hx hb dX2_cares_40 rfl (lv_at hl 3 rfl) ?_
        obtain ⟨z6, e7, h⟩ := bn1_e h
        refine clX2_change hf hK hO hS (metX2_change l D aC o ad A hD x1 4 x2 z z6 e7) q1682 hl.1 (Nat.le_of_ble_eq_true rfl) ⟨Nat.le_of_ble_eq_true rfl, Nat.le_of_ble_eq_true rfl⟩ ⟨Nat.le_of_ble_eq_true rfl, Nat.le_of_ble_eq_true rfl⟩ dX2_cares_41 (fun H locs hO hS => ?_)
        refine lv_aload_n hx hb dX2_cares_44 rfl (lv_at hl 1 rfl) ?_
        refine X2_getA hx hb hts hown hK hO 33 (by decide) rfl (hts _ q1570) dX2_cares_45 ?_
        refine lv_iconst (v := 2) hx hb dX2_cares_48 (by decide) ?_
        refine lv_dup2_11 hx hb dX2_cares_49 rfl rfl ?_
        obtain ⟨g8, h⟩ := grd h
        refine X2_iaload hx hb hK hO 33 (by decide) rfl rfl g8 dX2_cares_50 ?_
        refine lv_iconst (v := 1) hx hb dX2_cares_51 (by decide) ?_
        refine lv_iadd hx hb dX2_cares_52 ?_
        obtain ⟨g9, h⟩ := grd h
        refine X2_iastore hx hb hK hO hD hS 33 (by decide) rfl rfl g9 dX2_cares_53 (fun H locs z10 ez10 hO hS => ?_)
        have h := pin_to ez10 h
        refine lv_iload_n hx hb dX2_cares_54 rfl (lv_at hl 0 rfl) ?_
        obtain ⟨e8, rfl⟩ := Prod.mk.inj (Option.some.inj h)
        exact g_retG hx hb hr hlocks e8 hO hS dX2_cares_55
      · have h := it_t c3 h
        refine lv_ldc (v := (-2000000000)) hx hb hown (hts _ q1698) dX2_cares_27 ?_
        obtain ⟨e8, rfl⟩ := Prod.mk.inj (Option.some.inj h)
        exact g_retG hx hb hr hlocks e8 hO hS dX2_cares_29
theorem clX2_cares {p : Program} {l : Launch} {e : Env} {R : Room} {s : State} {m : MethodId} {args : Array Value} {below : List Frame} {meth : Method} {c : Code} {H : Heap} {locs : List Loc} {cells slots : Nat} {Q : State → Prop} {cc : ByteArray} {pc nL idx fr lo : Nat} {ls : Array Slot} {rest : List Value} {own : String} {D : va_G} {aC : Nat → ClassId} {o : Nat} {ad : Nat → Nat} {z : GS} {zq : GS} {A : Nat → Prop} {x1 : Int32} {x2 : Int32} {r : Int32} (hf : CallFix p m c cc nL s args lw_all own) (hK : va_K D vwCl (tysG aC) s) (hO : OM D aC o ad z H) (hS : va_S A s.heap H locs) (hM : Met l yX2_cares (ws_ yX2_cares cX2_cares 4 (some .int)) ({ frames := fr, cells := 0, slots := 0, locals := lo }) (va_Pc [.ref o, .int x1, .int x2] (PM D aC o ad z)) (QG (some (.int r)) (OM D aC o ad zq) A) 0 0 A) (hq : Cond.methodLink own idx yX2_cares ∈ lw_all) (hs : ls.size = nL) (hr : (rest.map fun v => v.category).sum ≤ 8) (hR : fr + 1 ≤ R.frames ∧ 8 + (4 + 11) + lo ≤ R.locals) (hcs : cells + 0 ≤ R.cells ∧ slots + 0 ≤ R.slots) (hd : decode cc pc = .ok (.invokevirtual idx, 3)) (kk : ∀ (H1 : Heap) (locs1 : List Loc), OM D aC o ad zq H1 → va_S A s.heap H1 locs1 → W p l e R s m args below meth c H1 locs1 cells slots Q (F0 m (pc + 3) ls (.int r :: rest))) : W p l e R s m args below meth c H locs cells slots Q (F0 m pc ls (.int x2 :: .int x1 :: .ref o :: rest)) :=
  g_callG (W.runV (As := [.int x1, .int x2]) (rest := rest) hf hM (cwV 2 hf.2.2.2.2 (lw_V hq q1935 q1936 q92 q1937) rfl rfl rfl (by decide +kernel) hR) ⟨fun a U g mk q => ⟨q.1, q.2.1, va_K.moved (u := U) (U := U.calling g mk a) (Vm.Alike.refl U.vm) q.2.2⟩, OA.recv hK hO rfl, fun U hU hW => ⟨rfl, by rw [hU]; exact hO, va_K.moved hW.alike hK⟩⟩ rfl rfl hs rfl (lv_room hr) hd hcs) hS (fun H1 locs1 hP hS _ _ => kk H1 locs1 hP hS)
theorem metX2_gives_2 (l : Launch) (D : va_G) (aC : Nat → ClassId) (o : Nat) (ad : Nat → Nat) (A : Nat → Prop) (hD : OD A 44 kdM o ad) (x1 : Int32) (x2 : Int32) (x3 : Int32) (z : GS) (r : Int32) (zq : GS) (h : FX2_gives_2 x1 x2 x3 z = some (r, zq)) : Met l yX2_gives_2 (ws_ yX2_gives_2 cX2_gives_2 4 (some .int)) ({ frames := 2, cells := 0, slots := 0, locals := 60 }) (va_Pc [.ref o, .int x1, .int x2, .int x3] (PM D aC o ad z)) (QG (some (.int r)) (OM D aC o ad zq) A) 0 0 A := by
  refine g_ofW (cc := cX2_gives_2) (maxL := 4) (ret := (some .int)) (own := RX2) (by decide) rfl rfl [.ref o, .int x1, .int x2, .int x3] (PM D aC o ad z) (Nat.le_of_ble_eq_true rfl) ?_
  intro p e s m below meth c ls hx hb hr hml hts hown hlocks hnm hPre hl
  obtain ⟨hO, hK⟩ := hPre
  have hf : CallFix p m c cX2_gives_2 4 s _ lw_all RX2 := ⟨hx, hb, hml, hown, hts⟩
  have hl : lv_has ls 4 [(0, .ref o), (1, .int x1), (2, .int x2), (3, .int x3)] := hl
  refine g_open (A := A) (OM D aC o ad z) hO (fun H locs hO hS => ?_)
  unfold FX2_gives_2 at h
  refine lv_aload_n hx hb dX2_gives_2_0 rfl (lv_at hl 0 rfl) ?_
  refine lv_iload_n hx hb dX2_gives_2_1 rfl (lv_at hl 1 rfl) ?_
  refine clX2_isOne hf hK hO (metX2_isOne l D aC o ad x1 z _ rfl) q1694 hl.1 (Nat.le_of_ble_eq_true rfl) ⟨Nat.le_of_ble_eq_true rfl, Nat.le_of_ble_eq_true rfl⟩ ⟨Nat.le_of_ble_eq_true rfl, Nat.le_of_ble_eq_true rfl⟩ dX2_gives_2_2 ?_
  refine lv_if_eq (tgt := 31) hx hb dX2_gives_2_5 (by decide) (fun c1 => ?_) (fun c1 => ?_)
  · have h := it_t c1 h
    refine lv_iconst (v := (-1)) hx hb dX2_gives_2_31 (by decide) ?_
    obtain ⟨e8, rfl⟩ := Prod.mk.inj (Option.some.inj h)
    exact g_retG hx hb hr hlocks e8 hO hS dX2_gives_2_32
  · have h := it_f c1 h
    refine lv_aload_n hx hb dX2_gives_2_8 rfl (lv_at hl 0 rfl) ?_
    refine lv_iload_n hx hb dX2_gives_2_9 rfl (lv_at hl 2 rfl) ?_
    refine clX2_isOne hf hK hO (metX2_isOne l D aC o ad x2 z _ rfl) q1694 hl.1 (Nat.le_of_ble_eq_true rfl) ⟨Nat.le_of_ble_eq_true rfl, Nat.le_of_ble_eq_true rfl⟩ ⟨Nat.le_of_ble_eq_true rfl, Nat.le_of_ble_eq_true rfl⟩ dX2_gives_2_10 ?_
    refine lv_if_eq (tgt := 31) hx hb dX2_gives_2_13 (by decide) (fun c2 => ?_) (fun c2 => ?_)
    · have h := it_t c2 h
      refine lv_iconst (v := (-1)) hx hb dX2_gives_2_31 (by decide) ?_
      obtain ⟨e8, rfl⟩ := Prod.mk.inj (Option.some.inj h)
      exact g_retG hx hb hr hlocks e8 hO hS dX2_gives_2_32
    · have h := it_f c2 h
      refine lv_iload_n hx hb dX2_gives_2_16 rfl (lv_at hl 1 rfl) ?_
      refine lv_iload_n hx hb dX2_gives_2_17 rfl (lv_at hl 2 rfl) ?_
      refine lv_icmp_eq (tgt := 31) hx hb dX2_gives_2_18 (by decide) (fun c3 => ?_) (fun c3 => ?_)
      · have h := it_t c3 h
        refine lv_iconst (v := (-1)) hx hb dX2_gives_2_31 (by decide) ?_
        obtain ⟨e8, rfl⟩ := Prod.mk.inj (Option.some.inj h)
        exact g_retG hx hb hr hlocks e8 hO hS dX2_gives_2_32
      · have h := it_f c3 h
        refine lv_iload_n hx hb dX2_gives_2_21 rfl (lv_at hl 3 rfl) ?_
        refine lv_iconst (v := 1) hx hb dX2_gives_2_22 (by decide) ?_
        refine lv_bipush (v := 99) hx hb dX2_gives_2_23 (by decide) ?_
        refine clX2_isIn hf (metX2_isIn l x3 1 99 _ rfl) q1675 hl.1 (Nat.le_of_ble_eq_true rfl) ⟨Nat.le_of_ble_eq_true rfl, Nat.le_of_ble_eq_true rfl⟩ ⟨Nat.le_of_ble_eq_true rfl, Nat.le_of_ble_eq_true rfl⟩ dX2_gives_2_25 ?_
        refine lv_if_ne (tgt := 33) hx hb dX2_gives_2_28 (by decide) (fun c4 => ?_) (fun c4 => ?_)
        · have h := it_f c4 h
          refine lv_aload_n hx hb dX2_gives_2_33 rfl (lv_at hl 0 rfl) ?_
          refine lv_iload_n hx hb dX2_gives_2_34 rfl (lv_at hl 1 rfl) ?_
          refine lv_iconst (v := 3) hx hb dX2_gives_2_35 (by decide) ?_
          obtain ⟨r5, e6, h⟩ := bn1_e h
          refine clX2_number_2 hf hK hO (metX2_number_2 l D aC o ad x1 3 z r5 e6) q1771 hl.1 (Nat.le_of_ble_eq_true rfl) ⟨Nat.le_of_ble_eq_true rfl, Nat.le_of_ble_eq_true rfl⟩ ⟨Nat.le_of_ble_eq_true rfl, Nat.le_of_ble_eq_true rfl⟩ dX2_gives_2_36 ?_
          refine lv_iload_n hx hb dX2_gives_2_39 rfl (lv_at hl 3 rfl) ?_
          refine lv_icmp_ge (tgt := 46) hx hb dX2_gives_2_40 (by decide) (fun c7 => ?_) (fun c7 => ?_)
          · have h := it_t c7 h
            refine lv_aload_n hx hb dX2_gives_2_46 rfl (lv_at hl 0 rfl) ?_
            refine lv_iload_n hx hb dX2_gives_2_47 rfl (lv_at hl 1 rfl) ?_
            refine lv_iconst (v := 3) hx hb dX2_gives_2_48 (by decide) ?_
            refine lv_aload_n hx hb dX2_gives_2_49 rfl (lv_at hl 0 rfl) ?_
            refine lv_iload_n hx hb dX2_gives_2_50 rfl (lv_at hl 1 rfl) ?_
            refine lv_iconst (v := 3) hx hb dX2_gives_2_51 (by decide) ?_
            obtain ⟨r8, e9, h⟩ := bn1_e h
            refine clX2_number_2 hf hK hO (metX2_number_2 l D aC o ad x1 3 z r8 e9) q1771 hl.1 (Nat.le_of_ble_eq_true rfl) ⟨Nat.le_of_ble_eq_true rfl, Nat.le_of_ble_eq_true rfl⟩ ⟨Nat.le_of_ble_eq_true rfl, Nat.le_of_ble_eq_true rfl⟩ dX2_gives_2_52 ?_
            refine lv_iload_n hx hb dX2_gives_2_55 rfl (lv_at hl 3 rfl) ?_
            refine lv_isub hx hb dX2_gives_2_56 ?_
            obtain ⟨z10, e11, h⟩ := bn1_e h
            refine clX2_change hf hK hO hS (metX2_change l D aC o ad A hD x1 3 (r8 - x3) z z10 e11) q1682 hl.1 (Nat.le_of_ble_eq_true rfl) ⟨Nat.le_of_ble_eq_true rfl, Nat.le_of_ble_eq_true rfl⟩ ⟨Nat.le_of_ble_eq_true rfl, Nat.le_of_ble_eq_true rfl⟩ dX2_gives_2_57 (fun H locs hO hS => ?_)
            refine lv_aload_n hx hb dX2_gives_2_60 rfl (lv_at hl 0 rfl) ?_
            refine lv_iload_n hx hb dX2_gives_2_61 rfl (lv_at hl 2 rfl) ?_
            refine lv_iconst (v := 3) hx hb dX2_gives_2_62 (by decide) ?_
            refine lv_bipush (v := 99) hx hb dX2_gives_2_63 (by decide) ?_
            refine lv_aload_n hx hb dX2_gives_2_65 rfl (lv_at hl 0 rfl) ?_
            refine lv_iload_n hx hb dX2_gives_2_66 rfl (lv_at hl 2 rfl) ?_
            refine lv_iconst (v := 3) hx hb dX2_gives_2_67 (by decide) ?_
            obtain ⟨r12, e13, h⟩ := bn1_e h
            refine clX2_number_2 hf hK hO (metX2_number_2 l D aC o ad x2 3 z10 r12 e13) q1771 hl.1 (Nat.le_of_ble_eq_true rfl) ⟨Nat.le_of_ble_eq_true rfl, Nat.le_of_ble_eq_true rfl⟩ ⟨Nat.le_of_ble_eq_true rfl, Nat.le_of_ble_eq_true rfl⟩ dX2_gives_2_68 ?_
            refine lv_iload_n hx hb dX2_gives_2_71 rfl (lv_at hl 3 rfl) ?_
            refine lv_iadd hx hb dX2_gives_2_72 ?_
            refine g_mmin hx hb (hml.trans hl.1.symm) hown (hts _ q1790) (hts _ q669) (hts _ q106) (hts _ q670) (Nat.le_of_ble_eq_true rfl) (Nat.le_of_ble_eq_true rfl) (Nat.le_refl _) (Nat.le_refl _) dX2_gives_2_73 ?_
            obtain ⟨z14, e15, h⟩ := bn1_e h
            refine clX2_change hf hK hO hS (metX2_change l D aC o ad A hD x2 3 (jmin 99 (r12 + x3)) z10 z14 e15) q1682 hl.1 (Nat.le_of_ble_eq_true rfl) ⟨Nat.le_of_ble_eq_true rfl, Nat.le_of_ble_eq_true rfl⟩ ⟨Nat.le_of_ble_eq_true rfl, Nat.le_of_ble_eq_true rfl⟩ dX2_gives_2_76 (fun H locs hO hS => ?_)
            refine lv_aload_n hx hb dX2_gives_2_79 rfl (lv_at hl 0 rfl) ?_
            refine X2_getA hx hb hts hown hK hO 33 (by decide) rfl (hts _ q1570) dX2_gives_2_80 ?_
            refine lv_iconst (v := 3) hx hb dX2_gives_2_83 (by decide) ?_
            refine lv_dup2_11 hx hb dX2_gives_2_84 rfl rfl ?_
            obtain ⟨g16, h⟩ := grd h
            refine X2_iaload hx hb hK hO 33 (by decide) rfl rfl g16 dX2_gives_2_85 ?_
            refine lv_iload_n hx hb dX2_gives_2_86 rfl (lv_at hl 3 rfl) ?_
            refine lv_iadd hx hb dX2_gives_2_87 ?_
            obtain ⟨g17, h⟩ := grd h
            refine X2_iastore hx hb hK hO hD hS 33 (by decide) rfl rfl g17 dX2_gives_2_88 (fun H locs z18 ez18 hO hS => ?_)
            have h := pin_to ez18 h
            refine lv_aload_n hx hb dX2_gives_2_89 rfl (lv_at hl 0 rfl) ?_
            refine lv_iload_n hx hb dX2_gives_2_90 rfl (lv_at hl 1 rfl) ?_
            refine lv_iconst (v := 3) hx hb dX2_gives_2_91 (by decide) ?_
            obtain ⟨r19, e20, h⟩ := bn1_e h
            refine clX2_number_2 hf hK hO (metX2_number_2 l D aC o ad x1 3 z18 r19 e20) q1771 hl.1 (Nat.le_of_ble_eq_true rfl) ⟨Nat.le_of_ble_eq_true rfl, Nat.le_of_ble_eq_true rfl⟩ ⟨Nat.le_of_ble_eq_true rfl, Nat.le_of_ble_eq_true rfl⟩ dX2_gives_2_92 ?_
            obtain ⟨e8, rfl⟩ := Prod.mk.inj (Option.some.inj h)
            exact g_retG hx hb hr hlocks e8 hO hS dX2_gives_2_95
          · have h := it_f c7 h
            refine lv_bipush (v := (-5)) hx hb dX2_gives_2_43 (by decide) ?_
            obtain ⟨e8, rfl⟩ := Prod.mk.inj (Option.some.inj h)
            exact g_retG hx hb hr hlocks e8 hO hS dX2_gives_2_45
        · have h := it_t c4 h
          refine lv_iconst (v := (-1)) hx hb dX2_gives_2_31 (by decide) ?_
          obtain ⟨e8, rfl⟩ := Prod.mk.inj (Option.some.inj h)
          exact g_retG hx hb hr hlocks e8 hO hS dX2_gives_2_32
theorem clX2_gives_2 {p : Program} {l : Launch} {e : Env} {R : Room} {s : State} {m : MethodId} {args : Array Value} {below : List Frame} {meth : Method} {c : Code} {H : Heap} {locs : List Loc} {cells slots : Nat} {Q : State → Prop} {cc : ByteArray} {pc nL idx fr lo : Nat} {ls : Array Slot} {rest : List Value} {own : String} {D : va_G} {aC : Nat → ClassId} {o : Nat} {ad : Nat → Nat} {z : GS} {zq : GS} {A : Nat → Prop} {x1 : Int32} {x2 : Int32} {x3 : Int32} {r : Int32} (hf : CallFix p m c cc nL s args lw_all own) (hK : va_K D vwCl (tysG aC) s) (hO : OM D aC o ad z H) (hS : va_S A s.heap H locs) (hM : Met l yX2_gives_2 (ws_ yX2_gives_2 cX2_gives_2 4 (some .int)) ({ frames := fr, cells := 0, slots := 0, locals := lo }) (va_Pc [.ref o, .int x1, .int x2, .int x3] (PM D aC o ad z)) (QG (some (.int r)) (OM D aC o ad zq) A) 0 0 A) (hq : Cond.methodLink own idx yX2_gives_2 ∈ lw_all) (hs : ls.size = nL) (hr : (rest.map fun v => v.category).sum ≤ 8) (hR : fr + 1 ≤ R.frames ∧ 8 + (4 + 11) + lo ≤ R.locals) (hcs : cells + 0 ≤ R.cells ∧ slots + 0 ≤ R.slots) (hd : decode cc pc = .ok (.invokevirtual idx, 3)) (kk : ∀ (H1 : Heap) (locs1 : List Loc), OM D aC o ad zq H1 → va_S A s.heap H1 locs1 → W p l e R s m args below meth c H1 locs1 cells slots Q (F0 m (pc + 3) ls (.int r :: rest))) : W p l e R s m args below meth c H locs cells slots Q (F0 m pc ls (.int x3 :: .int x2 :: .int x1 :: .ref o :: rest)) :=
  g_callG (W.runV (As := [.int x1, .int x2, .int x3]) (rest := rest) hf hM (cwV 3 hf.2.2.2.2 (lw_V hq q1939 q1940 q92 q1941) rfl rfl rfl (by decide +kernel) hR) ⟨fun a U g mk q => ⟨q.1, q.2.1, va_K.moved (u := U) (U := U.calling g mk a) (Vm.Alike.refl U.vm) q.2.2⟩, OA.recv hK hO rfl, fun U hU hW => ⟨rfl, by rw [hU]; exact hO, va_K.moved hW.alike hK⟩⟩ rfl rfl hs rfl (lv_room hr) hd hcs) hS (fun H1 locs1 hP hS _ _ => kk H1 locs1 hP hS)
theorem metX2_led (l : Launch) (D : va_G) (aC : Nat → ClassId) (o : Nat) (ad : Nat → Nat) (x1 : Int32) (z : GS) (r : Int32) (h : FX2_led x1 z = some r) : Met l yX2_led (ws_ yX2_led cX2_led 2 (some .int)) ({ frames := 1, cells := 0, slots := 0, locals := 22 }) (va_Pc [.ref o, .int x1] (PM D aC o ad z)) (QR (some (.int r))) 0 0 (fun _ => False) := by
  refine g_ofW (cc := cX2_led) (maxL := 2) (ret := (some .int)) (own := RX2) (by decide) rfl rfl [.ref o, .int x1] (PM D aC o ad z) (Nat.le_of_ble_eq_true rfl) ?_
  intro p e s m below meth c ls hx hb hr hml hts hown hlocks hnm hPre hl
  obtain ⟨hO, hK⟩ := hPre
  have hf : CallFix p m c cX2_led 2 s _ lw_all RX2 := ⟨hx, hb, hml, hown, hts⟩
  have hl : lv_has ls 2 [(0, .ref o), (1, .int x1)] := hl
  unfold FX2_led at h
  refine lv_iload_n hx hb dX2_led_0 rfl (lv_at hl 1 rfl) ?_
  refine lv_iconst (v := 0) hx hb dX2_led_1 (by decide) ?_
  refine lv_iconst (v := 4) hx hb dX2_led_2 (by decide) ?_
  refine clX2_isIn hf (metX2_isIn l x1 0 4 _ rfl) q1675 hl.1 (Nat.le_of_ble_eq_true rfl) ⟨Nat.le_of_ble_eq_true rfl, Nat.le_of_ble_eq_true rfl⟩ ⟨Nat.le_of_ble_eq_true rfl, Nat.le_of_ble_eq_true rfl⟩ dX2_led_3 ?_
  refine lv_if_eq (tgt := 18) hx hb dX2_led_6 (by decide) (fun c1 => ?_) (fun c1 => ?_)
  · have h := it_t c1 h
    refine lv_iconst (v := (-1)) hx hb dX2_led_18 (by decide) ?_
    exact g_retR hx hb hr hlocks (Option.some.inj h) dX2_led_19
  · have h := it_f c1 h
    refine lv_aload_n hx hb dX2_led_9 rfl (lv_at hl 0 rfl) ?_
    refine X2_getA hx hb hts hown hK hO 33 (by decide) rfl (hts _ q1570) dX2_led_10 ?_
    refine lv_iload_n hx hb dX2_led_13 rfl (lv_at hl 1 rfl) ?_
    obtain ⟨g2, h⟩ := grd h
    refine X2_iaload hx hb hK hO 33 (by decide) rfl rfl g2 dX2_led_14 ?_
    refine lv_goto (tgt := 19) hx hb dX2_led_15 (by decide) ?_
    exact g_retR hx hb hr hlocks (Option.some.inj h) dX2_led_19
theorem clX2_led {p : Program} {l : Launch} {e : Env} {R : Room} {s : State} {m : MethodId} {args : Array Value} {below : List Frame} {meth : Method} {c : Code} {H : Heap} {locs : List Loc} {cells slots : Nat} {Q : State → Prop} {cc : ByteArray} {pc nL idx fr lo : Nat} {ls : Array Slot} {rest : List Value} {own : String} {D : va_G} {aC : Nat → ClassId} {o : Nat} {ad : Nat → Nat} {z : GS} {x1 : Int32} {r : Int32} (hf : CallFix p m c cc nL s args lw_all own) (hK : va_K D vwCl (tysG aC) s) (hO : OM D aC o ad z H) (hM : Met l yX2_led (ws_ yX2_led cX2_led 2 (some .int)) ({ frames := fr, cells := 0, slots := 0, locals := lo }) (va_Pc [.ref o, .int x1] (PM D aC o ad z)) (QR (some (.int r))) 0 0 (fun _ => False)) (hq : Cond.methodLink own idx yX2_led ∈ lw_all) (hs : ls.size = nL) (hr : (rest.map fun v => v.category).sum ≤ 8) (hR : fr + 1 ≤ R.frames ∧ 8 + (2 + 11) + lo ≤ R.locals) (hcs : cells + 0 ≤ R.cells ∧ slots + 0 ≤ R.slots) (hd : decode cc pc = .ok (.invokevirtual idx, 3)) (kk : W p l e R s m args below meth c H locs cells slots Q (F0 m (pc + 3) ls (.int r :: rest))) : W p l e R s m args below meth c H locs cells slots Q (F0 m pc ls (.int x1 :: .ref o :: rest)) :=
  g_callR (W.runV (As := [.int x1]) (rest := rest) hf hM (cwV 1 hf.2.2.2.2 (lw_V hq q1943 q1944 q92 q1945) rfl rfl rfl (by decide +kernel) hR) ⟨fun a U g mk q => ⟨q.1, q.2.1, va_K.moved (u := U) (U := U.calling g mk a) (Vm.Alike.refl U.vm) q.2.2⟩, OA.recv hK hO rfl, fun U hU hW => ⟨rfl, by rw [hU]; exact hO, va_K.moved hW.alike hK⟩⟩ rfl rfl hs rfl (lv_room hr) hd hcs) kk
theorem metX2_image (l : Launch) (D : va_G) (aC : Nat → ClassId) (o : Nat) (ad : Nat → Nat) (A : Nat → Prop) (hD : OD A 44 kdM o ad)  (z : GS) (r : Int32) (zq : GS) (h : FX2_image z = some (r, zq)) : Met l yX2_image (ws_ yX2_image cX2_image 2 (some .int)) ({ frames := 0, cells := 0, slots := 0, locals := 0 }) (va_Pc [.ref o] (PM D aC o ad z)) (QG (some (.int r)) (OM D aC o ad zq) A) 0 0 A := by
  refine g_ofW (cc := cX2_image) (maxL := 2) (ret := (some .int)) (own := RX2) (by decide) rfl rfl [.ref o] (PM D aC o ad z) (Nat.le_of_ble_eq_true rfl) ?_
  intro p e s m below meth c ls hx hb hr hml hts hown hlocks hnm hPre hl
  obtain ⟨hO, hK⟩ := hPre
  have hf : CallFix p m c cX2_image 2 s _ lw_all RX2 := ⟨hx, hb, hml, hown, hts⟩
  have hl : lv_has ls 2 [(0, .ref o)] := hl
  refine g_open (A := A) (OM D aC o ad z) hO (fun H locs hO hS => ?_)
  unfold FX2_image at h
  refine lv_iconst (v := 0) hx hb dX2_image_0 (by decide) ?_
  refine lv_istore_n (lv' := [(1, .int 0), (0, .ref o)]) hx hb dX2_image_1 rfl hl (by decide) rfl (fun ls hl => ?_)
  obtain ⟨k1, e21, h⟩ := pin_nm h
  have hk1 : ∀  (z2 : GS) (H : Heap) (locs : List Loc) (ls : Array Slot), k1  z2 = some (r, zq) → OM D aC o ad z2 H → va_S A s.heap H locs → lv_has ls 2 [(0, .ref o)] → W p l e ({ frames := 0, cells := 0, slots := 0, locals := 0 }) s m ([.ref o] : List Value).toArray below meth c H locs 0 0 (MQ below (QG (some (.int r)) (OM D aC o ad zq) A) ([.ref o] : List Value).toArray s 0 0 A) (F0 m 26 ls []) := by
    intro  z2 H locs ls h hO hS hl
    rw [e21] at h
    refine lv_iconst (v := 0) hx hb dX2_image_26 (by decide) ?_
    refine lv_istore_n (lv' := [(1, .int 0), (0, .ref o)]) hx hb dX2_image_27 rfl hl (by decide) rfl (fun ls hl => ?_)
    obtain ⟨k3, e14, h⟩ := pin_nm h
    have hk3 : ∀  (z4 : GS) (H : Heap) (locs : List Loc) (ls : Array Slot), k3  z4 = some (r, zq) → OM D aC o ad z4 H → va_S A s.heap H locs → lv_has ls 2 [(0, .ref o)] → W p l e ({ frames := 0, cells := 0, slots := 0, locals := 0 }) s m ([.ref o] : List Value).toArray below meth c H locs 0 0 (MQ below (QG (some (.int r)) (OM D aC o ad zq) A) ([.ref o] : List Value).toArray s 0 0 A) (F0 m 51 ls []) := by
      intro  z4 H locs ls h hO hS hl
      rw [e14] at h
      refine lv_aload_n hx hb dX2_image_51 rfl (lv_at hl 0 rfl) ?_
      refine lv_aload_n hx hb dX2_image_52 rfl (lv_at hl 0 rfl) ?_
      refine X2_getF hx hb hts hown hK hO 2 (by decide) rfl (hts _ q1539) dX2_image_53 ?_
      refine X2_putF hx hb hts hown hK hO hD hS 36 (by decide) rfl (hts _ q1573) rfl (ty := .int) rfl rfl rfl dX2_image_56 (fun H locs z5 ez5 hO hS => ?_)
      have h := pin_to ez5 h
      refine lv_aload_n hx hb dX2_image_59 rfl (lv_at hl 0 rfl) ?_
      refine lv_iconst (v := 1) hx hb dX2_image_60 (by decide) ?_
      refine X2_putF hx hb hts hown hK hO hD hS 37 (by decide) rfl (hts _ q1574) rfl (ty := .boolean) rfl rfl rfl dX2_image_61 (fun H locs z6 ez6 hO hS => ?_)
      have h := pin_to ez6 h
      refine lv_aload_n hx hb dX2_image_64 rfl (lv_at hl 0 rfl) ?_
      refine X2_getA hx hb hts hown hK hO 33 (by decide) rfl (hts _ q1570) dX2_image_65 ?_
      refine lv_iconst (v := 0) hx hb dX2_image_68 (by decide) ?_
      obtain ⟨g7, h⟩ := grd h
      refine X2_iaload hx hb hK hO 33 (by decide) rfl rfl g7 dX2_image_69 ?_
      obtain ⟨e8, rfl⟩ := Prod.mk.inj (Option.some.inj h)
      exact g_retG hx hb hr hlocks e8 hO hS dX2_image_70
    have key13 : ∀ (f : Nat) (v1 : Int32) (z : GS) (H : Heap) (locs : List Loc) (ls : Array Slot), FX2_image_L28 k3 f v1 z = some (r, zq) → OM D aC o ad z H → va_S A s.heap H locs → lv_has ls 2 [(0, .ref o), (1, .int v1)] → W p l e ({ frames := 0, cells := 0, slots := 0, locals := 0 }) s m ([.ref o] : List Value).toArray below meth c H locs 0 0 (MQ below (QG (some (.int r)) (OM D aC o ad zq) A) ([.ref o] : List Value).toArray s 0 0 A) (F0 m 28 ls []) := by
      intro f
      induction f with
      | zero =>
        intro v1 z H locs ls h
        rw [FX2_image_L28] at h
        cases h
      | succ f ih8 =>
        intro v1 z H locs ls h hO hS hl
        rw [FX2_image_L28] at h
        refine lv_iload_n hx hb dX2_image_28 rfl (lv_at hl 1 rfl) ?_
        refine lv_iconst (v := 5) hx hb dX2_image_29 (by decide) ?_
        refine lv_icmp_ge (tgt := 51) hx hb dX2_image_30 (by decide) (fun c9 => ?_) (fun c9 => ?_)
        · have h := it_t c9 h
          exact hk3 _ _ _ _ h hO hS (lv_sub hl [0] rfl)
        · have h := it_f c9 h
          refine lv_aload_n hx hb dX2_image_33 rfl (lv_at hl 0 rfl) ?_
          refine X2_getA hx hb hts hown hK hO 35 (by decide) rfl (hts _ q1572) dX2_image_34 ?_
          refine lv_iload_n hx hb dX2_image_37 rfl (lv_at hl 1 rfl) ?_
          refine lv_aload_n hx hb dX2_image_38 rfl (lv_at hl 0 rfl) ?_
          refine X2_getA hx hb hts hown hK hO 33 (by decide) rfl (hts _ q1570) dX2_image_39 ?_
          refine lv_iload_n hx hb dX2_image_42 rfl (lv_at hl 1 rfl) ?_
          obtain ⟨g10, h⟩ := grd h
          refine X2_iaload hx hb hK hO 33 (by decide) rfl rfl g10 dX2_image_43 ?_
          obtain ⟨g11, h⟩ := grd h
          refine X2_iastore hx hb hK hO hD hS 35 (by decide) rfl rfl g11 dX2_image_44 (fun H locs z12 ez12 hO hS => ?_)
          have h := pin_to ez12 h
          refine lv_iinc (v := (v1 + 1)) (lv' := [(1, .int (v1 + 1)), (0, .ref o)]) hx hb dX2_image_45 hl (k := 1) rfl rfl (by decide) rfl (fun ls hl => ?_)
          refine lv_goto (tgt := 28) hx hb dX2_image_48 (by decide) ?_
          exact ih8 _ _ _ _ _ h hO hS (lv_sub hl [1, 0] rfl)
    exact key13 FU _ _ _ _ _ h hO hS (lv_sub hl [1, 0] rfl)
  have key20 : ∀ (f : Nat) (v1 : Int32) (z : GS) (H : Heap) (locs : List Loc) (ls : Array Slot), FX2_image_L2 k1 f v1 z = some (r, zq) → OM D aC o ad z H → va_S A s.heap H locs → lv_has ls 2 [(0, .ref o), (1, .int v1)] → W p l e ({ frames := 0, cells := 0, slots := 0, locals := 0 }) s m ([.ref o] : List Value).toArray below meth c H locs 0 0 (MQ below (QG (some (.int r)) (OM D aC o ad zq) A) ([.ref o] : List Value).toArray s 0 0 A) (F0 m 2 ls []) := by
    intro f
    induction f with
    | zero =>
      intro v1 z H locs ls h
      rw [FX2_image_L2] at h
      cases h
    | succ f ih15 =>
      intro v1 z H locs ls h hO hS hl
      rw [FX2_image_L2] at h
      refine lv_iload_n hx hb dX2_image_2 rfl (lv_at hl 1 rfl) ?_
      refine lv_bipush (v := 42) hx hb dX2_image_3 (by decide) ?_
      refine lv_icmp_ge (tgt := 26) hx hb dX2_image_5 (by decide) (fun c16 => ?_) (fun c16 => ?_)
      · have h := it_t c16 h
        exact hk1 _ _ _ _ h hO hS (lv_sub hl [0] rfl)
      · have h := it_f c16 h
        refine lv_aload_n hx hb dX2_image_8 rfl (lv_at hl 0 rfl) ?_
        refine X2_getA hx hb hts hown hK hO 34 (by decide) rfl (hts _ q1571) dX2_image_9 ?_
        refine lv_iload_n hx hb dX2_image_12 rfl (lv_at hl 1 rfl) ?_
        refine lv_aload_n hx hb dX2_image_13 rfl (lv_at hl 0 rfl) ?_
        refine X2_getA hx hb hts hown hK hO 0 (by decide) rfl (hts _ q1537) dX2_image_14 ?_
        refine lv_iload_n hx hb dX2_image_17 rfl (lv_at hl 1 rfl) ?_
        obtain ⟨g17, h⟩ := grd h
        refine X2_iaload hx hb hK hO 0 (by decide) rfl rfl g17 dX2_image_18 ?_
        obtain ⟨g18, h⟩ := grd h
        refine X2_iastore hx hb hK hO hD hS 34 (by decide) rfl rfl g18 dX2_image_19 (fun H locs z19 ez19 hO hS => ?_)
        have h := pin_to ez19 h
        refine lv_iinc (v := (v1 + 1)) (lv' := [(1, .int (v1 + 1)), (0, .ref o)]) hx hb dX2_image_20 hl (k := 1) rfl rfl (by decide) rfl (fun ls hl => ?_)
        refine lv_goto (tgt := 2) hx hb dX2_image_23 (by decide) ?_
        exact ih15 _ _ _ _ _ h hO hS (lv_sub hl [1, 0] rfl)
  exact key20 FU _ _ _ _ _ h hO hS (lv_sub hl [1, 0] rfl)
theorem clX2_image {p : Program} {l : Launch} {e : Env} {R : Room} {s : State} {m : MethodId} {args : Array Value} {below : List Frame} {meth : Method} {c : Code} {H : Heap} {locs : List Loc} {cells slots : Nat} {Q : State → Prop} {cc : ByteArray} {pc nL idx fr lo : Nat} {ls : Array Slot} {rest : List Value} {own : String} {D : va_G} {aC : Nat → ClassId} {o : Nat} {ad : Nat → Nat} {z : GS} {zq : GS} {A : Nat → Prop}  {r : Int32} (hf : CallFix p m c cc nL s args lw_all own) (hK : va_K D vwCl (tysG aC) s) (hO : OM D aC o ad z H) (hS : va_S A s.heap H locs) (hM : Met l yX2_image (ws_ yX2_image cX2_image 2 (some .int)) ({ frames := fr, cells := 0, slots := 0, locals := lo }) (va_Pc [.ref o] (PM D aC o ad z)) (QG (some (.int r)) (OM D aC o ad zq) A) 0 0 A) (hq : Cond.methodLink own idx yX2_image ∈ lw_all) (hs : ls.size = nL) (hr : (rest.map fun v => v.category).sum ≤ 8) (hR : fr + 1 ≤ R.frames ∧ 8 + (2 + 11) + lo ≤ R.locals) (hcs : cells + 0 ≤ R.cells ∧ slots + 0 ≤ R.slots) (hd : decode cc pc = .ok (.invokevirtual idx, 3)) (kk : ∀ (H1 : Heap) (locs1 : List Loc), OM D aC o ad zq H1 → va_S A s.heap H1 locs1 → W p l e R s m args below meth c H1 locs1 cells slots Q (F0 m (pc + 3) ls (.int r :: rest))) : W p l e R s m args below meth c H locs cells slots Q (F0 m pc ls (.ref o :: rest)) :=
  g_callG (W.runV (As := []) (rest := rest) hf hM (cwV 0 hf.2.2.2.2 (lw_V hq q1947 q1948 q92 q1949) rfl rfl rfl (by decide +kernel) hR) ⟨fun a U g mk q => ⟨q.1, q.2.1, va_K.moved (u := U) (U := U.calling g mk a) (Vm.Alike.refl U.vm) q.2.2⟩, OA.recv hK hO rfl, fun U hU hW => ⟨rfl, by rw [hU]; exact hO, va_K.moved hW.alike hK⟩⟩ rfl rfl hs rfl (lv_room hr) hd hcs) hS (fun H1 locs1 hP hS _ _ => kk H1 locs1 hP hS)
theorem metX2_back (l : Launch) (D : va_G) (aC : Nat → ClassId) (o : Nat) (ad : Nat → Nat) (A : Nat → Prop) (hD : OD A 44 kdM o ad)  (z : GS) (r : Int32) (zq : GS) (h : FX2_back z = some (r, zq)) : Met l yX2_back (ws_ yX2_back cX2_back 2 (some .int)) ({ frames := 1, cells := 0, slots := 0, locals := 23 }) (va_Pc [.ref o] (PM D aC o ad z)) (QG (some (.int r)) (OM D aC o ad zq) A) 0 0 A := by
  refine g_ofW (cc := cX2_back) (maxL := 2) (ret := (some .int)) (own := RX2) (by decide) rfl rfl [.ref o] (PM D aC o ad z) (Nat.le_of_ble_eq_true rfl) ?_
  intro p e s m below meth c ls hx hb hr hml hts hown hlocks hnm hPre hl
  obtain ⟨hO, hK⟩ := hPre
  have hf : CallFix p m c cX2_back 2 s _ lw_all RX2 := ⟨hx, hb, hml, hown, hts⟩
  have hl : lv_has ls 2 [(0, .ref o)] := hl
  refine g_open (A := A) (OM D aC o ad z) hO (fun H locs hO hS => ?_)
  unfold FX2_back at h
  refine lv_aload_n hx hb dX2_back_0 rfl (lv_at hl 0 rfl) ?_
  refine X2_getF hx hb hts hown hK hO 37 (by decide) rfl (hts _ q1574) dX2_back_1 ?_
  refine lv_if_ne (tgt := 10) hx hb dX2_back_4 (by decide) (fun c1 => ?_) (fun c1 => ?_)
  · have h := it_f c1 h
    refine lv_iconst (v := 0) hx hb dX2_back_10 (by decide) ?_
    refine lv_istore_n (lv' := [(1, .int 0), (0, .ref o)]) hx hb dX2_back_11 rfl hl (by decide) rfl (fun ls hl => ?_)
    obtain ⟨k2, e26, h⟩ := pin_nm h
    have hk2 : ∀  (z3 : GS) (H : Heap) (locs : List Loc) (ls : Array Slot), k2  z3 = some (r, zq) → OM D aC o ad z3 H → va_S A s.heap H locs → lv_has ls 2 [(0, .ref o)] → W p l e ({ frames := 1, cells := 0, slots := 0, locals := 23 }) s m ([.ref o] : List Value).toArray below meth c H locs 0 0 (MQ below (QG (some (.int r)) (OM D aC o ad zq) A) ([.ref o] : List Value).toArray s 0 0 A) (F0 m 58 ls []) := by
      intro  z3 H locs ls h hO hS hl
      rw [e26] at h
      refine lv_aload_n hx hb dX2_back_58 rfl (lv_at hl 0 rfl) ?_
      refine X2_getA hx hb hts hown hK hO 0 (by decide) rfl (hts _ q1537) dX2_back_59 ?_
      refine lv_bipush (v := 41) hx hb dX2_back_62 (by decide) ?_
      refine lv_aload_n hx hb dX2_back_64 rfl (lv_at hl 0 rfl) ?_
      refine X2_getA hx hb hts hown hK hO 34 (by decide) rfl (hts _ q1571) dX2_back_65 ?_
      refine lv_bipush (v := 41) hx hb dX2_back_68 (by decide) ?_
      obtain ⟨g4, h⟩ := grd h
      refine X2_iaload hx hb hK hO 34 (by decide) rfl rfl g4 dX2_back_70 ?_
      obtain ⟨g5, h⟩ := grd h
      refine X2_iastore hx hb hK hO hD hS 0 (by decide) rfl rfl g5 dX2_back_71 (fun H locs z6 ez6 hO hS => ?_)
      have h := pin_to ez6 h
      refine lv_iconst (v := 0) hx hb dX2_back_72 (by decide) ?_
      refine lv_istore_n (lv' := [(1, .int 0), (0, .ref o)]) hx hb dX2_back_73 rfl hl (by decide) rfl (fun ls hl => ?_)
      obtain ⟨k7, e16, h⟩ := pin_nm h
      have hk7 : ∀  (z8 : GS) (H : Heap) (locs : List Loc) (ls : Array Slot), k7  z8 = some (r, zq) → OM D aC o ad z8 H → va_S A s.heap H locs → lv_has ls 2 [(0, .ref o)] → W p l e ({ frames := 1, cells := 0, slots := 0, locals := 23 }) s m ([.ref o] : List Value).toArray below meth c H locs 0 0 (MQ below (QG (some (.int r)) (OM D aC o ad zq) A) ([.ref o] : List Value).toArray s 0 0 A) (F0 m 97 ls []) := by
        intro  z8 H locs ls h hO hS hl
        rw [e16] at h
        refine lv_aload_n hx hb dX2_back_97 rfl (lv_at hl 0 rfl) ?_
        refine X2_getA hx hb hts hown hK hO 33 (by decide) rfl (hts _ q1570) dX2_back_98 ?_
        refine lv_iconst (v := 0) hx hb dX2_back_101 (by decide) ?_
        obtain ⟨g9, h⟩ := grd h
        refine X2_iaload hx hb hK hO 33 (by decide) rfl rfl g9 dX2_back_102 ?_
        obtain ⟨e8, rfl⟩ := Prod.mk.inj (Option.some.inj h)
        exact g_retG hx hb hr hlocks e8 hO hS dX2_back_103
      have key15 : ∀ (f : Nat) (v1 : Int32) (z : GS) (H : Heap) (locs : List Loc) (ls : Array Slot), FX2_back_L74 k7 f v1 z = some (r, zq) → OM D aC o ad z H → va_S A s.heap H locs → lv_has ls 2 [(0, .ref o), (1, .int v1)] → W p l e ({ frames := 1, cells := 0, slots := 0, locals := 23 }) s m ([.ref o] : List Value).toArray below meth c H locs 0 0 (MQ below (QG (some (.int r)) (OM D aC o ad zq) A) ([.ref o] : List Value).toArray s 0 0 A) (F0 m 74 ls []) := by
        intro f
        induction f with
        | zero =>
          intro v1 z H locs ls h
          rw [FX2_back_L74] at h
          cases h
        | succ f ih10 =>
          intro v1 z H locs ls h hO hS hl
          rw [FX2_back_L74] at h
          refine lv_iload_n hx hb dX2_back_74 rfl (lv_at hl 1 rfl) ?_
          refine lv_iconst (v := 5) hx hb dX2_back_75 (by decide) ?_
          refine lv_icmp_ge (tgt := 97) hx hb dX2_back_76 (by decide) (fun c11 => ?_) (fun c11 => ?_)
          · have h := it_t c11 h
            exact hk7 _ _ _ _ h hO hS (lv_sub hl [0] rfl)
          · have h := it_f c11 h
            refine lv_aload_n hx hb dX2_back_79 rfl (lv_at hl 0 rfl) ?_
            refine X2_getA hx hb hts hown hK hO 33 (by decide) rfl (hts _ q1570) dX2_back_80 ?_
            refine lv_iload_n hx hb dX2_back_83 rfl (lv_at hl 1 rfl) ?_
            refine lv_aload_n hx hb dX2_back_84 rfl (lv_at hl 0 rfl) ?_
            refine X2_getA hx hb hts hown hK hO 35 (by decide) rfl (hts _ q1572) dX2_back_85 ?_
            refine lv_iload_n hx hb dX2_back_88 rfl (lv_at hl 1 rfl) ?_
            obtain ⟨g12, h⟩ := grd h
            refine X2_iaload hx hb hK hO 35 (by decide) rfl rfl g12 dX2_back_89 ?_
            obtain ⟨g13, h⟩ := grd h
            refine X2_iastore hx hb hK hO hD hS 33 (by decide) rfl rfl g13 dX2_back_90 (fun H locs z14 ez14 hO hS => ?_)
            have h := pin_to ez14 h
            refine lv_iinc (v := (v1 + 1)) (lv' := [(1, .int (v1 + 1)), (0, .ref o)]) hx hb dX2_back_91 hl (k := 1) rfl rfl (by decide) rfl (fun ls hl => ?_)
            refine lv_goto (tgt := 74) hx hb dX2_back_94 (by decide) ?_
            exact ih10 _ _ _ _ _ h hO hS (lv_sub hl [1, 0] rfl)
      exact key15 FU _ _ _ _ _ h hO hS (lv_sub hl [1, 0] rfl)
    have key25 : ∀ (f : Nat) (v1 : Int32) (z : GS) (H : Heap) (locs : List Loc) (ls : Array Slot), FX2_back_L12 k2 f v1 z = some (r, zq) → OM D aC o ad z H → va_S A s.heap H locs → lv_has ls 2 [(0, .ref o), (1, .int v1)] → W p l e ({ frames := 1, cells := 0, slots := 0, locals := 23 }) s m ([.ref o] : List Value).toArray below meth c H locs 0 0 (MQ below (QG (some (.int r)) (OM D aC o ad zq) A) ([.ref o] : List Value).toArray s 0 0 A) (F0 m 12 ls []) := by
      intro f
      induction f with
      | zero =>
        intro v1 z H locs ls h
        rw [FX2_back_L12] at h
        cases h
      | succ f ih17 =>
        intro v1 z H locs ls h hO hS hl
        rw [FX2_back_L12] at h
        refine lv_iload_n hx hb dX2_back_12 rfl (lv_at hl 1 rfl) ?_
        refine lv_aload_n hx hb dX2_back_13 rfl (lv_at hl 0 rfl) ?_
        refine X2_getF hx hb hts hown hK hO 36 (by decide) rfl (hts _ q1573) dX2_back_14 ?_
        refine lv_icmp_ge (tgt := 58) hx hb dX2_back_17 (by decide) (fun c18 => ?_) (fun c18 => ?_)
        · have h := it_t c18 h
          exact hk2 _ _ _ _ h hO hS (lv_sub hl [0] rfl)
        · have h := it_f c18 h
          refine lv_aload_n hx hb dX2_back_20 rfl (lv_at hl 0 rfl) ?_
          refine lv_iload_n hx hb dX2_back_21 rfl (lv_at hl 1 rfl) ?_
          refine lv_iconst (v := 3) hx hb dX2_back_22 (by decide) ?_
          refine lv_aload_n hx hb dX2_back_23 rfl (lv_at hl 0 rfl) ?_
          refine X2_getA hx hb hts hown hK hO 34 (by decide) rfl (hts _ q1571) dX2_back_24 ?_
          refine lv_iconst (v := 5) hx hb dX2_back_27 (by decide) ?_
          refine lv_iload_n hx hb dX2_back_28 rfl (lv_at hl 1 rfl) ?_
          refine lv_imul hx hb dX2_back_29 ?_
          refine lv_iconst (v := 3) hx hb dX2_back_30 (by decide) ?_
          refine lv_iadd hx hb dX2_back_31 ?_
          obtain ⟨g19, h⟩ := grd h
          refine X2_iaload hx hb hK hO 34 (by decide) rfl rfl g19 dX2_back_32 ?_
          obtain ⟨z20, e21, h⟩ := bn1_e h
          refine clX2_change hf hK hO hS (metX2_change l D aC o ad A hD v1 3 (gI z 34 ((5 * v1) + 3)) z z20 e21) q1682 hl.1 (Nat.le_of_ble_eq_true rfl) ⟨Nat.le_of_ble_eq_true rfl, Nat.le_of_ble_eq_true rfl⟩ ⟨Nat.le_of_ble_eq_true rfl, Nat.le_of_ble_eq_true rfl⟩ dX2_back_33 (fun H locs hO hS => ?_)
          refine lv_aload_n hx hb dX2_back_36 rfl (lv_at hl 0 rfl) ?_
          refine lv_iload_n hx hb dX2_back_37 rfl (lv_at hl 1 rfl) ?_
          refine lv_iconst (v := 4) hx hb dX2_back_38 (by decide) ?_
          refine lv_aload_n hx hb dX2_back_39 rfl (lv_at hl 0 rfl) ?_
          refine X2_getA hx hb hts hown hK hO 34 (by decide) rfl (hts _ q1571) dX2_back_40 ?_
          refine lv_iconst (v := 5) hx hb dX2_back_43 (by decide) ?_
          refine lv_iload_n hx hb dX2_back_44 rfl (lv_at hl 1 rfl) ?_
          refine lv_imul hx hb dX2_back_45 ?_
          refine lv_iconst (v := 4) hx hb dX2_back_46 (by decide) ?_
          refine lv_iadd hx hb dX2_back_47 ?_
          obtain ⟨g22, h⟩ := grd h
          refine X2_iaload hx hb hK hO 34 (by decide) rfl rfl g22 dX2_back_48 ?_
          obtain ⟨z23, e24, h⟩ := bn1_e h
          refine clX2_change hf hK hO hS (metX2_change l D aC o ad A hD v1 4 (gI z20 34 ((5 * v1) + 4)) z20 z23 e24) q1682 hl.1 (Nat.le_of_ble_eq_true rfl) ⟨Nat.le_of_ble_eq_true rfl, Nat.le_of_ble_eq_true rfl⟩ ⟨Nat.le_of_ble_eq_true rfl, Nat.le_of_ble_eq_true rfl⟩ dX2_back_49 (fun H locs hO hS => ?_)
          refine lv_iinc (v := (v1 + 1)) (lv' := [(1, .int (v1 + 1)), (0, .ref o)]) hx hb dX2_back_52 hl (k := 1) rfl rfl (by decide) rfl (fun ls hl => ?_)
          refine lv_goto (tgt := 12) hx hb dX2_back_55 (by decide) ?_
          exact ih17 _ _ _ _ _ h hO hS (lv_sub hl [1, 0] rfl)
    exact key25 FU _ _ _ _ _ h hO hS (lv_sub hl [1, 0] rfl)
  · have h := it_t c1 h
    refine lv_bipush (v := (-5)) hx hb dX2_back_7 (by decide) ?_
    obtain ⟨e8, rfl⟩ := Prod.mk.inj (Option.some.inj h)
    exact g_retG hx hb hr hlocks e8 hO hS dX2_back_9
theorem clX2_back {p : Program} {l : Launch} {e : Env} {R : Room} {s : State} {m : MethodId} {args : Array Value} {below : List Frame} {meth : Method} {c : Code} {H : Heap} {locs : List Loc} {cells slots : Nat} {Q : State → Prop} {cc : ByteArray} {pc nL idx fr lo : Nat} {ls : Array Slot} {rest : List Value} {own : String} {D : va_G} {aC : Nat → ClassId} {o : Nat} {ad : Nat → Nat} {z : GS} {zq : GS} {A : Nat → Prop}  {r : Int32} (hf : CallFix p m c cc nL s args lw_all own) (hK : va_K D vwCl (tysG aC) s) (hO : OM D aC o ad z H) (hS : va_S A s.heap H locs) (hM : Met l yX2_back (ws_ yX2_back cX2_back 2 (some .int)) ({ frames := fr, cells := 0, slots := 0, locals := lo }) (va_Pc [.ref o] (PM D aC o ad z)) (QG (some (.int r)) (OM D aC o ad zq) A) 0 0 A) (hq : Cond.methodLink own idx yX2_back ∈ lw_all) (hs : ls.size = nL) (hr : (rest.map fun v => v.category).sum ≤ 8) (hR : fr + 1 ≤ R.frames ∧ 8 + (2 + 11) + lo ≤ R.locals) (hcs : cells + 0 ≤ R.cells ∧ slots + 0 ≤ R.slots) (hd : decode cc pc = .ok (.invokevirtual idx, 3)) (kk : ∀ (H1 : Heap) (locs1 : List Loc), OM D aC o ad zq H1 → va_S A s.heap H1 locs1 → W p l e R s m args below meth c H1 locs1 cells slots Q (F0 m (pc + 3) ls (.int r :: rest))) : W p l e R s m args below meth c H locs cells slots Q (F0 m pc ls (.ref o :: rest)) :=
  g_callG (W.runV (As := []) (rest := rest) hf hM (cwV 0 hf.2.2.2.2 (lw_V hq q1951 q1952 q92 q1953) rfl rfl rfl (by decide +kernel) hR) ⟨fun a U g mk q => ⟨q.1, q.2.1, va_K.moved (u := U) (U := U.calling g mk a) (Vm.Alike.refl U.vm) q.2.2⟩, OA.recv hK hO rfl, fun U hU hW => ⟨rfl, by rw [hU]; exact hO, va_K.moved hW.alike hK⟩⟩ rfl rfl hs rfl (lv_room hr) hd hcs) hS (fun H1 locs1 hP hS _ _ => kk H1 locs1 hP hS)
theorem metX2_body (l : Launch) (D : va_G) (aC : Nat → ClassId) (o : Nat) (ad : Nat → Nat) (A : Nat → Prop) (hD : OD A 44 kdM o ad) (x1 : Int32) (z : GS) (r : Int32) (zq : GS) (h : FX2_body x1 z = some (r, zq)) : Met l yX2_body (ws_ yX2_body cX2_body 2 (some .int)) ({ frames := 1, cells := 0, slots := 0, locals := 22 }) (va_Pc [.ref o, .int x1] (PM D aC o ad z)) (QG (some (.int r)) (OM D aC o ad zq) A) 0 0 A := by
  refine g_ofW (cc := cX2_body) (maxL := 2) (ret := (some .int)) (own := RX2) (by decide) rfl rfl [.ref o, .int x1] (PM D aC o ad z) (Nat.le_of_ble_eq_true rfl) ?_
  intro p e s m below meth c ls hx hb hr hml hts hown hlocks hnm hPre hl
  obtain ⟨hO, hK⟩ := hPre
  have hf : CallFix p m c cX2_body 2 s _ lw_all RX2 := ⟨hx, hb, hml, hown, hts⟩
  have hl : lv_has ls 2 [(0, .ref o), (1, .int x1)] := hl
  refine g_open (A := A) (OM D aC o ad z) hO (fun H locs hO hS => ?_)
  unfold FX2_body at h
  refine lv_iload_n hx hb dX2_body_0 rfl (lv_at hl 1 rfl) ?_
  refine lv_iconst (v := 0) hx hb dX2_body_1 (by decide) ?_
  refine lv_bipush (v := 7) hx hb dX2_body_2 (by decide) ?_
  refine clX2_isIn hf (metX2_isIn l x1 0 7 _ rfl) q1675 hl.1 (Nat.le_of_ble_eq_true rfl) ⟨Nat.le_of_ble_eq_true rfl, Nat.le_of_ble_eq_true rfl⟩ ⟨Nat.le_of_ble_eq_true rfl, Nat.le_of_ble_eq_true rfl⟩ dX2_body_4 ?_
  refine lv_if_ne (tgt := 12) hx hb dX2_body_7 (by decide) (fun c1 => ?_) (fun c1 => ?_)
  · have h := it_f c1 h
    refine lv_aload_n hx hb dX2_body_12 rfl (lv_at hl 0 rfl) ?_
    refine X2_getF hx hb hts hown hK hO 41 (by decide) rfl (hts _ q1578) dX2_body_13 ?_
    refine lv_bipush (v := 50) hx hb dX2_body_16 (by decide) ?_
    refine lv_icmp_ne (tgt := 24) hx hb dX2_body_18 (by decide) (fun c2 => ?_) (fun c2 => ?_)
    · have h := it_f c2 h
      refine lv_aload_n hx hb dX2_body_24 rfl (lv_at hl 0 rfl) ?_
      refine X2_getA hx hb hts hown hK hO 40 (by decide) rfl (hts _ q1577) dX2_body_25 ?_
      refine lv_aload_n hx hb dX2_body_28 rfl (lv_at hl 0 rfl) ?_
      refine X2_getF hx hb hts hown hK hO 41 (by decide) rfl (hts _ q1578) dX2_body_29 ?_
      refine lv_iload_n hx hb dX2_body_32 rfl (lv_at hl 1 rfl) ?_
      obtain ⟨g3, h⟩ := grd h
      refine X2_iastore hx hb hK hO hD hS 40 (by decide) rfl rfl g3 dX2_body_33 (fun H locs z4 ez4 hO hS => ?_)
      have h := pin_to ez4 h
      refine lv_aload_n hx hb dX2_body_34 rfl (lv_at hl 0 rfl) ?_
      refine lv_dup hx hb dX2_body_35 rfl ?_
      refine X2_getF hx hb hts hown hK hO 41 (by decide) rfl (hts _ q1578) dX2_body_36 ?_
      refine lv_iconst (v := 1) hx hb dX2_body_39 (by decide) ?_
      refine lv_iadd hx hb dX2_body_40 ?_
      refine X2_putF hx hb hts hown hK hO hD hS 41 (by decide) rfl (hts _ q1578) rfl (ty := .int) rfl rfl rfl dX2_body_41 (fun H locs z5 ez5 hO hS => ?_)
      have h := pin_to ez5 h
      refine lv_aload_n hx hb dX2_body_44 rfl (lv_at hl 0 rfl) ?_
      refine X2_getF hx hb hts hown hK hO 41 (by decide) rfl (hts _ q1578) dX2_body_45 ?_
      refine lv_iconst (v := 1) hx hb dX2_body_48 (by decide) ?_
      refine lv_isub hx hb dX2_body_49 ?_
      obtain ⟨e8, rfl⟩ := Prod.mk.inj (Option.some.inj h)
      exact g_retG hx hb hr hlocks e8 hO hS dX2_body_50
    · have h := it_t c2 h
      refine lv_bipush (v := (-3)) hx hb dX2_body_21 (by decide) ?_
      obtain ⟨e8, rfl⟩ := Prod.mk.inj (Option.some.inj h)
      exact g_retG hx hb hr hlocks e8 hO hS dX2_body_23
  · have h := it_t c1 h
    refine lv_iconst (v := (-1)) hx hb dX2_body_10 (by decide) ?_
    obtain ⟨e8, rfl⟩ := Prod.mk.inj (Option.some.inj h)
    exact g_retG hx hb hr hlocks e8 hO hS dX2_body_11
theorem clX2_body {p : Program} {l : Launch} {e : Env} {R : Room} {s : State} {m : MethodId} {args : Array Value} {below : List Frame} {meth : Method} {c : Code} {H : Heap} {locs : List Loc} {cells slots : Nat} {Q : State → Prop} {cc : ByteArray} {pc nL idx fr lo : Nat} {ls : Array Slot} {rest : List Value} {own : String} {D : va_G} {aC : Nat → ClassId} {o : Nat} {ad : Nat → Nat} {z : GS} {zq : GS} {A : Nat → Prop} {x1 : Int32} {r : Int32} (hf : CallFix p m c cc nL s args lw_all own) (hK : va_K D vwCl (tysG aC) s) (hO : OM D aC o ad z H) (hS : va_S A s.heap H locs) (hM : Met l yX2_body (ws_ yX2_body cX2_body 2 (some .int)) ({ frames := fr, cells := 0, slots := 0, locals := lo }) (va_Pc [.ref o, .int x1] (PM D aC o ad z)) (QG (some (.int r)) (OM D aC o ad zq) A) 0 0 A) (hq : Cond.methodLink own idx yX2_body ∈ lw_all) (hs : ls.size = nL) (hr : (rest.map fun v => v.category).sum ≤ 8) (hR : fr + 1 ≤ R.frames ∧ 8 + (2 + 11) + lo ≤ R.locals) (hcs : cells + 0 ≤ R.cells ∧ slots + 0 ≤ R.slots) (hd : decode cc pc = .ok (.invokevirtual idx, 3)) (kk : ∀ (H1 : Heap) (locs1 : List Loc), OM D aC o ad zq H1 → va_S A s.heap H1 locs1 → W p l e R s m args below meth c H1 locs1 cells slots Q (F0 m (pc + 3) ls (.int r :: rest))) : W p l e R s m args below meth c H locs cells slots Q (F0 m pc ls (.int x1 :: .ref o :: rest)) :=
  g_callG (W.runV (As := [.int x1]) (rest := rest) hf hM (cwV 1 hf.2.2.2.2 (lw_V hq q1955 q1956 q92 q1957) rfl rfl rfl (by decide +kernel) hR) ⟨fun a U g mk q => ⟨q.1, q.2.1, va_K.moved (u := U) (U := U.calling g mk a) (Vm.Alike.refl U.vm) q.2.2⟩, OA.recv hK hO rfl, fun U hU hW => ⟨rfl, by rw [hU]; exact hO, va_K.moved hW.alike hK⟩⟩ rfl rfl hs rfl (lv_room hr) hd hcs) hS (fun H1 locs1 hP hS _ _ => kk H1 locs1 hP hS)
theorem clX2_byKind {p : Program} {l : Launch} {e : Env} {R : Room} {s : State} {m : MethodId} {args : Array Value} {below : List Frame} {meth : Method} {c : Code} {H : Heap} {locs : List Loc} {cells slots : Nat} {Q : State → Prop} {cc : ByteArray} {pc nL idx fr lo : Nat} {ls : Array Slot} {rest : List Value} {own : String} {D : va_G} {aC : Nat → ClassId} {o : Nat} {ad : Nat → Nat} {z : GS} {zq : GS} {A : Nat → Prop} {x1 : Int32} {x2 : Int32} {x3 : Int32} {x4 : Int32} {r : Int32} (hf : CallFix p m c cc nL s args lw_all own) (hK : va_K D vwCl (tysG aC) s) (hO : OM D aC o ad z H) (hS : va_S A s.heap H locs) (hM : Met l yX2_byKind (ws_ yX2_byKind cX2_byKind 8 (some .int)) ({ frames := fr, cells := 0, slots := 0, locals := lo }) (va_Pc [.ref o, .int x1, .int x2, .int x3, .int x4] (PM D aC o ad z)) (QG (some (.int r)) (OM D aC o ad zq) A) 0 0 A) (hq : Cond.methodLink own idx yX2_byKind ∈ lw_all) (hs : ls.size = nL) (hr : (rest.map fun v => v.category).sum ≤ 8) (hR : fr + 1 ≤ R.frames ∧ 8 + (8 + 11) + lo ≤ R.locals) (hcs : cells + 0 ≤ R.cells ∧ slots + 0 ≤ R.slots) (hd : decode cc pc = .ok (.invokevirtual idx, 3)) (kk : ∀ (H1 : Heap) (locs1 : List Loc), OM D aC o ad zq H1 → va_S A s.heap H1 locs1 → W p l e R s m args below meth c H1 locs1 cells slots Q (F0 m (pc + 3) ls (.int r :: rest))) : W p l e R s m args below meth c H locs cells slots Q (F0 m pc ls (.int x4 :: .int x3 :: .int x2 :: .int x1 :: .ref o :: rest)) :=
  g_callG (W.runV (As := [.int x1, .int x2, .int x3, .int x4]) (rest := rest) hf hM (cwV 4 hf.2.2.2.2 (lw_V hq q1968 qs87 q92 q1969) rfl rfl rfl (by decide +kernel) hR) ⟨fun a U g mk q => ⟨q.1, q.2.1, va_K.moved (u := U) (U := U.calling g mk a) (Vm.Alike.refl U.vm) q.2.2⟩, OA.recv hK hO rfl, fun U hU hW => ⟨rfl, by rw [hU]; exact hO, va_K.moved hW.alike hK⟩⟩ rfl rfl hs rfl (lv_room hr) hd hcs) hS (fun H1 locs1 hP hS _ _ => kk H1 locs1 hP hS)
theorem metX2_does (l : Launch) (D : va_G) (aC : Nat → ClassId) (o : Nat) (ad : Nat → Nat) (A : Nat → Prop) (hD : OD A 44 kdM o ad) (n : Nat) (rec : Int32 → Int32 → Int32 → Int32 → GS → Option (Int32 × GS)) (hrec : ∀ (x1 : Int32) (x2 : Int32) (x3 : Int32) (x4 : Int32) (z : GS) (r : Int32) (zq : GS), rec x1 x2 x3 x4 z = some (r, zq) → Met l yX2_byKind (ws_ yX2_byKind cX2_byKind 8 (some .int)) ({ frames := 2 * n, cells := 0, slots := 0, locals := 50 * n }) (va_Pc [.ref o, .int x1, .int x2, .int x3, .int x4] (PM D aC o ad z)) (QG (some (.int r)) (OM D aC o ad zq) A) 0 0 A) (x1 : Int32) (x2 : Int32) (x3 : Int32) (z : GS) (r : Int32) (zq : GS) (h : FX2_does rec x1 x2 x3 z = some (r, zq)) : Met l yX2_does (ws_ yX2_does cX2_does 4 (some .int)) ({ frames := 2 * n + 1, cells := 0, slots := 0, locals := 50 * n + 27 }) (va_Pc [.ref o, .int x1, .int x2, .int x3] (PM D aC o ad z)) (QG (some (.int r)) (OM D aC o ad zq) A) 0 0 A := by
  refine g_ofW (cc := cX2_does) (maxL := 4) (ret := (some .int)) (own := RX2) (by decide) rfl rfl [.ref o, .int x1, .int x2, .int x3] (PM D aC o ad z) (Nat.le_of_ble_eq_true rfl) ?_
  intro p e s m below meth c ls hx hb hr hml hts hown hlocks hnm hPre hl
  obtain ⟨hO, hK⟩ := hPre
  have hf : CallFix p m c cX2_does 4 s _ lw_all RX2 := ⟨hx, hb, hml, hown, hts⟩
  have hl : lv_has ls 4 [(0, .ref o), (1, .int x1), (2, .int x2), (3, .int x3)] := hl
  refine g_open (A := A) (OM D aC o ad z) hO (fun H locs hO hS => ?_)
  unfold FX2_does at h
  refine lv_aload_n hx hb dX2_does_0 rfl (lv_at hl 0 rfl) ?_
  refine lv_aload_n hx hb dX2_does_1 rfl (lv_at hl 0 rfl) ?_
  refine X2_getA hx hb hts hown hK hO 40 (by decide) rfl (hts _ q1577) dX2_does_2 ?_
  refine lv_iload_n hx hb dX2_does_5 rfl (lv_at hl 1 rfl) ?_
  obtain ⟨g1, h⟩ := grd h
  refine X2_iaload hx hb hK hO 40 (by decide) rfl rfl g1 dX2_does_6 ?_
  refine lv_iload_n hx hb dX2_does_7 rfl (lv_at hl 1 rfl) ?_
  refine lv_iload_n hx hb dX2_does_8 rfl (lv_at hl 2 rfl) ?_
  refine lv_iload_n hx hb dX2_does_9 rfl (lv_at hl 3 rfl) ?_
  obtain ⟨r2, z3, e4, h⟩ := bnd_e h
  refine clX2_byKind hf hK hO hS (hrec (gI z 40 x1) x1 x2 x3 z r2 z3 e4) q1966 hl.1 (Nat.le_of_ble_eq_true rfl) ⟨by dsimp only; omega, by dsimp only; omega⟩ ⟨Nat.le_of_ble_eq_true rfl, Nat.le_of_ble_eq_true rfl⟩ dX2_does_10 (fun H locs hO hS => ?_)
  obtain ⟨e8, rfl⟩ := Prod.mk.inj (Option.some.inj h)
  exact g_retG hx hb hr hlocks e8 hO hS dX2_does_13
theorem clX2_does {p : Program} {l : Launch} {e : Env} {R : Room} {s : State} {m : MethodId} {args : Array Value} {below : List Frame} {meth : Method} {c : Code} {H : Heap} {locs : List Loc} {cells slots : Nat} {Q : State → Prop} {cc : ByteArray} {pc nL idx fr lo : Nat} {ls : Array Slot} {rest : List Value} {own : String} {D : va_G} {aC : Nat → ClassId} {o : Nat} {ad : Nat → Nat} {z : GS} {zq : GS} {A : Nat → Prop} {x1 : Int32} {x2 : Int32} {x3 : Int32} {r : Int32} (hf : CallFix p m c cc nL s args lw_all own) (hK : va_K D vwCl (tysG aC) s) (hO : OM D aC o ad z H) (hS : va_S A s.heap H locs) (hM : Met l yX2_does (ws_ yX2_does cX2_does 4 (some .int)) ({ frames := fr, cells := 0, slots := 0, locals := lo }) (va_Pc [.ref o, .int x1, .int x2, .int x3] (PM D aC o ad z)) (QG (some (.int r)) (OM D aC o ad zq) A) 0 0 A) (hq : Cond.methodLink own idx yX2_does ∈ lw_all) (hs : ls.size = nL) (hr : (rest.map fun v => v.category).sum ≤ 8) (hR : fr + 1 ≤ R.frames ∧ 8 + (4 + 11) + lo ≤ R.locals) (hcs : cells + 0 ≤ R.cells ∧ slots + 0 ≤ R.slots) (hd : decode cc pc = .ok (.invokevirtual idx, 3)) (kk : ∀ (H1 : Heap) (locs1 : List Loc), OM D aC o ad zq H1 → va_S A s.heap H1 locs1 → W p l e R s m args below meth c H1 locs1 cells slots Q (F0 m (pc + 3) ls (.int r :: rest))) : W p l e R s m args below meth c H locs cells slots Q (F0 m pc ls (.int x3 :: .int x2 :: .int x1 :: .ref o :: rest)) :=
  g_callG (W.runV (As := [.int x1, .int x2, .int x3]) (rest := rest) hf hM (cwV 3 hf.2.2.2.2 (lw_V hq q1964 qs86 q92 q1965) rfl rfl rfl (by decide +kernel) hR) ⟨fun a U g mk q => ⟨q.1, q.2.1, va_K.moved (u := U) (U := U.calling g mk a) (Vm.Alike.refl U.vm) q.2.2⟩, OA.recv hK hO rfl, fun U hU hW => ⟨rfl, by rw [hU]; exact hO, va_K.moved hW.alike hK⟩⟩ rfl rfl hs rfl (lv_room hr) hd hcs) hS (fun H1 locs1 hP hS _ _ => kk H1 locs1 hP hS)
theorem metX2_byKindb (l : Launch) (D : va_G) (aC : Nat → ClassId) (o : Nat) (ad : Nat → Nat) (A : Nat → Prop) (hD : OD A 44 kdM o ad) (n : Nat) (rec : Int32 → Int32 → Int32 → Int32 → GS → Option (Int32 × GS)) (hrec : ∀ (x1 : Int32) (x2 : Int32) (x3 : Int32) (x4 : Int32) (z : GS) (r : Int32) (zq : GS), rec x1 x2 x3 x4 z = some (r, zq) → Met l yX2_byKind (ws_ yX2_byKind cX2_byKind 8 (some .int)) ({ frames := 2 * n, cells := 0, slots := 0, locals := 50 * n }) (va_Pc [.ref o, .int x1, .int x2, .int x3, .int x4] (PM D aC o ad z)) (QG (some (.int r)) (OM D aC o ad zq) A) 0 0 A) (x1 : Int32) (x2 : Int32) (x3 : Int32) (x4 : Int32) (z : GS) (r : Int32) (zq : GS) (h : FX2_byKindb rec x1 x2 x3 x4 z = some (r, zq)) : Met l yX2_byKind (ws_ yX2_byKind cX2_byKind 8 (some .int)) ({ frames := 2 * (n + 1), cells := 0, slots := 0, locals := 50 * (n + 1) }) (va_Pc [.ref o, .int x1, .int x2, .int x3, .int x4] (PM D aC o ad z)) (QG (some (.int r)) (OM D aC o ad zq) A) 0 0 A := by
  refine g_ofW (cc := cX2_byKind) (maxL := 8) (ret := (some .int)) (own := RX2) (by decide) rfl rfl [.ref o, .int x1, .int x2, .int x3, .int x4] (PM D aC o ad z) (Nat.le_of_ble_eq_true rfl) ?_
  intro p e s m below meth c ls hx hb hr hml hts hown hlocks hnm hPre hl
  obtain ⟨hO, hK⟩ := hPre
  have hf : CallFix p m c cX2_byKind 8 s _ lw_all RX2 := ⟨hx, hb, hml, hown, hts⟩
  have hl : lv_has ls 8 [(0, .ref o), (1, .int x1), (2, .int x2), (3, .int x3), (4, .int x4)] := hl
  refine g_open (A := A) (OM D aC o ad z) hO (fun H locs hO hS => ?_)
  unfold FX2_byKindb at h
  refine lv_iload_n hx hb dX2_byKind_0 rfl (lv_at hl 1 rfl) ?_
  refine lv_istore (lv' := [(5, .int x1), (0, .ref o), (1, .int x1), (2, .int x2), (3, .int x3), (4, .int x4)]) hx hb dX2_byKind_1 hl (by decide) rfl (fun ls hl => ?_)
  obtain ⟨k1, e74, h⟩ := pin_nm h
  have hk1 : ∀ (v2 : Int32) (ls : Array Slot), k1 v2 = some (r, zq) → lv_has ls 8 [(0, .ref o), (2, .int x2), (3, .int x3), (4, .int x4), (5, .int v2)] → W p l e ({ frames := 2 * (n + 1), cells := 0, slots := 0, locals := 50 * (n + 1) }) s m ([.ref o, .int x1, .int x2, .int x3, .int x4] : List Value).toArray below meth c H locs 0 0 (MQ below (QG (some (.int r)) (OM D aC o ad zq) A) ([.ref o, .int x1, .int x2, .int x3, .int x4] : List Value).toArray s 0 0 A) (F0 m 29 ls []) := by
    intro v2 ls h hl
    rw [e74] at h
    refine lv_aload_n hx hb dX2_byKind_29 rfl (lv_at hl 0 rfl) ?_
    refine X2_getA hx hb hts hown hK hO 38 (by decide) rfl (hts _ q1575) dX2_byKind_30 ?_
    refine lv_iload hx hb dX2_byKind_33 (lv_at hl 4 rfl) ?_
    obtain ⟨g3, h⟩ := grd h
    refine X2_iaload hx hb hK hO 38 (by decide) rfl rfl g3 dX2_byKind_35 ?_
    refine lv_topi (fun y4 ey4 => ?_)
    have h := pin_to ey4 h
    refine lv_istore (lv' := [(6, .int y4), (0, .ref o), (2, .int x2), (3, .int x3), (4, .int x4), (5, .int v2)]) hx hb dX2_byKind_36 hl (by decide) rfl (fun ls hl => ?_)
    refine lv_aload_n hx hb dX2_byKind_38 rfl (lv_at hl 1 rfl) ?_
    refine X2_getA hx hb hts hown hK hO 39 (by decide) rfl (hts _ q1576) dX2_byKind_39 ?_
    refine lv_iconst (v := 4) hx hb dX2_byKind_42 (by decide) ?_
    refine lv_iload hx hb dX2_byKind_43 (lv_at hl 5 rfl) ?_
    refine lv_imul hx hb dX2_byKind_45 ?_
    refine lv_iload_n hx hb dX2_byKind_46 rfl (lv_at hl 3 rfl) ?_
    refine lv_iadd hx hb dX2_byKind_47 ?_
    obtain ⟨g5, h⟩ := grd h
    refine X2_iaload hx hb hK hO 39 (by decide) rfl rfl g5 dX2_byKind_48 ?_
    refine lv_topi (fun y6 ey6 => ?_)
    have h := pin_to ey6 h
    refine lv_istore (lv' := [(7, .int y6), (6, .int y4), (0, .ref o), (2, .int x2), (3, .int x3), (4, .int x4), (5, .int v2)]) hx hb dX2_byKind_49 hl (by decide) rfl (fun ls hl => ?_)
    refine lv_aload_n hx hb dX2_byKind_51 rfl (lv_at hl 2 rfl) ?_
    refine X2_getF hx hb hts hown hK hO 43 (by decide) rfl (hts _ q1580) dX2_byKind_52 ?_
    refine lv_bipush (v := 24) hx hb dX2_byKind_55 (by decide) ?_
    obtain ⟨k7, e67, h⟩ := pin_nm h
    have hk7 : ∀  (z8 : GS) (H : Heap) (locs : List Loc) (ls : Array Slot), k7  z8 = some (r, zq) → OM D aC o ad z8 H → va_S A s.heap H locs → lv_has ls 8 [(0, .ref o), (2, .int x2), (4, .int x4), (6, .int y4), (7, .int y6)] → W p l e ({ frames := 2 * (n + 1), cells := 0, slots := 0, locals := 50 * (n + 1) }) s m ([.ref o, .int x1, .int x2, .int x3, .int x4] : List Value).toArray below meth c H locs 0 0 (MQ below (QG (some (.int r)) (OM D aC o ad zq) A) ([.ref o, .int x1, .int x2, .int x3, .int x4] : List Value).toArray s 0 0 A) (F0 m 71 ls []) := by
      intro  z8 H locs ls h hO hS hl
      rw [e67] at h
      refine lv_aload_n hx hb dX2_byKind_71 rfl (lv_at hl 0 rfl) ?_
      refine lv_dup hx hb dX2_byKind_72 rfl ?_
      refine X2_getF hx hb hts hown hK hO 43 (by decide) rfl (hts _ q1580) dX2_byKind_73 ?_
      refine lv_iconst (v := 1) hx hb dX2_byKind_76 (by decide) ?_
      refine lv_iadd hx hb dX2_byKind_77 ?_
      refine X2_putF hx hb hts hown hK hO hD hS 43 (by decide) rfl (hts _ q1580) rfl (ty := .int) rfl rfl rfl dX2_byKind_78 (fun H locs z9 ez9 hO hS => ?_)
      have h := pin_to ez9 h
      refine lv_iload hx hb dX2_byKind_81 (lv_at hl 4 rfl) ?_
      by_cases c10 : y6 = 1
      · have h := it_t c10 h
        refine lv_lookup (off := 105) (tgt := 188) hx hb dX2_byKind_83 (by decide) (by rw [c10]; rfl) (by decide) ?_
        refine lv_iload hx hb dX2_byKind_188 (lv_at hl 2 rfl) ?_
        refine lv_iload_n hx hb dX2_byKind_190 rfl (lv_at hl 1 rfl) ?_
        refine lv_iadd hx hb dX2_byKind_191 ?_
        obtain ⟨e8, rfl⟩ := Prod.mk.inj (Option.some.inj h)
        exact g_retG hx hb hr hlocks e8 hO hS dX2_byKind_192
      have h := it_f c10 h
      by_cases c11 : y6 = 2
      · have h := it_t c11 h
        refine lv_lookup (off := 110) (tgt := 193) hx hb dX2_byKind_83 (by decide) (by rw [c11]; rfl) (by decide) ?_
        refine lv_aload_n hx hb dX2_byKind_193 rfl (lv_at hl 0 rfl) ?_
        refine lv_iload_n hx hb dX2_byKind_194 rfl (lv_at hl 1 rfl) ?_
        refine lv_iconst (v := 1) hx hb dX2_byKind_195 (by decide) ?_
        refine lv_iload hx hb dX2_byKind_196 (lv_at hl 2 rfl) ?_
        obtain ⟨r12, z13, e14, h⟩ := bnd_e h
        refine clX2_does hf hK hO hS (metX2_does l D aC o ad A hD n rec hrec x2 1 x4 z9 r12 z13 e14) q1962 hl.1 (Nat.le_of_ble_eq_true rfl) ⟨by dsimp only; omega, by dsimp only; omega⟩ ⟨Nat.le_of_ble_eq_true rfl, Nat.le_of_ble_eq_true rfl⟩ dX2_byKind_198 (fun H locs hO hS => ?_)
        refine lv_aload_n hx hb dX2_byKind_201 rfl (lv_at hl 0 rfl) ?_
        refine lv_iload_n hx hb dX2_byKind_202 rfl (lv_at hl 1 rfl) ?_
        refine lv_iconst (v := 2) hx hb dX2_byKind_203 (by decide) ?_
        refine lv_iconst (v := 1) hx hb dX2_byKind_204 (by decide) ?_
        obtain ⟨r15, z16, e17, h⟩ := bnd_e h
        refine clX2_does hf hK hO hS (metX2_does l D aC o ad A hD n rec hrec x2 2 1 z13 r15 z16 e17) q1962 hl.1 (Nat.le_of_ble_eq_true rfl) ⟨by dsimp only; omega, by dsimp only; omega⟩ ⟨Nat.le_of_ble_eq_true rfl, Nat.le_of_ble_eq_true rfl⟩ dX2_byKind_205 (fun H locs hO hS => ?_)
        refine lv_isub hx hb dX2_byKind_208 ?_
        obtain ⟨e8, rfl⟩ := Prod.mk.inj (Option.some.inj h)
        exact g_retG hx hb hr hlocks e8 hO hS dX2_byKind_209
      have h := it_f c11 h
      by_cases c18 : y6 = 10
      · have h := it_t c18 h
        refine lv_lookup (off := 127) (tgt := 210) hx hb dX2_byKind_83 (by decide) (by rw [c18]; rfl) (by decide) ?_
        refine lv_aload_n hx hb dX2_byKind_210 rfl (lv_at hl 0 rfl) ?_
        refine lv_iload_n hx hb dX2_byKind_211 rfl (lv_at hl 1 rfl) ?_
        refine lv_iconst (v := 0) hx hb dX2_byKind_212 (by decide) ?_
        refine lv_iload hx hb dX2_byKind_213 (lv_at hl 2 rfl) ?_
        obtain ⟨r19, z20, e21, h⟩ := bnd_e h
        refine clX2_does hf hK hO hS (metX2_does l D aC o ad A hD n rec hrec x2 0 x4 z9 r19 z20 e21) q1962 hl.1 (Nat.le_of_ble_eq_true rfl) ⟨by dsimp only; omega, by dsimp only; omega⟩ ⟨Nat.le_of_ble_eq_true rfl, Nat.le_of_ble_eq_true rfl⟩ dX2_byKind_215 (fun H locs hO hS => ?_)
        refine lv_iconst (v := 2) hx hb dX2_byKind_218 (by decide) ?_
        refine lv_imul hx hb dX2_byKind_219 ?_
        obtain ⟨e8, rfl⟩ := Prod.mk.inj (Option.some.inj h)
        exact g_retG hx hb hr hlocks e8 hO hS dX2_byKind_220
      have h := it_f c18 h
      by_cases c22 : y6 = 11
      · have h := it_t c22 h
        refine lv_lookup (off := 138) (tgt := 221) hx hb dX2_byKind_83 (by decide) (by rw [c22]; rfl) (by decide) ?_
        refine lv_iload hx hb dX2_byKind_221 (lv_at hl 2 rfl) ?_
        refine lv_iload_n hx hb dX2_byKind_223 rfl (lv_at hl 1 rfl) ?_
        refine lv_ixor hx hb dX2_byKind_224 ?_
        obtain ⟨e8, rfl⟩ := Prod.mk.inj (Option.some.inj h)
        exact g_retG hx hb hr hlocks e8 hO hS dX2_byKind_225
      have h := it_f c22 h
      by_cases c23 : y6 = 20
      · have h := it_t c23 h
        refine lv_lookup (off := 143) (tgt := 226) hx hb dX2_byKind_83 (by decide) (by rw [c23]; rfl) (by decide) ?_
        refine lv_aload_n hx hb dX2_byKind_226 rfl (lv_at hl 0 rfl) ?_
        refine lv_iload hx hb dX2_byKind_227 (lv_at hl 3 rfl) ?_
        refine lv_iload_n hx hb dX2_byKind_229 rfl (lv_at hl 1 rfl) ?_
        refine lv_iconst (v := 0) hx hb dX2_byKind_230 (by decide) ?_
        refine lv_iload hx hb dX2_byKind_231 (lv_at hl 2 rfl) ?_
        obtain ⟨r24, z25, e26, h⟩ := bnd_e h
        refine clX2_byKind hf hK hO hS (hrec y4 x2 0 x4 z9 r24 z25 e26) q1966 hl.1 (Nat.le_of_ble_eq_true rfl) ⟨by dsimp only; omega, by dsimp only; omega⟩ ⟨Nat.le_of_ble_eq_true rfl, Nat.le_of_ble_eq_true rfl⟩ dX2_byKind_233 (fun H locs hO hS => ?_)
        refine lv_iconst (v := 3) hx hb dX2_byKind_236 (by decide) ?_
        refine lv_iadd hx hb dX2_byKind_237 ?_
        obtain ⟨e8, rfl⟩ := Prod.mk.inj (Option.some.inj h)
        exact g_retG hx hb hr hlocks e8 hO hS dX2_byKind_238
      have h := it_f c23 h
      by_cases c27 : y6 = 30
      · have h := it_t c27 h
        refine lv_lookup (off := 156) (tgt := 239) hx hb dX2_byKind_83 (by decide) (by rw [c27]; rfl) (by decide) ?_
        refine lv_aload_n hx hb dX2_byKind_239 rfl (lv_at hl 0 rfl) ?_
        refine lv_iload hx hb dX2_byKind_240 (lv_at hl 3 rfl) ?_
        refine lv_iload_n hx hb dX2_byKind_242 rfl (lv_at hl 1 rfl) ?_
        refine lv_iconst (v := 1) hx hb dX2_byKind_243 (by decide) ?_
        refine lv_iload hx hb dX2_byKind_244 (lv_at hl 2 rfl) ?_
        obtain ⟨r28, z29, e30, h⟩ := bnd_e h
        refine clX2_byKind hf hK hO hS (hrec y4 x2 1 x4 z9 r28 z29 e30) q1966 hl.1 (Nat.le_of_ble_eq_true rfl) ⟨by dsimp only; omega, by dsimp only; omega⟩ ⟨Nat.le_of_ble_eq_true rfl, Nat.le_of_ble_eq_true rfl⟩ dX2_byKind_246 (fun H locs hO hS => ?_)
        refine lv_ineg hx hb dX2_byKind_249 ?_
        obtain ⟨e8, rfl⟩ := Prod.mk.inj (Option.some.inj h)
        exact g_retG hx hb hr hlocks e8 hO hS dX2_byKind_250
      have h := it_f c27 h
      by_cases c31 : y6 = 40
      · have h := it_t c31 h
        refine lv_lookup (off := 168) (tgt := 251) hx hb dX2_byKind_83 (by decide) (by rw [c31]; rfl) (by decide) ?_
        refine lv_aload_n hx hb dX2_byKind_251 rfl (lv_at hl 0 rfl) ?_
        refine lv_iload hx hb dX2_byKind_252 (lv_at hl 3 rfl) ?_
        refine lv_iload_n hx hb dX2_byKind_254 rfl (lv_at hl 1 rfl) ?_
        refine lv_iconst (v := 2) hx hb dX2_byKind_255 (by decide) ?_
        refine lv_iload hx hb dX2_byKind_256 (lv_at hl 2 rfl) ?_
        obtain ⟨r32, z33, e34, h⟩ := bnd_e h
        refine clX2_byKind hf hK hO hS (hrec y4 x2 2 x4 z9 r32 z33 e34) q1966 hl.1 (Nat.le_of_ble_eq_true rfl) ⟨by dsimp only; omega, by dsimp only; omega⟩ ⟨Nat.le_of_ble_eq_true rfl, Nat.le_of_ble_eq_true rfl⟩ dX2_byKind_258 (fun H locs hO hS => ?_)
        refine lv_iconst (v := 3) hx hb dX2_byKind_261 (by decide) ?_
        refine lv_imul hx hb dX2_byKind_262 ?_
        obtain ⟨e8, rfl⟩ := Prod.mk.inj (Option.some.inj h)
        exact g_retG hx hb hr hlocks e8 hO hS dX2_byKind_263
      have h := it_f c31 h
      by_cases c35 : y6 = 41
      · have h := it_t c35 h
        refine lv_lookup (off := 181) (tgt := 264) hx hb dX2_byKind_83 (by decide) (by rw [c35]; rfl) (by decide) ?_
        refine lv_aload_n hx hb dX2_byKind_264 rfl (lv_at hl 0 rfl) ?_
        refine lv_iload hx hb dX2_byKind_265 (lv_at hl 3 rfl) ?_
        refine lv_iload_n hx hb dX2_byKind_267 rfl (lv_at hl 1 rfl) ?_
        refine lv_iconst (v := 1) hx hb dX2_byKind_268 (by decide) ?_
        refine lv_iload hx hb dX2_byKind_269 (lv_at hl 2 rfl) ?_
        refine lv_iconst (v := 1) hx hb dX2_byKind_271 (by decide) ?_
        refine lv_iadd hx hb dX2_byKind_272 ?_
        obtain ⟨r36, z37, e38, h⟩ := bnd_e h
        refine clX2_byKind hf hK hO hS (hrec y4 x2 1 (x4 + 1) z9 r36 z37 e38) q1966 hl.1 (Nat.le_of_ble_eq_true rfl) ⟨by dsimp only; omega, by dsimp only; omega⟩ ⟨Nat.le_of_ble_eq_true rfl, Nat.le_of_ble_eq_true rfl⟩ dX2_byKind_273 (fun H locs hO hS => ?_)
        obtain ⟨e8, rfl⟩ := Prod.mk.inj (Option.some.inj h)
        exact g_retG hx hb hr hlocks e8 hO hS dX2_byKind_276
      have h := it_f c35 h
      by_cases c39 : y6 = 50
      · have h := it_t c39 h
        refine lv_lookup (off := 194) (tgt := 277) hx hb dX2_byKind_83 (by decide) (by rw [c39]; rfl) (by decide) ?_
        refine lv_aload_n hx hb dX2_byKind_277 rfl (lv_at hl 0 rfl) ?_
        refine lv_iload hx hb dX2_byKind_278 (lv_at hl 3 rfl) ?_
        refine lv_iload_n hx hb dX2_byKind_280 rfl (lv_at hl 1 rfl) ?_
        refine lv_iconst (v := 2) hx hb dX2_byKind_281 (by decide) ?_
        refine lv_iload hx hb dX2_byKind_282 (lv_at hl 2 rfl) ?_
        obtain ⟨r40, z41, e42, h⟩ := bnd_e h
        refine clX2_byKind hf hK hO hS (hrec y4 x2 2 x4 z9 r40 z41 e42) q1966 hl.1 (Nat.le_of_ble_eq_true rfl) ⟨by dsimp only; omega, by dsimp only; omega⟩ ⟨Nat.le_of_ble_eq_true rfl, Nat.le_of_ble_eq_true rfl⟩ dX2_byKind_284 (fun H locs hO hS => ?_)
        refine lv_aload_n hx hb dX2_byKind_287 rfl (lv_at hl 0 rfl) ?_
        refine lv_iload_n hx hb dX2_byKind_288 rfl (lv_at hl 1 rfl) ?_
        refine lv_iconst (v := 0) hx hb dX2_byKind_289 (by decide) ?_
        refine lv_iconst (v := 2) hx hb dX2_byKind_290 (by decide) ?_
        obtain ⟨r43, z44, e45, h⟩ := bnd_e h
        refine clX2_does hf hK hO hS (metX2_does l D aC o ad A hD n rec hrec x2 0 2 z41 r43 z44 e45) q1962 hl.1 (Nat.le_of_ble_eq_true rfl) ⟨by dsimp only; omega, by dsimp only; omega⟩ ⟨Nat.le_of_ble_eq_true rfl, Nat.le_of_ble_eq_true rfl⟩ dX2_byKind_291 (fun H locs hO hS => ?_)
        refine lv_isub hx hb dX2_byKind_294 ?_
        obtain ⟨e8, rfl⟩ := Prod.mk.inj (Option.some.inj h)
        exact g_retG hx hb hr hlocks e8 hO hS dX2_byKind_295
      have h := it_f c39 h
      by_cases c46 : y6 = 60
      · have h := it_t c46 h
        refine lv_lookup (off := 213) (tgt := 296) hx hb dX2_byKind_83 (by decide) (by rw [c46]; rfl) (by decide) ?_
        refine lv_aload_n hx hb dX2_byKind_296 rfl (lv_at hl 0 rfl) ?_
        refine lv_iload hx hb dX2_byKind_297 (lv_at hl 3 rfl) ?_
        refine lv_iload_n hx hb dX2_byKind_299 rfl (lv_at hl 1 rfl) ?_
        refine lv_iconst (v := 3) hx hb dX2_byKind_300 (by decide) ?_
        refine lv_iload hx hb dX2_byKind_301 (lv_at hl 2 rfl) ?_
        obtain ⟨r47, z48, e49, h⟩ := bnd_e h
        refine clX2_byKind hf hK hO hS (hrec y4 x2 3 x4 z9 r47 z48 e49) q1966 hl.1 (Nat.le_of_ble_eq_true rfl) ⟨by dsimp only; omega, by dsimp only; omega⟩ ⟨Nat.le_of_ble_eq_true rfl, Nat.le_of_ble_eq_true rfl⟩ dX2_byKind_303 (fun H locs hO hS => ?_)
        refine lv_iconst (v := 5) hx hb dX2_byKind_306 (by decide) ?_
        refine lv_ixor hx hb dX2_byKind_307 ?_
        obtain ⟨e8, rfl⟩ := Prod.mk.inj (Option.some.inj h)
        exact g_retG hx hb hr hlocks e8 hO hS dX2_byKind_308
      have h := it_f c46 h
      by_cases c50 : y6 = 70
      · have h := it_t c50 h
        refine lv_lookup (off := 226) (tgt := 309) hx hb dX2_byKind_83 (by decide) (by rw [c50]; rfl) (by decide) ?_
        refine lv_aload_n hx hb dX2_byKind_309 rfl (lv_at hl 0 rfl) ?_
        refine lv_iload hx hb dX2_byKind_310 (lv_at hl 3 rfl) ?_
        refine lv_iload_n hx hb dX2_byKind_312 rfl (lv_at hl 1 rfl) ?_
        refine lv_iconst (v := 0) hx hb dX2_byKind_313 (by decide) ?_
        refine lv_iload hx hb dX2_byKind_314 (lv_at hl 2 rfl) ?_
        obtain ⟨r51, z52, e53, h⟩ := bnd_e h
        refine clX2_byKind hf hK hO hS (hrec y4 x2 0 x4 z9 r51 z52 e53) q1966 hl.1 (Nat.le_of_ble_eq_true rfl) ⟨by dsimp only; omega, by dsimp only; omega⟩ ⟨Nat.le_of_ble_eq_true rfl, Nat.le_of_ble_eq_true rfl⟩ dX2_byKind_316 (fun H locs hO hS => ?_)
        refine lv_iconst (v := 2) hx hb dX2_byKind_319 (by decide) ?_
        refine lv_imul hx hb dX2_byKind_320 ?_
        obtain ⟨e8, rfl⟩ := Prod.mk.inj (Option.some.inj h)
        exact g_retG hx hb hr hlocks e8 hO hS dX2_byKind_321
      have h := it_f c50 h
      by_cases c54 : y6 = 80
      · have h := it_t c54 h
        refine lv_lookup (off := 239) (tgt := 322) hx hb dX2_byKind_83 (by decide) (by rw [c54]; rfl) (by decide) ?_
        refine lv_aload_n hx hb dX2_byKind_322 rfl (lv_at hl 0 rfl) ?_
        refine lv_iload hx hb dX2_byKind_323 (lv_at hl 3 rfl) ?_
        refine lv_iload_n hx hb dX2_byKind_325 rfl (lv_at hl 1 rfl) ?_
        refine lv_iconst (v := 1) hx hb dX2_byKind_326 (by decide) ?_
        refine lv_iload hx hb dX2_byKind_327 (lv_at hl 2 rfl) ?_
        obtain ⟨r55, z56, e57, h⟩ := bnd_e h
        refine clX2_byKind hf hK hO hS (hrec y4 x2 1 x4 z9 r55 z56 e57) q1966 hl.1 (Nat.le_of_ble_eq_true rfl) ⟨by dsimp only; omega, by dsimp only; omega⟩ ⟨Nat.le_of_ble_eq_true rfl, Nat.le_of_ble_eq_true rfl⟩ dX2_byKind_329 (fun H locs hO hS => ?_)
        refine lv_aload_n hx hb dX2_byKind_332 rfl (lv_at hl 0 rfl) ?_
        refine lv_iload_n hx hb dX2_byKind_333 rfl (lv_at hl 1 rfl) ?_
        refine lv_iconst (v := 2) hx hb dX2_byKind_334 (by decide) ?_
        refine lv_iconst (v := 2) hx hb dX2_byKind_335 (by decide) ?_
        obtain ⟨r58, z59, e60, h⟩ := bnd_e h
        refine clX2_does hf hK hO hS (metX2_does l D aC o ad A hD n rec hrec x2 2 2 z56 r58 z59 e60) q1962 hl.1 (Nat.le_of_ble_eq_true rfl) ⟨by dsimp only; omega, by dsimp only; omega⟩ ⟨Nat.le_of_ble_eq_true rfl, Nat.le_of_ble_eq_true rfl⟩ dX2_byKind_336 (fun H locs hO hS => ?_)
        refine lv_iadd hx hb dX2_byKind_339 ?_
        obtain ⟨e8, rfl⟩ := Prod.mk.inj (Option.some.inj h)
        exact g_retG hx hb hr hlocks e8 hO hS dX2_byKind_340
      have h := it_f c54 h
      refine lv_lookup (off := 258) (tgt := 341) hx hb dX2_byKind_83 (by decide) (show Op.lookupswitch.offset [(1, 105), (2, 110), (10, 127), (11, 138), (20, 143), (30, 156), (40, 168), (41, 181), (50, 194), (60, 213), (70, 226), (80, 239)] 258 y6.toInt = 258 from by rw [lv_osw (a := 1) c10 rfl, lv_osw (a := 2) c11 rfl, lv_osw (a := 10) c18 rfl, lv_osw (a := 11) c22 rfl, lv_osw (a := 20) c23 rfl, lv_osw (a := 30) c27 rfl, lv_osw (a := 40) c31 rfl, lv_osw (a := 41) c35 rfl, lv_osw (a := 50) c39 rfl, lv_osw (a := 60) c46 rfl, lv_osw (a := 70) c50 rfl, lv_osw (a := 80) c54 rfl]; rfl) (by decide) ?_
      refine lv_aload_n hx hb dX2_byKind_341 rfl (lv_at hl 0 rfl) ?_
      refine lv_iload hx hb dX2_byKind_342 (lv_at hl 3 rfl) ?_
      refine lv_iload_n hx hb dX2_byKind_344 rfl (lv_at hl 1 rfl) ?_
      refine lv_iconst (v := 3) hx hb dX2_byKind_345 (by decide) ?_
      refine lv_iload hx hb dX2_byKind_346 (lv_at hl 2 rfl) ?_
      obtain ⟨r61, z62, e63, h⟩ := bnd_e h
      refine clX2_byKind hf hK hO hS (hrec y4 x2 3 x4 z9 r61 z62 e63) q1966 hl.1 (Nat.le_of_ble_eq_true rfl) ⟨by dsimp only; omega, by dsimp only; omega⟩ ⟨Nat.le_of_ble_eq_true rfl, Nat.le_of_ble_eq_true rfl⟩ dX2_byKind_348 (fun H locs hO hS => ?_)
      refine lv_iconst (v := 1) hx hb dX2_byKind_351 (by decide) ?_
      refine lv_isub hx hb dX2_byKind_352 ?_
      obtain ⟨e8, rfl⟩ := Prod.mk.inj (Option.some.inj h)
      exact g_retG hx hb hr hlocks e8 hO hS dX2_byKind_353
    refine lv_icmp_ge (tgt := 71) hx hb dX2_byKind_57 (by decide) (fun c64 => ?_) (fun c64 => ?_)
    · have h := it_t c64 h
      exact hk7 _ _ _ _ h hO hS (lv_sub hl [2, 3, 5, 1, 0] rfl)
    · have h := it_f c64 h
      refine lv_aload_n hx hb dX2_byKind_60 rfl (lv_at hl 2 rfl) ?_
      refine X2_getA hx hb hts hown hK hO 42 (by decide) rfl (hts _ q1579) dX2_byKind_61 ?_
      refine lv_aload_n hx hb dX2_byKind_64 rfl (lv_at hl 2 rfl) ?_
      refine X2_getF hx hb hts hown hK hO 43 (by decide) rfl (hts _ q1580) dX2_byKind_65 ?_
      refine lv_iload hx hb dX2_byKind_68 (lv_at hl 0 rfl) ?_
      obtain ⟨g65, h⟩ := grd h
      refine X2_iastore hx hb hK hO hD hS 42 (by decide) rfl rfl g65 dX2_byKind_70 (fun H locs z66 ez66 hO hS => ?_)
      have h := pin_to ez66 h
      exact hk7 _ _ _ _ h hO hS (lv_sub hl [2, 3, 5, 1, 0] rfl)
  have key73 : ∀ (f : Nat) (v5 : Int32) (ls : Array Slot), FX2_byKind_L3 rec k1 x2 x3 x4 z f v5 = some (r, zq) → lv_has ls 8 [(0, .ref o), (2, .int x2), (3, .int x3), (4, .int x4), (5, .int v5)] → W p l e ({ frames := 2 * (n + 1), cells := 0, slots := 0, locals := 50 * (n + 1) }) s m ([.ref o, .int x1, .int x2, .int x3, .int x4] : List Value).toArray below meth c H locs 0 0 (MQ below (QG (some (.int r)) (OM D aC o ad zq) A) ([.ref o, .int x1, .int x2, .int x3, .int x4] : List Value).toArray s 0 0 A) (F0 m 3 ls []) := by
    intro f
    induction f with
    | zero =>
      intro v5 ls h
      rw [FX2_byKind_L3] at h
      cases h
    | succ f ih68 =>
      intro v5 ls h hl
      rw [FX2_byKind_L3] at h
      refine lv_aload_n hx hb dX2_byKind_3 rfl (lv_at hl 0 rfl) ?_
      refine X2_getA hx hb hts hown hK hO 39 (by decide) rfl (hts _ q1576) dX2_byKind_4 ?_
      refine lv_iconst (v := 4) hx hb dX2_byKind_7 (by decide) ?_
      refine lv_iload hx hb dX2_byKind_8 (lv_at hl 4 rfl) ?_
      refine lv_imul hx hb dX2_byKind_10 ?_
      refine lv_iload_n hx hb dX2_byKind_11 rfl (lv_at hl 2 rfl) ?_
      refine lv_iadd hx hb dX2_byKind_12 ?_
      obtain ⟨g69, h⟩ := grd h
      refine X2_iaload hx hb hK hO 39 (by decide) rfl rfl g69 dX2_byKind_13 ?_
      refine lv_if_ne (tgt := 29) hx hb dX2_byKind_14 (by decide) (fun c70 => ?_) (fun c70 => ?_)
      · have h := it_f c70 h
        exact hk1 _ _ h (lv_sub hl [0, 1, 2, 3, 4] rfl)
      · have h := it_t c70 h
        refine lv_aload_n hx hb dX2_byKind_17 rfl (lv_at hl 0 rfl) ?_
        refine X2_getA hx hb hts hown hK hO 38 (by decide) rfl (hts _ q1575) dX2_byKind_18 ?_
        refine lv_iload hx hb dX2_byKind_21 (lv_at hl 4 rfl) ?_
        obtain ⟨g71, h⟩ := grd h
        refine X2_iaload hx hb hK hO 38 (by decide) rfl rfl g71 dX2_byKind_23 ?_
        refine lv_topi (fun y72 ey72 => ?_)
        have h := pin_to ey72 h
        refine lv_istore (lv' := [(5, .int y72), (0, .ref o), (2, .int x2), (3, .int x3), (4, .int x4)]) hx hb dX2_byKind_24 hl (by decide) rfl (fun ls hl => ?_)
        refine lv_goto (tgt := 3) hx hb dX2_byKind_26 (by decide) ?_
        exact ih68 _ _ h (lv_sub hl [1, 2, 3, 4, 0] rfl)
  exact key73 FU _ _ h (lv_sub hl [1, 3, 4, 5, 0] rfl)
theorem metX2_byKind (l : Launch) (D : va_G) (aC : Nat → ClassId) (o : Nat) (ad : Nat → Nat) (A : Nat → Prop) (hD : OD A 44 kdM o ad) (n : Nat) : ∀ (x1 : Int32) (x2 : Int32) (x3 : Int32) (x4 : Int32) (z : GS) (r : Int32) (zq : GS), FX2_byKind n x1 x2 x3 x4 z = some (r, zq) → Met l yX2_byKind (ws_ yX2_byKind cX2_byKind 8 (some .int)) ({ frames := 2 * n, cells := 0, slots := 0, locals := 50 * n }) (va_Pc [.ref o, .int x1, .int x2, .int x3, .int x4] (PM D aC o ad z)) (QG (some (.int r)) (OM D aC o ad zq) A) 0 0 A := by
  induction n with
  | zero =>
    intro x1 x2 x3 x4 z r zq h
    rw [FX2_byKind] at h
    cases h
  | succ n ih =>
    intro x1 x2 x3 x4 z r zq h
    rw [FX2_byKind] at h
    exact metX2_byKindb l D aC o ad A hD n _ ih x1 x2 x3 x4 z r zq h
theorem metX2_act (l : Launch) (D : va_G) (aC : Nat → ClassId) (o : Nat) (ad : Nat → Nat) (A : Nat → Prop) (hD : OD A 44 kdM o ad) (x1 : Int32) (x2 : Int32) (x3 : Int32) (z : GS) (r : Int32) (zq : GS) (h : FX2_act x1 x2 x3 z = some (r, zq)) : Met l yX2_act (ws_ yX2_act cX2_act 4 (some .int)) ({ frames := 30, cells := 0, slots := 0, locals := 750 }) (va_Pc [.ref o, .int x1, .int x2, .int x3] (PM D aC o ad z)) (QG (some (.int r)) (OM D aC o ad zq) A) 0 0 A := by
  refine g_ofW (cc := cX2_act) (maxL := 4) (ret := (some .int)) (own := RX2) (by decide) rfl rfl [.ref o, .int x1, .int x2, .int x3] (PM D aC o ad z) (Nat.le_of_ble_eq_true rfl) ?_
  intro p e s m below meth c ls hx hb hr hml hts hown hlocks hnm hPre hl
  obtain ⟨hO, hK⟩ := hPre
  have hf : CallFix p m c cX2_act 4 s _ lw_all RX2 := ⟨hx, hb, hml, hown, hts⟩
  have hl : lv_has ls 4 [(0, .ref o), (1, .int x1), (2, .int x2), (3, .int x3)] := hl
  refine g_open (A := A) (OM D aC o ad z) hO (fun H locs hO hS => ?_)
  unfold FX2_act at h
  refine lv_aload_n hx hb dX2_act_0 rfl (lv_at hl 0 rfl) ?_
  refine lv_iconst (v := 0) hx hb dX2_act_1 (by decide) ?_
  refine X2_putF hx hb hts hown hK hO hD hS 43 (by decide) rfl (hts _ q1580) rfl (ty := .int) rfl rfl rfl dX2_act_2 (fun H locs z1 ez1 hO hS => ?_)
  have h := pin_to ez1 h
  refine lv_iload_n hx hb dX2_act_5 rfl (lv_at hl 1 rfl) ?_
  refine lv_iconst (v := 0) hx hb dX2_act_6 (by decide) ?_
  refine lv_aload_n hx hb dX2_act_7 rfl (lv_at hl 0 rfl) ?_
  refine X2_getF hx hb hts hown hK hO 41 (by decide) rfl (hts _ q1578) dX2_act_8 ?_
  refine lv_iconst (v := 1) hx hb dX2_act_11 (by decide) ?_
  refine lv_isub hx hb dX2_act_12 ?_
  refine clX2_isIn hf (metX2_isIn l x1 0 ((gF z1 41) - 1) _ rfl) q1675 hl.1 (Nat.le_of_ble_eq_true rfl) ⟨Nat.le_of_ble_eq_true rfl, Nat.le_of_ble_eq_true rfl⟩ ⟨Nat.le_of_ble_eq_true rfl, Nat.le_of_ble_eq_true rfl⟩ dX2_act_13 ?_
  refine lv_if_eq (tgt := 38) hx hb dX2_act_16 (by decide) (fun c2 => ?_) (fun c2 => ?_)
  · have h := it_t c2 h
    refine lv_iconst (v := 0) hx hb dX2_act_38 (by decide) ?_
    obtain ⟨e8, rfl⟩ := Prod.mk.inj (Option.some.inj h)
    exact g_retG hx hb hr hlocks e8 hO hS dX2_act_39
  · have h := it_f c2 h
    refine lv_iload_n hx hb dX2_act_19 rfl (lv_at hl 2 rfl) ?_
    refine lv_iconst (v := 0) hx hb dX2_act_20 (by decide) ?_
    refine lv_iconst (v := 3) hx hb dX2_act_21 (by decide) ?_
    refine clX2_isIn hf (metX2_isIn l x2 0 3 _ rfl) q1675 hl.1 (Nat.le_of_ble_eq_true rfl) ⟨Nat.le_of_ble_eq_true rfl, Nat.le_of_ble_eq_true rfl⟩ ⟨Nat.le_of_ble_eq_true rfl, Nat.le_of_ble_eq_true rfl⟩ dX2_act_22 ?_
    refine lv_if_eq (tgt := 38) hx hb dX2_act_25 (by decide) (fun c3 => ?_) (fun c3 => ?_)
    · have h := it_t c3 h
      refine lv_iconst (v := 0) hx hb dX2_act_38 (by decide) ?_
      obtain ⟨e8, rfl⟩ := Prod.mk.inj (Option.some.inj h)
      exact g_retG hx hb hr hlocks e8 hO hS dX2_act_39
    · have h := it_f c3 h
      refine lv_aload_n hx hb dX2_act_28 rfl (lv_at hl 0 rfl) ?_
      refine lv_iload_n hx hb dX2_act_29 rfl (lv_at hl 1 rfl) ?_
      refine lv_iload_n hx hb dX2_act_30 rfl (lv_at hl 2 rfl) ?_
      refine lv_iload_n hx hb dX2_act_31 rfl (lv_at hl 3 rfl) ?_
      obtain ⟨r4, z5, e6, h⟩ := bnd_e h
      refine clX2_does hf hK hO hS (metX2_does l D aC o ad A hD 14 (FX2_byKind 14) (metX2_byKind l D aC o ad A hD 14) x1 x2 x3 z1 r4 z5 e6) q1962 hl.1 (Nat.le_of_ble_eq_true rfl) ⟨Nat.le_of_ble_eq_true rfl, Nat.le_of_ble_eq_true rfl⟩ ⟨Nat.le_of_ble_eq_true rfl, Nat.le_of_ble_eq_true rfl⟩ dX2_act_32 (fun H locs hO hS => ?_)
      refine lv_goto (tgt := 39) hx hb dX2_act_35 (by decide) ?_
      obtain ⟨e8, rfl⟩ := Prod.mk.inj (Option.some.inj h)
      exact g_retG hx hb hr hlocks e8 hO hS dX2_act_39
theorem clX2_act {p : Program} {l : Launch} {e : Env} {R : Room} {s : State} {m : MethodId} {args : Array Value} {below : List Frame} {meth : Method} {c : Code} {H : Heap} {locs : List Loc} {cells slots : Nat} {Q : State → Prop} {cc : ByteArray} {pc nL idx fr lo : Nat} {ls : Array Slot} {rest : List Value} {own : String} {D : va_G} {aC : Nat → ClassId} {o : Nat} {ad : Nat → Nat} {z : GS} {zq : GS} {A : Nat → Prop} {x1 : Int32} {x2 : Int32} {x3 : Int32} {r : Int32} (hf : CallFix p m c cc nL s args lw_all own) (hK : va_K D vwCl (tysG aC) s) (hO : OM D aC o ad z H) (hS : va_S A s.heap H locs) (hM : Met l yX2_act (ws_ yX2_act cX2_act 4 (some .int)) ({ frames := fr, cells := 0, slots := 0, locals := lo }) (va_Pc [.ref o, .int x1, .int x2, .int x3] (PM D aC o ad z)) (QG (some (.int r)) (OM D aC o ad zq) A) 0 0 A) (hq : Cond.methodLink own idx yX2_act ∈ lw_all) (hs : ls.size = nL) (hr : (rest.map fun v => v.category).sum ≤ 8) (hR : fr + 1 ≤ R.frames ∧ 8 + (4 + 11) + lo ≤ R.locals) (hcs : cells + 0 ≤ R.cells ∧ slots + 0 ≤ R.slots) (hd : decode cc pc = .ok (.invokevirtual idx, 3)) (kk : ∀ (H1 : Heap) (locs1 : List Loc), OM D aC o ad zq H1 → va_S A s.heap H1 locs1 → W p l e R s m args below meth c H1 locs1 cells slots Q (F0 m (pc + 3) ls (.int r :: rest))) : W p l e R s m args below meth c H locs cells slots Q (F0 m pc ls (.int x3 :: .int x2 :: .int x1 :: .ref o :: rest)) :=
  g_callG (W.runV (As := [.int x1, .int x2, .int x3]) (rest := rest) hf hM (cwV 3 hf.2.2.2.2 (lw_V hq q1959 q1960 q92 q1961) rfl rfl rfl (by decide +kernel) hR) ⟨fun a U g mk q => ⟨q.1, q.2.1, va_K.moved (u := U) (U := U.calling g mk a) (Vm.Alike.refl U.vm) q.2.2⟩, OA.recv hK hO rfl, fun U hU hW => ⟨rfl, by rw [hU]; exact hO, va_K.moved hW.alike hK⟩⟩ rfl rfl hs rfl (lv_room hr) hd hcs) hS (fun H1 locs1 hP hS _ _ => kk H1 locs1 hP hS)
theorem metX2_trace (l : Launch) (D : va_G) (aC : Nat → ClassId) (o : Nat) (ad : Nat → Nat) (x1 : Int32) (z : GS) (r : Int32) (h : FX2_trace x1 z = some r) : Met l yX2_trace (ws_ yX2_trace cX2_trace 2 (some .int)) ({ frames := 1, cells := 0, slots := 0, locals := 60 }) (va_Pc [.ref o, .int x1] (PM D aC o ad z)) (QR (some (.int r))) 0 0 (fun _ => False) := by
  refine g_ofW (cc := cX2_trace) (maxL := 2) (ret := (some .int)) (own := RX2) (by decide) rfl rfl [.ref o, .int x1] (PM D aC o ad z) (Nat.le_of_ble_eq_true rfl) ?_
  intro p e s m below meth c ls hx hb hr hml hts hown hlocks hnm hPre hl
  obtain ⟨hO, hK⟩ := hPre
  have hf : CallFix p m c cX2_trace 2 s _ lw_all RX2 := ⟨hx, hb, hml, hown, hts⟩
  have hl : lv_has ls 2 [(0, .ref o), (1, .int x1)] := hl
  unfold FX2_trace at h
  refine lv_iload_n hx hb dX2_trace_0 rfl (lv_at hl 1 rfl) ?_
  refine lv_iconst (v := 0) hx hb dX2_trace_1 (by decide) ?_
  refine lv_bipush (v := 24) hx hb dX2_trace_2 (by decide) ?_
  refine lv_aload_n hx hb dX2_trace_4 rfl (lv_at hl 0 rfl) ?_
  refine X2_getF hx hb hts hown hK hO 43 (by decide) rfl (hts _ q1580) dX2_trace_5 ?_
  refine g_mmin hx hb (hml.trans hl.1.symm) hown (hts _ q1790) (hts _ q669) (hts _ q106) (hts _ q670) (Nat.le_of_ble_eq_true rfl) (Nat.le_of_ble_eq_true rfl) (Nat.le_refl _) (Nat.le_refl _) dX2_trace_8 ?_
  refine lv_iconst (v := 1) hx hb dX2_trace_11 (by decide) ?_
  refine lv_isub hx hb dX2_trace_12 ?_
  refine clX2_isIn hf (metX2_isIn l x1 0 ((jmin 24 (gF z 43)) - 1) _ rfl) q1675 hl.1 (Nat.le_of_ble_eq_true rfl) ⟨Nat.le_of_ble_eq_true rfl, Nat.le_of_ble_eq_true rfl⟩ ⟨Nat.le_of_ble_eq_true rfl, Nat.le_of_ble_eq_true rfl⟩ dX2_trace_13 ?_
  refine lv_if_eq (tgt := 28) hx hb dX2_trace_16 (by decide) (fun c1 => ?_) (fun c1 => ?_)
  · have h := it_t c1 h
    refine lv_iconst (v := (-1)) hx hb dX2_trace_28 (by decide) ?_
    exact g_retR hx hb hr hlocks (Option.some.inj h) dX2_trace_29
  · have h := it_f c1 h
    refine lv_aload_n hx hb dX2_trace_19 rfl (lv_at hl 0 rfl) ?_
    refine X2_getA hx hb hts hown hK hO 42 (by decide) rfl (hts _ q1579) dX2_trace_20 ?_
    refine lv_iload_n hx hb dX2_trace_23 rfl (lv_at hl 1 rfl) ?_
    obtain ⟨g2, h⟩ := grd h
    refine X2_iaload hx hb hK hO 42 (by decide) rfl rfl g2 dX2_trace_24 ?_
    refine lv_goto (tgt := 29) hx hb dX2_trace_25 (by decide) ?_
    exact g_retR hx hb hr hlocks (Option.some.inj h) dX2_trace_29
theorem clX2_trace {p : Program} {l : Launch} {e : Env} {R : Room} {s : State} {m : MethodId} {args : Array Value} {below : List Frame} {meth : Method} {c : Code} {H : Heap} {locs : List Loc} {cells slots : Nat} {Q : State → Prop} {cc : ByteArray} {pc nL idx fr lo : Nat} {ls : Array Slot} {rest : List Value} {own : String} {D : va_G} {aC : Nat → ClassId} {o : Nat} {ad : Nat → Nat} {z : GS} {x1 : Int32} {r : Int32} (hf : CallFix p m c cc nL s args lw_all own) (hK : va_K D vwCl (tysG aC) s) (hO : OM D aC o ad z H) (hM : Met l yX2_trace (ws_ yX2_trace cX2_trace 2 (some .int)) ({ frames := fr, cells := 0, slots := 0, locals := lo }) (va_Pc [.ref o, .int x1] (PM D aC o ad z)) (QR (some (.int r))) 0 0 (fun _ => False)) (hq : Cond.methodLink own idx yX2_trace ∈ lw_all) (hs : ls.size = nL) (hr : (rest.map fun v => v.category).sum ≤ 8) (hR : fr + 1 ≤ R.frames ∧ 8 + (2 + 11) + lo ≤ R.locals) (hcs : cells + 0 ≤ R.cells ∧ slots + 0 ≤ R.slots) (hd : decode cc pc = .ok (.invokevirtual idx, 3)) (kk : W p l e R s m args below meth c H locs cells slots Q (F0 m (pc + 3) ls (.int r :: rest))) : W p l e R s m args below meth c H locs cells slots Q (F0 m pc ls (.int x1 :: .ref o :: rest)) :=
  g_callR (W.runV (As := [.int x1]) (rest := rest) hf hM (cwV 1 hf.2.2.2.2 (lw_V hq q1971 q1972 q92 q1973) rfl rfl rfl (by decide +kernel) hR) ⟨fun a U g mk q => ⟨q.1, q.2.1, va_K.moved (u := U) (U := U.calling g mk a) (Vm.Alike.refl U.vm) q.2.2⟩, OA.recv hK hO rfl, fun U hU hW => ⟨rfl, by rw [hU]; exact hO, va_K.moved hW.alike hK⟩⟩ rfl rfl hs rfl (lv_room hr) hd hcs) kk
theorem metX2_keep (l : Launch) (D : va_G) (aC : Nat → ClassId) (o : Nat) (ad : Nat → Nat) (A : Nat → Prop) (hD : OD A 44 kdM o ad) (x1 : Int32) (x2 : Int32) (z : GS) (r : Int32) (zq : GS) (h : FX2_keep x1 x2 z = some (r, zq)) : Met l yX2_keep (ws_ yX2_keep cX2_keep 3 (some .int)) ({ frames := 2, cells := 0, slots := 0, locals := 42 }) (va_Pc [.ref o, .int x1, .int x2] (PM D aC o ad z)) (QG (some (.int r)) (OM D aC o ad zq) A) 0 0 A := by
  refine g_ofW (cc := cX2_keep) (maxL := 3) (ret := (some .int)) (own := RX2) (by decide) rfl rfl [.ref o, .int x1, .int x2] (PM D aC o ad z) (Nat.le_of_ble_eq_true rfl) ?_
  intro p e s m below meth c ls hx hb hr hml hts hown hlocks hnm hPre hl
  obtain ⟨hO, hK⟩ := hPre
  have hf : CallFix p m c cX2_keep 3 s _ lw_all RX2 := ⟨hx, hb, hml, hown, hts⟩
  have hl : lv_has ls 3 [(0, .ref o), (1, .int x1), (2, .int x2)] := hl
  refine g_open (A := A) (OM D aC o ad z) hO (fun H locs hO hS => ?_)
  unfold FX2_keep at h
  refine lv_iload_n hx hb dX2_keep_0 rfl (lv_at hl 1 rfl) ?_
  refine clX2_isShelf hf (metX2_isShelf l x1 _ rfl) q1879 hl.1 (Nat.le_of_ble_eq_true rfl) ⟨Nat.le_of_ble_eq_true rfl, Nat.le_of_ble_eq_true rfl⟩ ⟨Nat.le_of_ble_eq_true rfl, Nat.le_of_ble_eq_true rfl⟩ dX2_keep_1 ?_
  refine lv_if_eq (tgt := 21) hx hb dX2_keep_4 (by decide) (fun c1 => ?_) (fun c1 => ?_)
  · have h := it_t c1 h
    refine lv_iconst (v := (-1)) hx hb dX2_keep_21 (by decide) ?_
    obtain ⟨e8, rfl⟩ := Prod.mk.inj (Option.some.inj h)
    exact g_retG hx hb hr hlocks e8 hO hS dX2_keep_22
  · have h := it_f c1 h
    refine lv_iload_n hx hb dX2_keep_7 rfl (lv_at hl 2 rfl) ?_
    refine lv_iconst (v := (-1)) hx hb dX2_keep_8 (by decide) ?_
    refine lv_aload_n hx hb dX2_keep_9 rfl (lv_at hl 0 rfl) ?_
    refine X2_getF hx hb hts hown hK hO 41 (by decide) rfl (hts _ q1578) dX2_keep_10 ?_
    refine lv_iconst (v := 1) hx hb dX2_keep_13 (by decide) ?_
    refine lv_isub hx hb dX2_keep_14 ?_
    refine clX2_isIn hf (metX2_isIn l x2 (-1) ((gF z 41) - 1) _ rfl) q1675 hl.1 (Nat.le_of_ble_eq_true rfl) ⟨Nat.le_of_ble_eq_true rfl, Nat.le_of_ble_eq_true rfl⟩ ⟨Nat.le_of_ble_eq_true rfl, Nat.le_of_ble_eq_true rfl⟩ dX2_keep_15 ?_
    refine lv_if_ne (tgt := 23) hx hb dX2_keep_18 (by decide) (fun c2 => ?_) (fun c2 => ?_)
    · have h := it_f c2 h
      refine lv_aload_n hx hb dX2_keep_23 rfl (lv_at hl 0 rfl) ?_
      refine X2_getA hx hb hts hown hK hO 28 (by decide) rfl (hts _ q1565) dX2_keep_24 ?_
      refine lv_iload_n hx hb dX2_keep_27 rfl (lv_at hl 1 rfl) ?_
      refine lv_iload_n hx hb dX2_keep_28 rfl (lv_at hl 2 rfl) ?_
      refine lv_iconst (v := (-1)) hx hb dX2_keep_29 (by decide) ?_
      obtain ⟨k4, e7, h⟩ := pin_nm2 h
      have hk4 : ∀ (u3 : Int32) (ls : Array Slot), k4 u3 = some (r, zq) → lv_has ls 3 [(0, .ref o)] → W p l e ({ frames := 2, cells := 0, slots := 0, locals := 42 }) s m ([.ref o, .int x1, .int x2] : List Value).toArray below meth c H locs 0 0 (MQ below (QG (some (.int r)) (OM D aC o ad zq) A) ([.ref o, .int x1, .int x2] : List Value).toArray s 0 0 A) (F0 m 41 ls [.int u3, .int x1, .ref (ad 28)]) := by
        intro u3 ls h hl
        rw [e7] at h
        obtain ⟨g5, h⟩ := grd h
        refine X2_iastore hx hb hK hO hD hS 28 (by decide) rfl rfl g5 dX2_keep_41 (fun H locs z6 ez6 hO hS => ?_)
        have h := pin_to ez6 h
        refine lv_iconst (v := 1) hx hb dX2_keep_42 (by decide) ?_
        obtain ⟨e8, rfl⟩ := Prod.mk.inj (Option.some.inj h)
        exact g_retG hx hb hr hlocks e8 hO hS dX2_keep_43
      refine lv_icmp_ne (tgt := 37) hx hb dX2_keep_30 (by decide) (fun c8 => ?_) (fun c8 => ?_)
      · have h := pt_f (k := k4) c8 h
        refine lv_bipush (v := 10) hx hb dX2_keep_37 (by decide) ?_
        refine lv_iload_n hx hb dX2_keep_39 rfl (lv_at hl 2 rfl) ?_
        refine lv_iadd hx hb dX2_keep_40 ?_
        exact hk4 _ _ h (lv_sub hl [0] rfl)
      · have h := pt_t (k := k4) c8 h
        refine lv_iconst (v := (-1)) hx hb dX2_keep_33 (by decide) ?_
        refine lv_goto (tgt := 41) hx hb dX2_keep_34 (by decide) ?_
        exact hk4 _ _ h (lv_sub hl [0] rfl)
    · have h := it_t c2 h
      refine lv_iconst (v := (-1)) hx hb dX2_keep_21 (by decide) ?_
      obtain ⟨e8, rfl⟩ := Prod.mk.inj (Option.some.inj h)
      exact g_retG hx hb hr hlocks e8 hO hS dX2_keep_22
theorem clX2_keep {p : Program} {l : Launch} {e : Env} {R : Room} {s : State} {m : MethodId} {args : Array Value} {below : List Frame} {meth : Method} {c : Code} {H : Heap} {locs : List Loc} {cells slots : Nat} {Q : State → Prop} {cc : ByteArray} {pc nL idx fr lo : Nat} {ls : Array Slot} {rest : List Value} {own : String} {D : va_G} {aC : Nat → ClassId} {o : Nat} {ad : Nat → Nat} {z : GS} {zq : GS} {A : Nat → Prop} {x1 : Int32} {x2 : Int32} {r : Int32} (hf : CallFix p m c cc nL s args lw_all own) (hK : va_K D vwCl (tysG aC) s) (hO : OM D aC o ad z H) (hS : va_S A s.heap H locs) (hM : Met l yX2_keep (ws_ yX2_keep cX2_keep 3 (some .int)) ({ frames := fr, cells := 0, slots := 0, locals := lo }) (va_Pc [.ref o, .int x1, .int x2] (PM D aC o ad z)) (QG (some (.int r)) (OM D aC o ad zq) A) 0 0 A) (hq : Cond.methodLink own idx yX2_keep ∈ lw_all) (hs : ls.size = nL) (hr : (rest.map fun v => v.category).sum ≤ 8) (hR : fr + 1 ≤ R.frames ∧ 8 + (3 + 11) + lo ≤ R.locals) (hcs : cells + 0 ≤ R.cells ∧ slots + 0 ≤ R.slots) (hd : decode cc pc = .ok (.invokevirtual idx, 3)) (kk : ∀ (H1 : Heap) (locs1 : List Loc), OM D aC o ad zq H1 → va_S A s.heap H1 locs1 → W p l e R s m args below meth c H1 locs1 cells slots Q (F0 m (pc + 3) ls (.int r :: rest))) : W p l e R s m args below meth c H locs cells slots Q (F0 m pc ls (.int x2 :: .int x1 :: .ref o :: rest)) :=
  g_callG (W.runV (As := [.int x1, .int x2]) (rest := rest) hf hM (cwV 2 hf.2.2.2.2 (lw_V hq q1975 q1976 q92 q1977) rfl rfl rfl (by decide +kernel) hR) ⟨fun a U g mk q => ⟨q.1, q.2.1, va_K.moved (u := U) (U := U.calling g mk a) (Vm.Alike.refl U.vm) q.2.2⟩, OA.recv hK hO rfl, fun U hU hW => ⟨rfl, by rw [hU]; exact hO, va_K.moved hW.alike hK⟩⟩ rfl rfl hs rfl (lv_room hr) hd hcs) hS (fun H1 locs1 hP hS _ _ => kk H1 locs1 hP hS)
theorem metX2_row (l : Launch) (D : va_G) (aC : Nat → ClassId) (o : Nat) (ad : Nat → Nat) (A : Nat → Prop) (hD : OD A 44 kdM o ad) (x1 : Int32) (x2 : Int32) (x3 : Int32) (z : GS) (r : Int32) (zq : GS) (h : FX2_row x1 x2 x3 z = some (r, zq)) : Met l yX2_row (ws_ yX2_row cX2_row 5 (some .int)) ({ frames := 2, cells := 0, slots := 0, locals := 42 }) (va_Pc [.ref o, .int x1, .int x2, .int x3] (PM D aC o ad z)) (QG (some (.int r)) (OM D aC o ad zq) A) 0 0 A := by
  refine g_ofW (cc := cX2_row) (maxL := 5) (ret := (some .int)) (own := RX2) (by decide) rfl rfl [.ref o, .int x1, .int x2, .int x3] (PM D aC o ad z) (Nat.le_of_ble_eq_true rfl) ?_
  intro p e s m below meth c ls hx hb hr hml hts hown hlocks hnm hPre hl
  obtain ⟨hO, hK⟩ := hPre
  have hf : CallFix p m c cX2_row 5 s _ lw_all RX2 := ⟨hx, hb, hml, hown, hts⟩
  have hl : lv_has ls 5 [(0, .ref o), (1, .int x1), (2, .int x2), (3, .int x3)] := hl
  refine g_open (A := A) (OM D aC o ad z) hO (fun H locs hO hS => ?_)
  unfold FX2_row at h
  refine lv_iload_n hx hb dX2_row_0 rfl (lv_at hl 1 rfl) ?_
  refine clX2_isShelf hf (metX2_isShelf l x1 _ rfl) q1879 hl.1 (Nat.le_of_ble_eq_true rfl) ⟨Nat.le_of_ble_eq_true rfl, Nat.le_of_ble_eq_true rfl⟩ ⟨Nat.le_of_ble_eq_true rfl, Nat.le_of_ble_eq_true rfl⟩ dX2_row_1 ?_
  refine lv_if_eq (tgt := 22) hx hb dX2_row_4 (by decide) (fun c1 => ?_) (fun c1 => ?_)
  · have h := it_t c1 h
    refine lv_iconst (v := (-1)) hx hb dX2_row_22 (by decide) ?_
    obtain ⟨e8, rfl⟩ := Prod.mk.inj (Option.some.inj h)
    exact g_retG hx hb hr hlocks e8 hO hS dX2_row_23
  · have h := it_f c1 h
    refine lv_iload_n hx hb dX2_row_7 rfl (lv_at hl 2 rfl) ?_
    refine lv_iconst (v := 0) hx hb dX2_row_8 (by decide) ?_
    refine lv_iconst (v := 4) hx hb dX2_row_9 (by decide) ?_
    refine clX2_isIn hf (metX2_isIn l x2 0 4 _ rfl) q1675 hl.1 (Nat.le_of_ble_eq_true rfl) ⟨Nat.le_of_ble_eq_true rfl, Nat.le_of_ble_eq_true rfl⟩ ⟨Nat.le_of_ble_eq_true rfl, Nat.le_of_ble_eq_true rfl⟩ dX2_row_10 ?_
    refine lv_if_eq (tgt := 22) hx hb dX2_row_13 (by decide) (fun c2 => ?_) (fun c2 => ?_)
    · have h := it_t c2 h
      refine lv_iconst (v := (-1)) hx hb dX2_row_22 (by decide) ?_
      obtain ⟨e8, rfl⟩ := Prod.mk.inj (Option.some.inj h)
      exact g_retG hx hb hr hlocks e8 hO hS dX2_row_23
    · have h := it_f c2 h
      refine lv_iload_n hx hb dX2_row_16 rfl (lv_at hl 3 rfl) ?_
      refine lv_bipush (v := 60) hx hb dX2_row_17 (by decide) ?_
      refine lv_icmp_le (tgt := 24) hx hb dX2_row_19 (by decide) (fun c3 => ?_) (fun c3 => ?_)
      · have h := it_t c3 h
        refine lv_iload_n hx hb dX2_row_24 rfl (lv_at hl 3 rfl) ?_
        refine lv_if_ge (tgt := 31) hx hb dX2_row_25 (by decide) (fun c4 => ?_) (fun c4 => ?_)
        · have h := it_t c4 h
          refine lv_aload_n hx hb dX2_row_31 rfl (lv_at hl 0 rfl) ?_
          refine X2_getA hx hb hts hown hK hO 28 (by decide) rfl (hts _ q1565) dX2_row_32 ?_
          refine lv_iload_n hx hb dX2_row_35 rfl (lv_at hl 1 rfl) ?_
          refine lv_iload_n hx hb dX2_row_36 rfl (lv_at hl 2 rfl) ?_
          obtain ⟨g5, h⟩ := grd h
          refine X2_iastore hx hb hK hO hD hS 28 (by decide) rfl rfl g5 dX2_row_37 (fun H locs z6 ez6 hO hS => ?_)
          have h := pin_to ez6 h
          refine lv_aload_n hx hb dX2_row_38 rfl (lv_at hl 0 rfl) ?_
          refine X2_getA hx hb hts hown hK hO 29 (by decide) rfl (hts _ q1566) dX2_row_39 ?_
          refine lv_iload_n hx hb dX2_row_42 rfl (lv_at hl 1 rfl) ?_
          refine lv_iload_n hx hb dX2_row_43 rfl (lv_at hl 3 rfl) ?_
          obtain ⟨g7, h⟩ := grd h
          refine X2_iastore hx hb hK hO hD hS 29 (by decide) rfl rfl g7 dX2_row_44 (fun H locs z8 ez8 hO hS => ?_)
          have h := pin_to ez8 h
          refine lv_iconst (v := 0) hx hb dX2_row_45 (by decide) ?_
          refine lv_istore (lv' := [(4, .int 0), (0, .ref o), (1, .int x1), (2, .int x2), (3, .int x3)]) hx hb dX2_row_46 hl (by decide) rfl (fun ls hl => ?_)
          have key13 : ∀ (f : Nat) (v4 : Int32) (z : GS) (H : Heap) (locs : List Loc) (ls : Array Slot), FX2_row_L48 x1 f v4 z = some (r, zq) → OM D aC o ad z H → va_S A s.heap H locs → lv_has ls 5 [(0, .ref o), (1, .int x1), (4, .int v4)] → W p l e ({ frames := 2, cells := 0, slots := 0, locals := 42 }) s m ([.ref o, .int x1, .int x2, .int x3] : List Value).toArray below meth c H locs 0 0 (MQ below (QG (some (.int r)) (OM D aC o ad zq) A) ([.ref o, .int x1, .int x2, .int x3] : List Value).toArray s 0 0 A) (F0 m 48 ls []) := by
            intro f
            induction f with
            | zero =>
              intro v4 z H locs ls h
              rw [FX2_row_L48] at h
              cases h
            | succ f ih9 =>
              intro v4 z H locs ls h hO hS hl
              rw [FX2_row_L48] at h
              refine lv_iload hx hb dX2_row_48 (lv_at hl 2 rfl) ?_
              refine lv_bipush (v := 60) hx hb dX2_row_50 (by decide) ?_
              refine lv_icmp_ge (tgt := 74) hx hb dX2_row_52 (by decide) (fun c10 => ?_) (fun c10 => ?_)
              · have h := it_t c10 h
                refine lv_iconst (v := 1) hx hb dX2_row_74 (by decide) ?_
                obtain ⟨e8, rfl⟩ := Prod.mk.inj (Option.some.inj h)
                exact g_retG hx hb hr hlocks e8 hO hS dX2_row_75
              · have h := it_f c10 h
                refine lv_aload_n hx hb dX2_row_55 rfl (lv_at hl 0 rfl) ?_
                refine X2_getA hx hb hts hown hK hO 30 (by decide) rfl (hts _ q1567) dX2_row_56 ?_
                refine lv_bipush (v := 60) hx hb dX2_row_59 (by decide) ?_
                refine lv_iload_n hx hb dX2_row_61 rfl (lv_at hl 1 rfl) ?_
                refine lv_imul hx hb dX2_row_62 ?_
                refine lv_iload hx hb dX2_row_63 (lv_at hl 2 rfl) ?_
                refine lv_iadd hx hb dX2_row_65 ?_
                refine lv_lconst (v := 0) hx hb dX2_row_66 (by decide) ?_
                obtain ⟨g11, h⟩ := grd h
                refine X2_lastore hx hb hK hO hD hS 30 (by decide) rfl rfl g11 dX2_row_67 (fun H locs z12 ez12 hO hS => ?_)
                have h := pin_to ez12 h
                refine lv_iinc (v := (v4 + 1)) (lv' := [(4, .int (v4 + 1)), (0, .ref o), (1, .int x1)]) hx hb dX2_row_68 hl (k := 2) rfl rfl (by decide) rfl (fun ls hl => ?_)
                refine lv_goto (tgt := 48) hx hb dX2_row_71 (by decide) ?_
                exact ih9 _ _ _ _ _ h hO hS (lv_sub hl [1, 2, 0] rfl)
          exact key13 FU _ _ _ _ _ h hO hS (lv_sub hl [1, 2, 0] rfl)
        · have h := it_f c4 h
          refine lv_bipush (v := (-14)) hx hb dX2_row_28 (by decide) ?_
          obtain ⟨e8, rfl⟩ := Prod.mk.inj (Option.some.inj h)
          exact g_retG hx hb hr hlocks e8 hO hS dX2_row_30
      · have h := it_f c3 h
        refine lv_iconst (v := (-1)) hx hb dX2_row_22 (by decide) ?_
        obtain ⟨e8, rfl⟩ := Prod.mk.inj (Option.some.inj h)
        exact g_retG hx hb hr hlocks e8 hO hS dX2_row_23
theorem clX2_row {p : Program} {l : Launch} {e : Env} {R : Room} {s : State} {m : MethodId} {args : Array Value} {below : List Frame} {meth : Method} {c : Code} {H : Heap} {locs : List Loc} {cells slots : Nat} {Q : State → Prop} {cc : ByteArray} {pc nL idx fr lo : Nat} {ls : Array Slot} {rest : List Value} {own : String} {D : va_G} {aC : Nat → ClassId} {o : Nat} {ad : Nat → Nat} {z : GS} {zq : GS} {A : Nat → Prop} {x1 : Int32} {x2 : Int32} {x3 : Int32} {r : Int32} (hf : CallFix p m c cc nL s args lw_all own) (hK : va_K D vwCl (tysG aC) s) (hO : OM D aC o ad z H) (hS : va_S A s.heap H locs) (hM : Met l yX2_row (ws_ yX2_row cX2_row 5 (some .int)) ({ frames := fr, cells := 0, slots := 0, locals := lo }) (va_Pc [.ref o, .int x1, .int x2, .int x3] (PM D aC o ad z)) (QG (some (.int r)) (OM D aC o ad zq) A) 0 0 A) (hq : Cond.methodLink own idx yX2_row ∈ lw_all) (hs : ls.size = nL) (hr : (rest.map fun v => v.category).sum ≤ 8) (hR : fr + 1 ≤ R.frames ∧ 8 + (5 + 11) + lo ≤ R.locals) (hcs : cells + 0 ≤ R.cells ∧ slots + 0 ≤ R.slots) (hd : decode cc pc = .ok (.invokevirtual idx, 3)) (kk : ∀ (H1 : Heap) (locs1 : List Loc), OM D aC o ad zq H1 → va_S A s.heap H1 locs1 → W p l e R s m args below meth c H1 locs1 cells slots Q (F0 m (pc + 3) ls (.int r :: rest))) : W p l e R s m args below meth c H locs cells slots Q (F0 m pc ls (.int x3 :: .int x2 :: .int x1 :: .ref o :: rest)) :=
  g_callG (W.runV (As := [.int x1, .int x2, .int x3]) (rest := rest) hf hM (cwV 3 hf.2.2.2.2 (lw_V hq q1979 q1980 q92 q1981) rfl rfl rfl (by decide +kernel) hR) ⟨fun a U g mk q => ⟨q.1, q.2.1, va_K.moved (u := U) (U := U.calling g mk a) (Vm.Alike.refl U.vm) q.2.2⟩, OA.recv hK hO rfl, fun U hU hW => ⟨rfl, by rw [hU]; exact hO, va_K.moved hW.alike hK⟩⟩ rfl rfl hs rfl (lv_room hr) hd hcs) hS (fun H1 locs1 hP hS _ _ => kk H1 locs1 hP hS)
theorem metX2_rowAt (l : Launch) (D : va_G) (aC : Nat → ClassId) (o : Nat) (ad : Nat → Nat) (x1 : Int32) (x2 : Int32) (z : GS) (r : Int32) (h : FX2_rowAt x1 x2 z = some r) : Met l yX2_rowAt (ws_ yX2_rowAt cX2_rowAt 3 (some .int)) ({ frames := 2, cells := 0, slots := 0, locals := 42 }) (va_Pc [.ref o, .int x1, .int x2] (PM D aC o ad z)) (QR (some (.int r))) 0 0 (fun _ => False) := by
  refine g_ofW (cc := cX2_rowAt) (maxL := 3) (ret := (some .int)) (own := RX2) (by decide) rfl rfl [.ref o, .int x1, .int x2] (PM D aC o ad z) (Nat.le_of_ble_eq_true rfl) ?_
  intro p e s m below meth c ls hx hb hr hml hts hown hlocks hnm hPre hl
  obtain ⟨hO, hK⟩ := hPre
  have hf : CallFix p m c cX2_rowAt 3 s _ lw_all RX2 := ⟨hx, hb, hml, hown, hts⟩
  have hl : lv_has ls 3 [(0, .ref o), (1, .int x1), (2, .int x2)] := hl
  unfold FX2_rowAt at h
  refine lv_iload_n hx hb dX2_rowAt_0 rfl (lv_at hl 1 rfl) ?_
  refine clX2_isShelf hf (metX2_isShelf l x1 _ rfl) q1879 hl.1 (Nat.le_of_ble_eq_true rfl) ⟨Nat.le_of_ble_eq_true rfl, Nat.le_of_ble_eq_true rfl⟩ ⟨Nat.le_of_ble_eq_true rfl, Nat.le_of_ble_eq_true rfl⟩ dX2_rowAt_1 ?_
  refine lv_if_ne (tgt := 11) hx hb dX2_rowAt_4 (by decide) (fun c1 => ?_) (fun c1 => ?_)
  · have h := it_f c1 h
    refine lv_aload_n hx hb dX2_rowAt_11 rfl (lv_at hl 0 rfl) ?_
    refine X2_getA hx hb hts hown hK hO 28 (by decide) rfl (hts _ q1565) dX2_rowAt_12 ?_
    refine lv_iload_n hx hb dX2_rowAt_15 rfl (lv_at hl 1 rfl) ?_
    obtain ⟨g2, h⟩ := grd h
    refine X2_iaload hx hb hK hO 28 (by decide) rfl rfl g2 dX2_rowAt_16 ?_
    refine lv_iconst (v := (-1)) hx hb dX2_rowAt_17 (by decide) ?_
    refine lv_icmp_ne (tgt := 26) hx hb dX2_rowAt_18 (by decide) (fun c3 => ?_) (fun c3 => ?_)
    · have h := it_f c3 h
      refine lv_aload_n hx hb dX2_rowAt_26 rfl (lv_at hl 0 rfl) ?_
      refine X2_getA hx hb hts hown hK hO 28 (by decide) rfl (hts _ q1565) dX2_rowAt_27 ?_
      refine lv_iload_n hx hb dX2_rowAt_30 rfl (lv_at hl 1 rfl) ?_
      obtain ⟨g4, h⟩ := grd h
      refine X2_iaload hx hb hK hO 28 (by decide) rfl rfl g4 dX2_rowAt_31 ?_
      refine lv_iconst (v := 4) hx hb dX2_rowAt_32 (by decide) ?_
      refine lv_icmp_le (tgt := 41) hx hb dX2_rowAt_33 (by decide) (fun c5 => ?_) (fun c5 => ?_)
      · have h := it_t c5 h
        refine lv_iload_n hx hb dX2_rowAt_41 rfl (lv_at hl 2 rfl) ?_
        refine lv_iconst (v := 0) hx hb dX2_rowAt_42 (by decide) ?_
        refine lv_aload_n hx hb dX2_rowAt_43 rfl (lv_at hl 0 rfl) ?_
        refine X2_getA hx hb hts hown hK hO 29 (by decide) rfl (hts _ q1566) dX2_rowAt_44 ?_
        refine lv_iload_n hx hb dX2_rowAt_47 rfl (lv_at hl 1 rfl) ?_
        obtain ⟨g6, h⟩ := grd h
        refine X2_iaload hx hb hK hO 29 (by decide) rfl rfl g6 dX2_rowAt_48 ?_
        refine lv_iconst (v := 1) hx hb dX2_rowAt_49 (by decide) ?_
        refine lv_isub hx hb dX2_rowAt_50 ?_
        refine clX2_isIn hf (metX2_isIn l x2 0 ((gI z 29 x1) - 1) _ rfl) q1675 hl.1 (Nat.le_of_ble_eq_true rfl) ⟨Nat.le_of_ble_eq_true rfl, Nat.le_of_ble_eq_true rfl⟩ ⟨Nat.le_of_ble_eq_true rfl, Nat.le_of_ble_eq_true rfl⟩ dX2_rowAt_51 ?_
        refine lv_if_ne (tgt := 62) hx hb dX2_rowAt_54 (by decide) (fun c7 => ?_) (fun c7 => ?_)
        · have h := it_f c7 h
          refine lv_iconst (v := 1) hx hb dX2_rowAt_62 (by decide) ?_
          exact g_retR hx hb hr hlocks (Option.some.inj h) dX2_rowAt_63
        · have h := it_t c7 h
          refine lv_bipush (v := (-13)) hx hb dX2_rowAt_57 (by decide) ?_
          refine lv_goto (tgt := 63) hx hb dX2_rowAt_59 (by decide) ?_
          exact g_retR hx hb hr hlocks (Option.some.inj h) dX2_rowAt_63
      · have h := it_f c5 h
        refine lv_bipush (v := (-12)) hx hb dX2_rowAt_36 (by decide) ?_
        refine lv_goto (tgt := 63) hx hb dX2_rowAt_38 (by decide) ?_
        exact g_retR hx hb hr hlocks (Option.some.inj h) dX2_rowAt_63
    · have h := it_t c3 h
      refine lv_bipush (v := (-11)) hx hb dX2_rowAt_21 (by decide) ?_
      refine lv_goto (tgt := 63) hx hb dX2_rowAt_23 (by decide) ?_
      exact g_retR hx hb hr hlocks (Option.some.inj h) dX2_rowAt_63
  · have h := it_t c1 h
    refine lv_iconst (v := (-1)) hx hb dX2_rowAt_7 (by decide) ?_
    refine lv_goto (tgt := 63) hx hb dX2_rowAt_8 (by decide) ?_
    exact g_retR hx hb hr hlocks (Option.some.inj h) dX2_rowAt_63
theorem clX2_rowAt {p : Program} {l : Launch} {e : Env} {R : Room} {s : State} {m : MethodId} {args : Array Value} {below : List Frame} {meth : Method} {c : Code} {H : Heap} {locs : List Loc} {cells slots : Nat} {Q : State → Prop} {cc : ByteArray} {pc nL idx fr lo : Nat} {ls : Array Slot} {rest : List Value} {own : String} {D : va_G} {aC : Nat → ClassId} {o : Nat} {ad : Nat → Nat} {z : GS} {x1 : Int32} {x2 : Int32} {r : Int32} (hf : CallFix p m c cc nL s args lw_all own) (hK : va_K D vwCl (tysG aC) s) (hO : OM D aC o ad z H) (hM : Met l yX2_rowAt (ws_ yX2_rowAt cX2_rowAt 3 (some .int)) ({ frames := fr, cells := 0, slots := 0, locals := lo }) (va_Pc [.ref o, .int x1, .int x2] (PM D aC o ad z)) (QR (some (.int r))) 0 0 (fun _ => False)) (hq : Cond.methodLink own idx yX2_rowAt ∈ lw_all) (hs : ls.size = nL) (hr : (rest.map fun v => v.category).sum ≤ 8) (hR : fr + 1 ≤ R.frames ∧ 8 + (3 + 11) + lo ≤ R.locals) (hcs : cells + 0 ≤ R.cells ∧ slots + 0 ≤ R.slots) (hd : decode cc pc = .ok (.invokevirtual idx, 3)) (kk : W p l e R s m args below meth c H locs cells slots Q (F0 m (pc + 3) ls (.int r :: rest))) : W p l e R s m args below meth c H locs cells slots Q (F0 m pc ls (.int x2 :: .int x1 :: .ref o :: rest)) :=
  g_callR (W.runV (As := [.int x1, .int x2]) (rest := rest) hf hM (cwV 2 hf.2.2.2.2 (lw_V hq q1988 qs88 q92 q1989) rfl rfl rfl (by decide +kernel) hR) ⟨fun a U g mk q => ⟨q.1, q.2.1, va_K.moved (u := U) (U := U.calling g mk a) (Vm.Alike.refl U.vm) q.2.2⟩, OA.recv hK hO rfl, fun U hU hW => ⟨rfl, by rw [hU]; exact hO, va_K.moved hW.alike hK⟩⟩ rfl rfl hs rfl (lv_room hr) hd hcs) kk
theorem metX2_put (l : Launch) (D : va_G) (aC : Nat → ClassId) (o : Nat) (ad : Nat → Nat) (A : Nat → Prop) (hD : OD A 44 kdM o ad) (x1 : Int32) (x2 : Int32) (x3 : Int64) (z : GS) (r : Int32) (zq : GS) (h : FX2_put x1 x2 x3 z = some (r, zq)) : Met l yX2_put (ws_ yX2_put cX2_put 7 (some .int)) ({ frames := 3, cells := 0, slots := 0, locals := 64 }) (va_Pc [.ref o, .int x1, .int x2, .long x3] (PM D aC o ad z)) (QG (some (.int r)) (OM D aC o ad zq) A) 0 0 A := by
  refine g_ofW (cc := cX2_put) (maxL := 7) (ret := (some .int)) (own := RX2) (by decide) rfl rfl [.ref o, .int x1, .int x2, .long x3] (PM D aC o ad z) (Nat.le_of_ble_eq_true rfl) ?_
  intro p e s m below meth c ls hx hb hr hml hts hown hlocks hnm hPre hl
  obtain ⟨hO, hK⟩ := hPre
  have hf : CallFix p m c cX2_put 7 s _ lw_all RX2 := ⟨hx, hb, hml, hown, hts⟩
  have hl : lv_has ls 7 [(0, .ref o), (1, .int x1), (2, .int x2), (3, .long x3)] := hl
  refine g_open (A := A) (OM D aC o ad z) hO (fun H locs hO hS => ?_)
  unfold FX2_put at h
  refine lv_aload_n hx hb dX2_put_0 rfl (lv_at hl 0 rfl) ?_
  refine lv_iload_n hx hb dX2_put_1 rfl (lv_at hl 1 rfl) ?_
  refine lv_iload_n hx hb dX2_put_2 rfl (lv_at hl 2 rfl) ?_
  obtain ⟨r1, e2, h⟩ := bn1_e h
  refine clX2_rowAt hf hK hO (metX2_rowAt l D aC o ad x1 x2 z r1 e2) q1986 hl.1 (Nat.le_of_ble_eq_true rfl) ⟨Nat.le_of_ble_eq_true rfl, Nat.le_of_ble_eq_true rfl⟩ ⟨Nat.le_of_ble_eq_true rfl, Nat.le_of_ble_eq_true rfl⟩ dX2_put_3 ?_
  refine lv_istore (lv' := [(5, .int r1), (0, .ref o), (1, .int x1), (2, .int x2), (3, .long x3)]) hx hb dX2_put_6 hl (by decide) rfl (fun ls hl => ?_)
  refine lv_iload hx hb dX2_put_8 (lv_at hl 0 rfl) ?_
  refine lv_iconst (v := 1) hx hb dX2_put_10 (by decide) ?_
  refine lv_icmp_ge (tgt := 17) hx hb dX2_put_11 (by decide) (fun c3 => ?_) (fun c3 => ?_)
  · have h := it_t c3 h
    refine lv_aload_n hx hb dX2_put_17 rfl (lv_at hl 1 rfl) ?_
    refine X2_getA hx hb hts hown hK hO 28 (by decide) rfl (hts _ q1565) dX2_put_18 ?_
    refine lv_iload_n hx hb dX2_put_21 rfl (lv_at hl 2 rfl) ?_
    obtain ⟨g4, h⟩ := grd h
    refine X2_iaload hx hb hK hO 28 (by decide) rfl rfl g4 dX2_put_22 ?_
    refine lv_topi (fun y5 ey5 => ?_)
    have h := pin_to ey5 h
    refine lv_istore (lv' := [(6, .int y5), (5, .int r1), (0, .ref o), (1, .int x1), (2, .int x2), (3, .long x3)]) hx hb dX2_put_23 hl (by decide) rfl (fun ls hl => ?_)
    refine lv_aload_n hx hb dX2_put_25 rfl (lv_at hl 2 rfl) ?_
    refine X2_getA hx hb hts hown hK hO 30 (by decide) rfl (hts _ q1567) dX2_put_26 ?_
    refine lv_bipush (v := 60) hx hb dX2_put_29 (by decide) ?_
    refine lv_iload_n hx hb dX2_put_31 rfl (lv_at hl 3 rfl) ?_
    refine lv_imul hx hb dX2_put_32 ?_
    refine lv_iload_n hx hb dX2_put_33 rfl (lv_at hl 4 rfl) ?_
    refine lv_iadd hx hb dX2_put_34 ?_
    refine lv_iload hx hb dX2_put_35 (lv_at hl 0 rfl) ?_
    obtain ⟨k7, e10, h⟩ := pin_nm2 h
    have hk7 : ∀ (u6 : Int64) (ls : Array Slot), k7 u6 = some (r, zq) → lv_has ls 7 [(0, .ref o)] → W p l e ({ frames := 3, cells := 0, slots := 0, locals := 64 }) s m ([.ref o, .int x1, .int x2, .long x3] : List Value).toArray below meth c H locs 0 0 (MQ below (QG (some (.int r)) (OM D aC o ad zq) A) ([.ref o, .int x1, .int x2, .long x3] : List Value).toArray s 0 0 A) (F0 m 93 ls [.long u6, .int ((60 * x1) + x2), .ref (ad 30)]) := by
      intro u6 ls h hl
      rw [e10] at h
      obtain ⟨g8, h⟩ := grd h
      refine X2_lastore hx hb hK hO hD hS 30 (by decide) rfl rfl g8 dX2_put_93 (fun H locs z9 ez9 hO hS => ?_)
      have h := pin_to ez9 h
      refine lv_iconst (v := 1) hx hb dX2_put_94 (by decide) ?_
      obtain ⟨e8, rfl⟩ := Prod.mk.inj (Option.some.inj h)
      exact g_retG hx hb hr hlocks e8 hO hS dX2_put_95
    refine lv_if_ne (tgt := 47) hx hb dX2_put_37 (by decide) (fun c11 => ?_) (fun c11 => ?_)
    · have h := pt_f (k := k7) c11 h
      refine lv_iload hx hb dX2_put_47 (lv_at hl 0 rfl) ?_
      refine lv_iconst (v := 1) hx hb dX2_put_49 (by decide) ?_
      refine lv_icmp_ne (tgt := 60) hx hb dX2_put_50 (by decide) (fun c12 => ?_) (fun c12 => ?_)
      · have h := pt_f (k := k7) c12 h
        refine lv_iload hx hb dX2_put_60 (lv_at hl 0 rfl) ?_
        refine lv_iconst (v := 2) hx hb dX2_put_62 (by decide) ?_
        refine lv_icmp_ne (tgt := 72) hx hb dX2_put_63 (by decide) (fun c13 => ?_) (fun c13 => ?_)
        · have h := pt_f (k := k7) c13 h
          refine lv_iload hx hb dX2_put_72 (lv_at hl 0 rfl) ?_
          refine lv_iconst (v := 3) hx hb dX2_put_74 (by decide) ?_
          refine lv_icmp_ne (tgt := 82) hx hb dX2_put_75 (by decide) (fun c14 => ?_) (fun c14 => ?_)
          · have h := pt_f (k := k7) c14 h
            refine lv_lload_n hx hb dX2_put_82 rfl (lv_at hl 5 rfl) ?_
            refine lv_lconst (v := 0) hx hb dX2_put_83 (by decide) ?_
            refine W.lcmp hx hb dX2_put_84 ?_
            refine lv_if_eq (tgt := 92) hx hb dX2_put_85 (by decide) (fun c15 => ?_) (fun c15 => ?_)
            · have h := pt_t (k := k7) c15 h
              refine lv_lconst (v := 0) hx hb dX2_put_92 (by decide) ?_
              exact hk7 _ _ h (lv_sub hl [2] rfl)
            · have h := pt_f (k := k7) c15 h
              refine lv_lconst (v := 1) hx hb dX2_put_88 (by decide) ?_
              refine lv_goto (tgt := 93) hx hb dX2_put_89 (by decide) ?_
              exact hk7 _ _ h (lv_sub hl [2] rfl)
          · have h := pt_t (k := k7) c14 h
            refine lv_lload_n hx hb dX2_put_78 rfl (lv_at hl 5 rfl) ?_
            refine lv_goto (tgt := 93) hx hb dX2_put_79 (by decide) ?_
            exact hk7 _ _ h (lv_sub hl [2] rfl)
        · have h := pt_t (k := k7) c13 h
          refine lv_lload_n hx hb dX2_put_66 rfl (lv_at hl 5 rfl) ?_
          refine lv_l2i (v := (x3.toInt32)) hx hb dX2_put_67 rfl ?_
          refine lv_i2l (v := ((x3.toInt32).toInt64)) hx hb dX2_put_68 rfl ?_
          refine lv_goto (tgt := 93) hx hb dX2_put_69 (by decide) ?_
          exact hk7 _ _ h (lv_sub hl [2] rfl)
      · have h := pt_t (k := k7) c12 h
        refine lv_lload_n hx hb dX2_put_53 rfl (lv_at hl 5 rfl) ?_
        refine lv_l2i (v := (x3.toInt32)) hx hb dX2_put_54 rfl ?_
        refine lv_i2s (v := ((x3.toInt32).toInt16.toInt32)) hx hb dX2_put_55 rfl ?_
        refine lv_i2l (v := (((x3.toInt32).toInt16.toInt32).toInt64)) hx hb dX2_put_56 rfl ?_
        refine lv_goto (tgt := 93) hx hb dX2_put_57 (by decide) ?_
        exact hk7 _ _ h (lv_sub hl [2] rfl)
    · have h := pt_t (k := k7) c11 h
      refine lv_lload_n hx hb dX2_put_40 rfl (lv_at hl 5 rfl) ?_
      refine lv_l2i (v := (x3.toInt32)) hx hb dX2_put_41 rfl ?_
      refine lv_i2b (v := ((x3.toInt32).toInt8.toInt32)) hx hb dX2_put_42 rfl ?_
      refine lv_i2l (v := (((x3.toInt32).toInt8.toInt32).toInt64)) hx hb dX2_put_43 rfl ?_
      refine lv_goto (tgt := 93) hx hb dX2_put_44 (by decide) ?_
      exact hk7 _ _ h (lv_sub hl [2] rfl)
  · have h := it_f c3 h
    refine lv_iload hx hb dX2_put_14 (lv_at hl 0 rfl) ?_
    obtain ⟨e8, rfl⟩ := Prod.mk.inj (Option.some.inj h)
    exact g_retG hx hb hr hlocks e8 hO hS dX2_put_16
theorem clX2_put {p : Program} {l : Launch} {e : Env} {R : Room} {s : State} {m : MethodId} {args : Array Value} {below : List Frame} {meth : Method} {c : Code} {H : Heap} {locs : List Loc} {cells slots : Nat} {Q : State → Prop} {cc : ByteArray} {pc nL idx fr lo : Nat} {ls : Array Slot} {rest : List Value} {own : String} {D : va_G} {aC : Nat → ClassId} {o : Nat} {ad : Nat → Nat} {z : GS} {zq : GS} {A : Nat → Prop} {x1 : Int32} {x2 : Int32} {x3 : Int64} {r : Int32} (hf : CallFix p m c cc nL s args lw_all own) (hK : va_K D vwCl (tysG aC) s) (hO : OM D aC o ad z H) (hS : va_S A s.heap H locs) (hM : Met l yX2_put (ws_ yX2_put cX2_put 7 (some .int)) ({ frames := fr, cells := 0, slots := 0, locals := lo }) (va_Pc [.ref o, .int x1, .int x2, .long x3] (PM D aC o ad z)) (QG (some (.int r)) (OM D aC o ad zq) A) 0 0 A) (hq : Cond.methodLink own idx yX2_put ∈ lw_all) (hs : ls.size = nL) (hr : (rest.map fun v => v.category).sum ≤ 8) (hR : fr + 1 ≤ R.frames ∧ 8 + (7 + 11) + lo ≤ R.locals) (hcs : cells + 0 ≤ R.cells ∧ slots + 0 ≤ R.slots) (hd : decode cc pc = .ok (.invokevirtual idx, 3)) (kk : ∀ (H1 : Heap) (locs1 : List Loc), OM D aC o ad zq H1 → va_S A s.heap H1 locs1 → W p l e R s m args below meth c H1 locs1 cells slots Q (F0 m (pc + 3) ls (.int r :: rest))) : W p l e R s m args below meth c H locs cells slots Q (F0 m pc ls (.long x3 :: .int x2 :: .int x1 :: .ref o :: rest)) :=
  g_callG (W.runV (As := [.int x1, .int x2, .long x3]) (rest := rest) hf hM (cwV 3 hf.2.2.2.2 (lw_V hq q1983 q1984 q92 q1985) rfl rfl rfl (by decide +kernel) hR) ⟨fun a U g mk q => ⟨q.1, q.2.1, va_K.moved (u := U) (U := U.calling g mk a) (Vm.Alike.refl U.vm) q.2.2⟩, OA.recv hK hO rfl, fun U hU hW => ⟨rfl, by rw [hU]; exact hO, va_K.moved hW.alike hK⟩⟩ rfl rfl hs rfl (lv_room hr) hd hcs) hS (fun H1 locs1 hP hS _ _ => kk H1 locs1 hP hS)
theorem metX2_element (l : Launch) (D : va_G) (aC : Nat → ClassId) (o : Nat) (ad : Nat → Nat) (x1 : Int32) (x2 : Int32) (z : GS) (r : Int64) (h : FX2_element x1 x2 z = some r) : Met l yX2_element (ws_ yX2_element cX2_element 3 (some .long)) ({ frames := 3, cells := 0, slots := 0, locals := 64 }) (va_Pc [.ref o, .int x1, .int x2] (PM D aC o ad z)) (QR (some (.long r))) 0 0 (fun _ => False) := by
  refine g_ofW (cc := cX2_element) (maxL := 3) (ret := (some .long)) (own := RX2) (by decide) rfl rfl [.ref o, .int x1, .int x2] (PM D aC o ad z) (Nat.le_of_ble_eq_true rfl) ?_
  intro p e s m below meth c ls hx hb hr hml hts hown hlocks hnm hPre hl
  obtain ⟨hO, hK⟩ := hPre
  have hf : CallFix p m c cX2_element 3 s _ lw_all RX2 := ⟨hx, hb, hml, hown, hts⟩
  have hl : lv_has ls 3 [(0, .ref o), (1, .int x1), (2, .int x2)] := hl
  unfold FX2_element at h
  refine lv_aload_n hx hb dX2_element_0 rfl (lv_at hl 0 rfl) ?_
  refine lv_iload_n hx hb dX2_element_1 rfl (lv_at hl 1 rfl) ?_
  refine lv_iload_n hx hb dX2_element_2 rfl (lv_at hl 2 rfl) ?_
  obtain ⟨r1, e2, h⟩ := bn1_e h
  refine clX2_rowAt hf hK hO (metX2_rowAt l D aC o ad x1 x2 z r1 e2) q1986 hl.1 (Nat.le_of_ble_eq_true rfl) ⟨Nat.le_of_ble_eq_true rfl, Nat.le_of_ble_eq_true rfl⟩ ⟨Nat.le_of_ble_eq_true rfl, Nat.le_of_ble_eq_true rfl⟩ dX2_element_3 ?_
  refine lv_iconst (v := 1) hx hb dX2_element_6 (by decide) ?_
  refine lv_icmp_ne (tgt := 24) hx hb dX2_element_7 (by decide) (fun c3 => ?_) (fun c3 => ?_)
  · have h := it_f c3 h
    refine lv_ldc2 (v := (-9223372036854775808)) hx hb hown (hts _ q1908) dX2_element_24 ?_
    exact g_retRl hx hb hr hlocks (Option.some.inj h) dX2_element_27
  · have h := it_t c3 h
    refine lv_aload_n hx hb dX2_element_10 rfl (lv_at hl 0 rfl) ?_
    refine X2_getA hx hb hts hown hK hO 30 (by decide) rfl (hts _ q1567) dX2_element_11 ?_
    refine lv_bipush (v := 60) hx hb dX2_element_14 (by decide) ?_
    refine lv_iload_n hx hb dX2_element_16 rfl (lv_at hl 1 rfl) ?_
    refine lv_imul hx hb dX2_element_17 ?_
    refine lv_iload_n hx hb dX2_element_18 rfl (lv_at hl 2 rfl) ?_
    refine lv_iadd hx hb dX2_element_19 ?_
    obtain ⟨g4, h⟩ := grd h
    refine X2_laload hx hb hK hO 30 (by decide) rfl rfl g4 dX2_element_20 ?_
    refine lv_goto (tgt := 27) hx hb dX2_element_21 (by decide) ?_
    exact g_retRl hx hb hr hlocks (Option.some.inj h) dX2_element_27
theorem clX2_element {p : Program} {l : Launch} {e : Env} {R : Room} {s : State} {m : MethodId} {args : Array Value} {below : List Frame} {meth : Method} {c : Code} {H : Heap} {locs : List Loc} {cells slots : Nat} {Q : State → Prop} {cc : ByteArray} {pc nL idx fr lo : Nat} {ls : Array Slot} {rest : List Value} {own : String} {D : va_G} {aC : Nat → ClassId} {o : Nat} {ad : Nat → Nat} {z : GS} {x1 : Int32} {x2 : Int32} {r : Int64} (hf : CallFix p m c cc nL s args lw_all own) (hK : va_K D vwCl (tysG aC) s) (hO : OM D aC o ad z H) (hM : Met l yX2_element (ws_ yX2_element cX2_element 3 (some .long)) ({ frames := fr, cells := 0, slots := 0, locals := lo }) (va_Pc [.ref o, .int x1, .int x2] (PM D aC o ad z)) (QR (some (.long r))) 0 0 (fun _ => False)) (hq : Cond.methodLink own idx yX2_element ∈ lw_all) (hs : ls.size = nL) (hr : (rest.map fun v => v.category).sum ≤ 8) (hR : fr + 1 ≤ R.frames ∧ 8 + (3 + 11) + lo ≤ R.locals) (hcs : cells + 0 ≤ R.cells ∧ slots + 0 ≤ R.slots) (hd : decode cc pc = .ok (.invokevirtual idx, 3)) (kk : W p l e R s m args below meth c H locs cells slots Q (F0 m (pc + 3) ls (.long r :: rest))) : W p l e R s m args below meth c H locs cells slots Q (F0 m pc ls (.int x2 :: .int x1 :: .ref o :: rest)) :=
  g_callR (W.runV (As := [.int x1, .int x2]) (rest := rest) hf hM (cwV 2 hf.2.2.2.2 (lw_V hq q1991 q1992 q92 q1993) rfl rfl rfl (by decide +kernel) hR) ⟨fun a U g mk q => ⟨q.1, q.2.1, va_K.moved (u := U) (U := U.calling g mk a) (Vm.Alike.refl U.vm) q.2.2⟩, OA.recv hK hO rfl, fun U hU hW => ⟨rfl, by rw [hU]; exact hO, va_K.moved hW.alike hK⟩⟩ rfl rfl hs rfl (lv_room hr) hd hcs) kk
theorem metX2_shift (l : Launch) (D : va_G) (aC : Nat → ClassId) (o : Nat) (ad : Nat → Nat) (A : Nat → Prop) (hD : OD A 44 kdM o ad) (x1 : Int32) (x2 : Int32) (x3 : Int32) (x4 : Int32) (x5 : Int32) (z : GS) (r : Int32) (zq : GS) (h : FX2_shift x1 x2 x3 x4 x5 z = some (r, zq)) : Met l yX2_shift (ws_ yX2_shift cX2_shift 7 (some .int)) ({ frames := 2, cells := 0, slots := 0, locals := 42 }) (va_Pc [.ref o, .int x1, .int x2, .int x3, .int x4, .int x5] (PM D aC o ad z)) (QG (some (.int r)) (OM D aC o ad zq) A) 0 0 A := by
  refine g_ofW (cc := cX2_shift) (maxL := 7) (ret := (some .int)) (own := RX2) (by decide) rfl rfl [.ref o, .int x1, .int x2, .int x3, .int x4, .int x5] (PM D aC o ad z) (Nat.le_of_ble_eq_true rfl) ?_
  intro p e s m below meth c ls hx hb hr hml hts hown hlocks hnm hPre hl
  obtain ⟨hO, hK⟩ := hPre
  have hf : CallFix p m c cX2_shift 7 s _ lw_all RX2 := ⟨hx, hb, hml, hown, hts⟩
  have hl : lv_has ls 7 [(0, .ref o), (1, .int x1), (2, .int x2), (3, .int x3), (4, .int x4), (5, .int x5)] := hl
  refine g_open (A := A) (OM D aC o ad z) hO (fun H locs hO hS => ?_)
  unfold FX2_shift at h
  refine lv_iload_n hx hb dX2_shift_0 rfl (lv_at hl 1 rfl) ?_
  refine clX2_isShelf hf (metX2_isShelf l x1 _ rfl) q1879 hl.1 (Nat.le_of_ble_eq_true rfl) ⟨Nat.le_of_ble_eq_true rfl, Nat.le_of_ble_eq_true rfl⟩ ⟨Nat.le_of_ble_eq_true rfl, Nat.le_of_ble_eq_true rfl⟩ dX2_shift_1 ?_
  refine lv_if_eq (tgt := 14) hx hb dX2_shift_4 (by decide) (fun c1 => ?_) (fun c1 => ?_)
  · have h := it_t c1 h
    refine lv_iconst (v := (-1)) hx hb dX2_shift_14 (by decide) ?_
    obtain ⟨e8, rfl⟩ := Prod.mk.inj (Option.some.inj h)
    exact g_retG hx hb hr hlocks e8 hO hS dX2_shift_15
  · have h := it_f c1 h
    refine lv_iload_n hx hb dX2_shift_7 rfl (lv_at hl 3 rfl) ?_
    refine clX2_isShelf hf (metX2_isShelf l x3 _ rfl) q1879 hl.1 (Nat.le_of_ble_eq_true rfl) ⟨Nat.le_of_ble_eq_true rfl, Nat.le_of_ble_eq_true rfl⟩ ⟨Nat.le_of_ble_eq_true rfl, Nat.le_of_ble_eq_true rfl⟩ dX2_shift_8 ?_
    refine lv_if_ne (tgt := 16) hx hb dX2_shift_11 (by decide) (fun c2 => ?_) (fun c2 => ?_)
    · have h := it_f c2 h
      refine lv_aload_n hx hb dX2_shift_16 rfl (lv_at hl 0 rfl) ?_
      refine X2_getA hx hb hts hown hK hO 28 (by decide) rfl (hts _ q1565) dX2_shift_17 ?_
      refine lv_iload_n hx hb dX2_shift_20 rfl (lv_at hl 1 rfl) ?_
      obtain ⟨g3, h⟩ := grd h
      refine X2_iaload hx hb hK hO 28 (by decide) rfl rfl g3 dX2_shift_21 ?_
      refine lv_iconst (v := (-1)) hx hb dX2_shift_22 (by decide) ?_
      refine lv_icmp_eq (tgt := 36) hx hb dX2_shift_23 (by decide) (fun c4 => ?_) (fun c4 => ?_)
      · have h := it_t c4 h
        refine lv_bipush (v := (-11)) hx hb dX2_shift_36 (by decide) ?_
        obtain ⟨e8, rfl⟩ := Prod.mk.inj (Option.some.inj h)
        exact g_retG hx hb hr hlocks e8 hO hS dX2_shift_38
      · have h := it_f c4 h
        refine lv_aload_n hx hb dX2_shift_26 rfl (lv_at hl 0 rfl) ?_
        refine X2_getA hx hb hts hown hK hO 28 (by decide) rfl (hts _ q1565) dX2_shift_27 ?_
        refine lv_iload_n hx hb dX2_shift_30 rfl (lv_at hl 3 rfl) ?_
        obtain ⟨g5, h⟩ := grd h
        refine X2_iaload hx hb hK hO 28 (by decide) rfl rfl g5 dX2_shift_31 ?_
        refine lv_iconst (v := (-1)) hx hb dX2_shift_32 (by decide) ?_
        refine lv_icmp_ne (tgt := 39) hx hb dX2_shift_33 (by decide) (fun c6 => ?_) (fun c6 => ?_)
        · have h := it_f c6 h
          refine lv_aload_n hx hb dX2_shift_39 rfl (lv_at hl 0 rfl) ?_
          refine X2_getA hx hb hts hown hK hO 28 (by decide) rfl (hts _ q1565) dX2_shift_40 ?_
          refine lv_iload_n hx hb dX2_shift_43 rfl (lv_at hl 1 rfl) ?_
          obtain ⟨g7, h⟩ := grd h
          refine X2_iaload hx hb hK hO 28 (by decide) rfl rfl g7 dX2_shift_44 ?_
          refine lv_iconst (v := 4) hx hb dX2_shift_45 (by decide) ?_
          refine lv_icmp_gt (tgt := 64) hx hb dX2_shift_46 (by decide) (fun c8 => ?_) (fun c8 => ?_)
          · have h := it_t c8 h
            refine lv_bipush (v := (-12)) hx hb dX2_shift_64 (by decide) ?_
            obtain ⟨e8, rfl⟩ := Prod.mk.inj (Option.some.inj h)
            exact g_retG hx hb hr hlocks e8 hO hS dX2_shift_66
          · have h := it_f c8 h
            refine lv_aload_n hx hb dX2_shift_49 rfl (lv_at hl 0 rfl) ?_
            refine X2_getA hx hb hts hown hK hO 28 (by decide) rfl (hts _ q1565) dX2_shift_50 ?_
            refine lv_iload_n hx hb dX2_shift_53 rfl (lv_at hl 1 rfl) ?_
            obtain ⟨g9, h⟩ := grd h
            refine X2_iaload hx hb hK hO 28 (by decide) rfl rfl g9 dX2_shift_54 ?_
            refine lv_aload_n hx hb dX2_shift_55 rfl (lv_at hl 0 rfl) ?_
            refine X2_getA hx hb hts hown hK hO 28 (by decide) rfl (hts _ q1565) dX2_shift_56 ?_
            refine lv_iload_n hx hb dX2_shift_59 rfl (lv_at hl 3 rfl) ?_
            obtain ⟨g10, h⟩ := grd h
            refine X2_iaload hx hb hK hO 28 (by decide) rfl rfl g10 dX2_shift_60 ?_
            refine lv_icmp_eq (tgt := 67) hx hb dX2_shift_61 (by decide) (fun c11 => ?_) (fun c11 => ?_)
            · have h := it_t c11 h
              refine lv_iload hx hb dX2_shift_67 (lv_at hl 5 rfl) ?_
              refine lv_if_lt (tgt := 108) hx hb dX2_shift_69 (by decide) (fun c12 => ?_) (fun c12 => ?_)
              · have h := it_t c12 h
                refine lv_bipush (v := (-13)) hx hb dX2_shift_108 (by decide) ?_
                obtain ⟨e8, rfl⟩ := Prod.mk.inj (Option.some.inj h)
                exact g_retG hx hb hr hlocks e8 hO hS dX2_shift_110
              · have h := it_f c12 h
                refine lv_iload_n hx hb dX2_shift_72 rfl (lv_at hl 2 rfl) ?_
                refine lv_if_lt (tgt := 108) hx hb dX2_shift_73 (by decide) (fun c13 => ?_) (fun c13 => ?_)
                · have h := it_t c13 h
                  refine lv_bipush (v := (-13)) hx hb dX2_shift_108 (by decide) ?_
                  obtain ⟨e8, rfl⟩ := Prod.mk.inj (Option.some.inj h)
                  exact g_retG hx hb hr hlocks e8 hO hS dX2_shift_110
                · have h := it_f c13 h
                  refine lv_iload hx hb dX2_shift_76 (lv_at hl 4 rfl) ?_
                  refine lv_if_lt (tgt := 108) hx hb dX2_shift_78 (by decide) (fun c14 => ?_) (fun c14 => ?_)
                  · have h := it_t c14 h
                    refine lv_bipush (v := (-13)) hx hb dX2_shift_108 (by decide) ?_
                    obtain ⟨e8, rfl⟩ := Prod.mk.inj (Option.some.inj h)
                    exact g_retG hx hb hr hlocks e8 hO hS dX2_shift_110
                  · have h := it_f c14 h
                    refine lv_iload hx hb dX2_shift_81 (lv_at hl 5 rfl) ?_
                    refine lv_aload_n hx hb dX2_shift_83 rfl (lv_at hl 0 rfl) ?_
                    refine X2_getA hx hb hts hown hK hO 29 (by decide) rfl (hts _ q1566) dX2_shift_84 ?_
                    refine lv_iload_n hx hb dX2_shift_87 rfl (lv_at hl 1 rfl) ?_
                    obtain ⟨g15, h⟩ := grd h
                    refine X2_iaload hx hb hK hO 29 (by decide) rfl rfl g15 dX2_shift_88 ?_
                    refine lv_iload_n hx hb dX2_shift_89 rfl (lv_at hl 2 rfl) ?_
                    refine lv_isub hx hb dX2_shift_90 ?_
                    refine lv_icmp_gt (tgt := 108) hx hb dX2_shift_91 (by decide) (fun c16 => ?_) (fun c16 => ?_)
                    · have h := it_t c16 h
                      refine lv_bipush (v := (-13)) hx hb dX2_shift_108 (by decide) ?_
                      obtain ⟨e8, rfl⟩ := Prod.mk.inj (Option.some.inj h)
                      exact g_retG hx hb hr hlocks e8 hO hS dX2_shift_110
                    · have h := it_f c16 h
                      refine lv_iload hx hb dX2_shift_94 (lv_at hl 5 rfl) ?_
                      refine lv_aload_n hx hb dX2_shift_96 rfl (lv_at hl 0 rfl) ?_
                      refine X2_getA hx hb hts hown hK hO 29 (by decide) rfl (hts _ q1566) dX2_shift_97 ?_
                      refine lv_iload_n hx hb dX2_shift_100 rfl (lv_at hl 3 rfl) ?_
                      obtain ⟨g17, h⟩ := grd h
                      refine X2_iaload hx hb hK hO 29 (by decide) rfl rfl g17 dX2_shift_101 ?_
                      refine lv_iload hx hb dX2_shift_102 (lv_at hl 4 rfl) ?_
                      refine lv_isub hx hb dX2_shift_104 ?_
                      refine lv_icmp_le (tgt := 111) hx hb dX2_shift_105 (by decide) (fun c18 => ?_) (fun c18 => ?_)
                      · have h := it_t c18 h
                        refine lv_iconst (v := 0) hx hb dX2_shift_111 (by decide) ?_
                        refine lv_istore (lv' := [(6, .int 0), (0, .ref o), (1, .int x1), (2, .int x2), (3, .int x3), (4, .int x4), (5, .int x5)]) hx hb dX2_shift_112 hl (by decide) rfl (fun ls hl => ?_)
                        obtain ⟨k19, e33, h⟩ := pin_nm h
                        have hk19 : ∀  (z20 : GS) (H : Heap) (locs : List Loc) (ls : Array Slot), k19  z20 = some (r, zq) → OM D aC o ad z20 H → va_S A s.heap H locs → lv_has ls 7 [(0, .ref o), (3, .int x3), (4, .int x4), (5, .int x5)] → W p l e ({ frames := 2, cells := 0, slots := 0, locals := 42 }) s m ([.ref o, .int x1, .int x2, .int x3, .int x4, .int x5] : List Value).toArray below meth c H locs 0 0 (MQ below (QG (some (.int r)) (OM D aC o ad zq) A) ([.ref o, .int x1, .int x2, .int x3, .int x4, .int x5] : List Value).toArray s 0 0 A) (F0 m 148 ls []) := by
                          intro  z20 H locs ls h hO hS hl
                          rw [e33] at h
                          refine lv_iconst (v := 0) hx hb dX2_shift_148 (by decide) ?_
                          refine lv_istore (lv' := [(6, .int 0), (0, .ref o), (3, .int x3), (4, .int x4), (5, .int x5)]) hx hb dX2_shift_149 hl (by decide) rfl (fun ls hl => ?_)
                          have key26 : ∀ (f : Nat) (v6 : Int32) (z : GS) (H : Heap) (locs : List Loc) (ls : Array Slot), FX2_shift_L151 x3 x4 x5 f v6 z = some (r, zq) → OM D aC o ad z H → va_S A s.heap H locs → lv_has ls 7 [(0, .ref o), (3, .int x3), (4, .int x4), (5, .int x5), (6, .int v6)] → W p l e ({ frames := 2, cells := 0, slots := 0, locals := 42 }) s m ([.ref o, .int x1, .int x2, .int x3, .int x4, .int x5] : List Value).toArray below meth c H locs 0 0 (MQ below (QG (some (.int r)) (OM D aC o ad zq) A) ([.ref o, .int x1, .int x2, .int x3, .int x4, .int x5] : List Value).toArray s 0 0 A) (F0 m 151 ls []) := by
                            intro f
                            induction f with
                            | zero =>
                              intro v6 z H locs ls h
                              rw [FX2_shift_L151] at h
                              cases h
                            | succ f ih21 =>
                              intro v6 z H locs ls h hO hS hl
                              rw [FX2_shift_L151] at h
                              refine lv_iload hx hb dX2_shift_151 (lv_at hl 4 rfl) ?_
                              refine lv_iload hx hb dX2_shift_153 (lv_at hl 3 rfl) ?_
                              refine lv_icmp_ge (tgt := 186) hx hb dX2_shift_155 (by decide) (fun c22 => ?_) (fun c22 => ?_)
                              · have h := it_t c22 h
                                refine lv_iload hx hb dX2_shift_186 (lv_at hl 3 rfl) ?_
                                obtain ⟨e8, rfl⟩ := Prod.mk.inj (Option.some.inj h)
                                exact g_retG hx hb hr hlocks e8 hO hS dX2_shift_188
                              · have h := it_f c22 h
                                refine lv_aload_n hx hb dX2_shift_158 rfl (lv_at hl 0 rfl) ?_
                                refine X2_getA hx hb hts hown hK hO 30 (by decide) rfl (hts _ q1567) dX2_shift_159 ?_
                                refine lv_bipush (v := 60) hx hb dX2_shift_162 (by decide) ?_
                                refine lv_iload_n hx hb dX2_shift_164 rfl (lv_at hl 1 rfl) ?_
                                refine lv_imul hx hb dX2_shift_165 ?_
                                refine lv_iload hx hb dX2_shift_166 (lv_at hl 2 rfl) ?_
                                refine lv_iadd hx hb dX2_shift_168 ?_
                                refine lv_iload hx hb dX2_shift_169 (lv_at hl 4 rfl) ?_
                                refine lv_iadd hx hb dX2_shift_171 ?_
                                refine lv_aload_n hx hb dX2_shift_172 rfl (lv_at hl 0 rfl) ?_
                                refine X2_getA hx hb hts hown hK hO 31 (by decide) rfl (hts _ q1568) dX2_shift_173 ?_
                                refine lv_iload hx hb dX2_shift_176 (lv_at hl 4 rfl) ?_
                                obtain ⟨g23, h⟩ := grd h
                                refine X2_laload hx hb hK hO 31 (by decide) rfl rfl g23 dX2_shift_178 ?_
                                obtain ⟨g24, h⟩ := grd h
                                refine X2_lastore hx hb hK hO hD hS 30 (by decide) rfl rfl g24 dX2_shift_179 (fun H locs z25 ez25 hO hS => ?_)
                                have h := pin_to ez25 h
                                refine lv_iinc (v := (v6 + 1)) (lv' := [(6, .int (v6 + 1)), (0, .ref o), (3, .int x3), (4, .int x4), (5, .int x5)]) hx hb dX2_shift_180 hl (k := 4) rfl rfl (by decide) rfl (fun ls hl => ?_)
                                refine lv_goto (tgt := 151) hx hb dX2_shift_183 (by decide) ?_
                                exact ih21 _ _ _ _ _ h hO hS (lv_sub hl [1, 2, 3, 4, 0] rfl)
                          exact key26 FU _ _ _ _ _ h hO hS (lv_sub hl [1, 2, 3, 4, 0] rfl)
                        have key32 : ∀ (f : Nat) (v6 : Int32) (z : GS) (H : Heap) (locs : List Loc) (ls : Array Slot), FX2_shift_L114 k19 x1 x2 x3 x4 x5 f v6 z = some (r, zq) → OM D aC o ad z H → va_S A s.heap H locs → lv_has ls 7 [(0, .ref o), (1, .int x1), (2, .int x2), (3, .int x3), (4, .int x4), (5, .int x5), (6, .int v6)] → W p l e ({ frames := 2, cells := 0, slots := 0, locals := 42 }) s m ([.ref o, .int x1, .int x2, .int x3, .int x4, .int x5] : List Value).toArray below meth c H locs 0 0 (MQ below (QG (some (.int r)) (OM D aC o ad zq) A) ([.ref o, .int x1, .int x2, .int x3, .int x4, .int x5] : List Value).toArray s 0 0 A) (F0 m 114 ls []) := by
                          intro f
                          induction f with
                          | zero =>
                            intro v6 z H locs ls h
                            rw [FX2_shift_L114] at h
                            cases h
                          | succ f ih27 =>
                            intro v6 z H locs ls h hO hS hl
                            rw [FX2_shift_L114] at h
                            refine lv_iload hx hb dX2_shift_114 (lv_at hl 6 rfl) ?_
                            refine lv_iload hx hb dX2_shift_116 (lv_at hl 5 rfl) ?_
                            refine lv_icmp_ge (tgt := 148) hx hb dX2_shift_118 (by decide) (fun c28 => ?_) (fun c28 => ?_)
                            · have h := it_t c28 h
                              exact hk19 _ _ _ _ h hO hS (lv_sub hl [0, 3, 4, 5] rfl)
                            · have h := it_f c28 h
                              refine lv_aload_n hx hb dX2_shift_121 rfl (lv_at hl 0 rfl) ?_
                              refine X2_getA hx hb hts hown hK hO 31 (by decide) rfl (hts _ q1568) dX2_shift_122 ?_
                              refine lv_iload hx hb dX2_shift_125 (lv_at hl 6 rfl) ?_
                              refine lv_aload_n hx hb dX2_shift_127 rfl (lv_at hl 0 rfl) ?_
                              refine X2_getA hx hb hts hown hK hO 30 (by decide) rfl (hts _ q1567) dX2_shift_128 ?_
                              refine lv_bipush (v := 60) hx hb dX2_shift_131 (by decide) ?_
                              refine lv_iload_n hx hb dX2_shift_133 rfl (lv_at hl 1 rfl) ?_
                              refine lv_imul hx hb dX2_shift_134 ?_
                              refine lv_iload_n hx hb dX2_shift_135 rfl (lv_at hl 2 rfl) ?_
                              refine lv_iadd hx hb dX2_shift_136 ?_
                              refine lv_iload hx hb dX2_shift_137 (lv_at hl 6 rfl) ?_
                              refine lv_iadd hx hb dX2_shift_139 ?_
                              obtain ⟨g29, h⟩ := grd h
                              refine X2_laload hx hb hK hO 30 (by decide) rfl rfl g29 dX2_shift_140 ?_
                              obtain ⟨g30, h⟩ := grd h
                              refine X2_lastore hx hb hK hO hD hS 31 (by decide) rfl rfl g30 dX2_shift_141 (fun H locs z31 ez31 hO hS => ?_)
                              have h := pin_to ez31 h
                              refine lv_iinc (v := (v6 + 1)) (lv' := [(6, .int (v6 + 1)), (0, .ref o), (1, .int x1), (2, .int x2), (3, .int x3), (4, .int x4), (5, .int x5)]) hx hb dX2_shift_142 hl (k := 6) rfl rfl (by decide) rfl (fun ls hl => ?_)
                              refine lv_goto (tgt := 114) hx hb dX2_shift_145 (by decide) ?_
                              exact ih27 _ _ _ _ _ h hO hS (lv_sub hl [1, 2, 3, 4, 5, 6, 0] rfl)
                        exact key32 FU _ _ _ _ _ h hO hS (lv_sub hl [1, 2, 3, 4, 5, 6, 0] rfl)
                      · have h := it_f c18 h
                        refine lv_bipush (v := (-13)) hx hb dX2_shift_108 (by decide) ?_
                        obtain ⟨e8, rfl⟩ := Prod.mk.inj (Option.some.inj h)
                        exact g_retG hx hb hr hlocks e8 hO hS dX2_shift_110
            · have h := it_f c11 h
              refine lv_bipush (v := (-12)) hx hb dX2_shift_64 (by decide) ?_
              obtain ⟨e8, rfl⟩ := Prod.mk.inj (Option.some.inj h)
              exact g_retG hx hb hr hlocks e8 hO hS dX2_shift_66
        · have h := it_t c6 h
          refine lv_bipush (v := (-11)) hx hb dX2_shift_36 (by decide) ?_
          obtain ⟨e8, rfl⟩ := Prod.mk.inj (Option.some.inj h)
          exact g_retG hx hb hr hlocks e8 hO hS dX2_shift_38
    · have h := it_t c2 h
      refine lv_iconst (v := (-1)) hx hb dX2_shift_14 (by decide) ?_
      obtain ⟨e8, rfl⟩ := Prod.mk.inj (Option.some.inj h)
      exact g_retG hx hb hr hlocks e8 hO hS dX2_shift_15
theorem clX2_shift {p : Program} {l : Launch} {e : Env} {R : Room} {s : State} {m : MethodId} {args : Array Value} {below : List Frame} {meth : Method} {c : Code} {H : Heap} {locs : List Loc} {cells slots : Nat} {Q : State → Prop} {cc : ByteArray} {pc nL idx fr lo : Nat} {ls : Array Slot} {rest : List Value} {own : String} {D : va_G} {aC : Nat → ClassId} {o : Nat} {ad : Nat → Nat} {z : GS} {zq : GS} {A : Nat → Prop} {x1 : Int32} {x2 : Int32} {x3 : Int32} {x4 : Int32} {x5 : Int32} {r : Int32} (hf : CallFix p m c cc nL s args lw_all own) (hK : va_K D vwCl (tysG aC) s) (hO : OM D aC o ad z H) (hS : va_S A s.heap H locs) (hM : Met l yX2_shift (ws_ yX2_shift cX2_shift 7 (some .int)) ({ frames := fr, cells := 0, slots := 0, locals := lo }) (va_Pc [.ref o, .int x1, .int x2, .int x3, .int x4, .int x5] (PM D aC o ad z)) (QG (some (.int r)) (OM D aC o ad zq) A) 0 0 A) (hq : Cond.methodLink own idx yX2_shift ∈ lw_all) (hs : ls.size = nL) (hr : (rest.map fun v => v.category).sum ≤ 8) (hR : fr + 1 ≤ R.frames ∧ 8 + (7 + 11) + lo ≤ R.locals) (hcs : cells + 0 ≤ R.cells ∧ slots + 0 ≤ R.slots) (hd : decode cc pc = .ok (.invokevirtual idx, 3)) (kk : ∀ (H1 : Heap) (locs1 : List Loc), OM D aC o ad zq H1 → va_S A s.heap H1 locs1 → W p l e R s m args below meth c H1 locs1 cells slots Q (F0 m (pc + 3) ls (.int r :: rest))) : W p l e R s m args below meth c H locs cells slots Q (F0 m pc ls (.int x5 :: .int x4 :: .int x3 :: .int x2 :: .int x1 :: .ref o :: rest)) :=
  g_callG (W.runV (As := [.int x1, .int x2, .int x3, .int x4, .int x5]) (rest := rest) hf hM (cwV 5 hf.2.2.2.2 (lw_V hq q1995 q1996 q92 q1997) rfl rfl rfl (by decide +kernel) hR) ⟨fun a U g mk q => ⟨q.1, q.2.1, va_K.moved (u := U) (U := U.calling g mk a) (Vm.Alike.refl U.vm) q.2.2⟩, OA.recv hK hO rfl, fun U hU hW => ⟨rfl, by rw [hU]; exact hO, va_K.moved hW.alike hK⟩⟩ rfl rfl hs rfl (lv_room hr) hd hcs) hS (fun H1 locs1 hP hS _ _ => kk H1 locs1 hP hS)
theorem metX2_taken (l : Launch) (D : va_G) (aC : Nat → ClassId) (o : Nat) (ad : Nat → Nat) (x1 : Int32) (x2 : Int32) (z : GS) (r : Int32) (h : FX2_taken x1 x2 z = some r) : Met l yX2_taken (ws_ yX2_taken cX2_taken 5 (some .int)) ({ frames := 2, cells := 0, slots := 0, locals := 42 }) (va_Pc [.ref o, .int x1, .int x2] (PM D aC o ad z)) (QR (some (.int r))) 0 0 (fun _ => False) := by
  refine g_ofW (cc := cX2_taken) (maxL := 5) (ret := (some .int)) (own := RX2) (by decide) rfl rfl [.ref o, .int x1, .int x2] (PM D aC o ad z) (Nat.le_of_ble_eq_true rfl) ?_
  intro p e s m below meth c ls hx hb hr hml hts hown hlocks hnm hPre hl
  obtain ⟨hO, hK⟩ := hPre
  have hf : CallFix p m c cX2_taken 5 s _ lw_all RX2 := ⟨hx, hb, hml, hown, hts⟩
  have hl : lv_has ls 5 [(0, .ref o), (1, .int x1), (2, .int x2)] := hl
  unfold FX2_taken at h
  refine lv_iload_n hx hb dX2_taken_0 rfl (lv_at hl 1 rfl) ?_
  refine clX2_isShelf hf (metX2_isShelf l x1 _ rfl) q1879 hl.1 (Nat.le_of_ble_eq_true rfl) ⟨Nat.le_of_ble_eq_true rfl, Nat.le_of_ble_eq_true rfl⟩ ⟨Nat.le_of_ble_eq_true rfl, Nat.le_of_ble_eq_true rfl⟩ dX2_taken_1 ?_
  refine lv_if_eq (tgt := 17) hx hb dX2_taken_4 (by decide) (fun c1 => ?_) (fun c1 => ?_)
  · have h := it_t c1 h
    refine lv_iconst (v := (-1)) hx hb dX2_taken_17 (by decide) ?_
    exact g_retR hx hb hr hlocks (Option.some.inj h) dX2_taken_18
  · have h := it_f c1 h
    refine lv_iload_n hx hb dX2_taken_7 rfl (lv_at hl 2 rfl) ?_
    refine lv_iconst (v := 0) hx hb dX2_taken_8 (by decide) ?_
    refine lv_bipush (v := 7) hx hb dX2_taken_9 (by decide) ?_
    refine clX2_isIn hf (metX2_isIn l x2 0 7 _ rfl) q1675 hl.1 (Nat.le_of_ble_eq_true rfl) ⟨Nat.le_of_ble_eq_true rfl, Nat.le_of_ble_eq_true rfl⟩ ⟨Nat.le_of_ble_eq_true rfl, Nat.le_of_ble_eq_true rfl⟩ dX2_taken_11 ?_
    refine lv_if_ne (tgt := 19) hx hb dX2_taken_14 (by decide) (fun c2 => ?_) (fun c2 => ?_)
    · have h := it_f c2 h
      refine lv_aload_n hx hb dX2_taken_19 rfl (lv_at hl 0 rfl) ?_
      refine X2_getA hx hb hts hown hK hO 28 (by decide) rfl (hts _ q1565) dX2_taken_20 ?_
      refine lv_iload_n hx hb dX2_taken_23 rfl (lv_at hl 1 rfl) ?_
      obtain ⟨g3, h⟩ := grd h
      refine X2_iaload hx hb hK hO 28 (by decide) rfl rfl g3 dX2_taken_24 ?_
      refine lv_bipush (v := 10) hx hb dX2_taken_25 (by decide) ?_
      refine lv_icmp_ge (tgt := 48) hx hb dX2_taken_27 (by decide) (fun c4 => ?_) (fun c4 => ?_)
      · have h := it_t c4 h
        refine lv_aload_n hx hb dX2_taken_48 rfl (lv_at hl 0 rfl) ?_
        refine X2_getA hx hb hts hown hK hO 40 (by decide) rfl (hts _ q1577) dX2_taken_49 ?_
        refine lv_aload_n hx hb dX2_taken_52 rfl (lv_at hl 0 rfl) ?_
        refine X2_getA hx hb hts hown hK hO 28 (by decide) rfl (hts _ q1565) dX2_taken_53 ?_
        refine lv_iload_n hx hb dX2_taken_56 rfl (lv_at hl 1 rfl) ?_
        obtain ⟨g5, h⟩ := grd h
        refine X2_iaload hx hb hK hO 28 (by decide) rfl rfl g5 dX2_taken_57 ?_
        refine lv_bipush (v := 10) hx hb dX2_taken_58 (by decide) ?_
        refine lv_isub hx hb dX2_taken_60 ?_
        obtain ⟨g6, h⟩ := grd h
        refine X2_iaload hx hb hK hO 40 (by decide) rfl rfl g6 dX2_taken_61 ?_
        refine lv_topi (fun y7 ey7 => ?_)
        have h := pin_to ey7 h
        refine lv_istore_n (lv' := [(3, .int y7), (0, .ref o), (1, .int x1), (2, .int x2)]) hx hb dX2_taken_62 rfl hl (by decide) rfl (fun ls hl => ?_)
        refine lv_iload_n hx hb dX2_taken_63 rfl (lv_at hl 0 rfl) ?_
        refine lv_istore (lv' := [(4, .int y7), (3, .int y7), (0, .ref o), (1, .int x1), (2, .int x2)]) hx hb dX2_taken_64 hl (by decide) rfl (fun ls hl => ?_)
        obtain ⟨k8, e17, h⟩ := pin_nm h
        have hk8 : ∀ (v9 : Int32) (ls : Array Slot), k8 v9 = some r → lv_has ls 5 [(0, .ref o), (3, .int y7), (4, .int v9)] → W p l e ({ frames := 2, cells := 0, slots := 0, locals := 42 }) s m ([.ref o, .int x1, .int x2] : List Value).toArray below meth c s.heap [] 0 0 (MQ below (QR (some (.int r))) ([.ref o, .int x1, .int x2] : List Value).toArray s 0 0 (fun _ => False)) (F0 m 90 ls []) := by
          intro v9 ls h hl
          rw [e17] at h
          refine lv_iload hx hb dX2_taken_90 (lv_at hl 2 rfl) ?_
          refine lv_iconst (v := (-1)) hx hb dX2_taken_92 (by decide) ?_
          refine lv_icmp_ne (tgt := 101) hx hb dX2_taken_93 (by decide) (fun c10 => ?_) (fun c10 => ?_)
          · have h := it_f c10 h
            refine lv_iload_n hx hb dX2_taken_101 rfl (lv_at hl 1 rfl) ?_
            exact g_retR hx hb hr hlocks (Option.some.inj h) dX2_taken_102
          · have h := it_t c10 h
            refine lv_bipush (v := (-12)) hx hb dX2_taken_96 (by decide) ?_
            refine lv_goto (tgt := 102) hx hb dX2_taken_98 (by decide) ?_
            exact g_retR hx hb hr hlocks (Option.some.inj h) dX2_taken_102
        have key16 : ∀ (f : Nat) (v4 : Int32) (ls : Array Slot), FX2_taken_L66 k8 x2 y7 z f v4 = some r → lv_has ls 5 [(0, .ref o), (2, .int x2), (3, .int y7), (4, .int v4)] → W p l e ({ frames := 2, cells := 0, slots := 0, locals := 42 }) s m ([.ref o, .int x1, .int x2] : List Value).toArray below meth c s.heap [] 0 0 (MQ below (QR (some (.int r))) ([.ref o, .int x1, .int x2] : List Value).toArray s 0 0 (fun _ => False)) (F0 m 66 ls []) := by
          intro f
          induction f with
          | zero =>
            intro v4 ls h
            rw [FX2_taken_L66] at h
            cases h
          | succ f ih11 =>
            intro v4 ls h hl
            rw [FX2_taken_L66] at h
            refine lv_iload hx hb dX2_taken_66 (lv_at hl 3 rfl) ?_
            refine lv_iconst (v := (-1)) hx hb dX2_taken_68 (by decide) ?_
            refine lv_icmp_eq (tgt := 90) hx hb dX2_taken_69 (by decide) (fun c12 => ?_) (fun c12 => ?_)
            · have h := it_t c12 h
              exact hk8 _ _ h (lv_sub hl [0, 2, 3] rfl)
            · have h := it_f c12 h
              refine lv_iload hx hb dX2_taken_72 (lv_at hl 3 rfl) ?_
              refine lv_iload_n hx hb dX2_taken_74 rfl (lv_at hl 1 rfl) ?_
              refine lv_icmp_eq (tgt := 90) hx hb dX2_taken_75 (by decide) (fun c13 => ?_) (fun c13 => ?_)
              · have h := it_t c13 h
                exact hk8 _ _ h (lv_sub hl [0, 2, 3] rfl)
              · have h := it_f c13 h
                refine lv_aload_n hx hb dX2_taken_78 rfl (lv_at hl 0 rfl) ?_
                refine X2_getA hx hb hts hown hK hO 38 (by decide) rfl (hts _ q1575) dX2_taken_79 ?_
                refine lv_iload hx hb dX2_taken_82 (lv_at hl 3 rfl) ?_
                obtain ⟨g14, h⟩ := grd h
                refine X2_iaload hx hb hK hO 38 (by decide) rfl rfl g14 dX2_taken_84 ?_
                refine lv_topi (fun y15 ey15 => ?_)
                have h := pin_to ey15 h
                refine lv_istore (lv' := [(4, .int y15), (0, .ref o), (2, .int x2), (3, .int y7)]) hx hb dX2_taken_85 hl (by decide) rfl (fun ls hl => ?_)
                refine lv_goto (tgt := 66) hx hb dX2_taken_87 (by decide) ?_
                exact ih11 _ _ h (lv_sub hl [1, 2, 3, 0] rfl)
        exact key16 FU _ _ h (lv_sub hl [2, 4, 1, 0] rfl)
      · have h := it_f c4 h
        refine lv_aload_n hx hb dX2_taken_30 rfl (lv_at hl 0 rfl) ?_
        refine X2_getA hx hb hts hown hK hO 28 (by decide) rfl (hts _ q1565) dX2_taken_31 ?_
        refine lv_iload_n hx hb dX2_taken_34 rfl (lv_at hl 1 rfl) ?_
        obtain ⟨g18, h⟩ := grd h
        refine X2_iaload hx hb hK hO 28 (by decide) rfl rfl g18 dX2_taken_35 ?_
        refine lv_iconst (v := (-1)) hx hb dX2_taken_36 (by decide) ?_
        refine lv_icmp_ne (tgt := 45) hx hb dX2_taken_37 (by decide) (fun c19 => ?_) (fun c19 => ?_)
        · have h := it_f c19 h
          refine lv_bipush (v := (-12)) hx hb dX2_taken_45 (by decide) ?_
          exact g_retR hx hb hr hlocks (Option.some.inj h) dX2_taken_47
        · have h := it_t c19 h
          refine lv_bipush (v := (-11)) hx hb dX2_taken_40 (by decide) ?_
          refine lv_goto (tgt := 47) hx hb dX2_taken_42 (by decide) ?_
          exact g_retR hx hb hr hlocks (Option.some.inj h) dX2_taken_47
    · have h := it_t c2 h
      refine lv_iconst (v := (-1)) hx hb dX2_taken_17 (by decide) ?_
      exact g_retR hx hb hr hlocks (Option.some.inj h) dX2_taken_18
theorem clX2_taken {p : Program} {l : Launch} {e : Env} {R : Room} {s : State} {m : MethodId} {args : Array Value} {below : List Frame} {meth : Method} {c : Code} {H : Heap} {locs : List Loc} {cells slots : Nat} {Q : State → Prop} {cc : ByteArray} {pc nL idx fr lo : Nat} {ls : Array Slot} {rest : List Value} {own : String} {D : va_G} {aC : Nat → ClassId} {o : Nat} {ad : Nat → Nat} {z : GS} {x1 : Int32} {x2 : Int32} {r : Int32} (hf : CallFix p m c cc nL s args lw_all own) (hK : va_K D vwCl (tysG aC) s) (hO : OM D aC o ad z H) (hM : Met l yX2_taken (ws_ yX2_taken cX2_taken 5 (some .int)) ({ frames := fr, cells := 0, slots := 0, locals := lo }) (va_Pc [.ref o, .int x1, .int x2] (PM D aC o ad z)) (QR (some (.int r))) 0 0 (fun _ => False)) (hq : Cond.methodLink own idx yX2_taken ∈ lw_all) (hs : ls.size = nL) (hr : (rest.map fun v => v.category).sum ≤ 8) (hR : fr + 1 ≤ R.frames ∧ 8 + (5 + 11) + lo ≤ R.locals) (hcs : cells + 0 ≤ R.cells ∧ slots + 0 ≤ R.slots) (hd : decode cc pc = .ok (.invokevirtual idx, 3)) (kk : W p l e R s m args below meth c H locs cells slots Q (F0 m (pc + 3) ls (.int r :: rest))) : W p l e R s m args below meth c H locs cells slots Q (F0 m pc ls (.int x2 :: .int x1 :: .ref o :: rest)) :=
  g_callR (W.runV (As := [.int x1, .int x2]) (rest := rest) hf hM (cwV 2 hf.2.2.2.2 (lw_V hq q1999 q2000 q92 q2001) rfl rfl rfl (by decide +kernel) hR) ⟨fun a U g mk q => ⟨q.1, q.2.1, va_K.moved (u := U) (U := U.calling g mk a) (Vm.Alike.refl U.vm) q.2.2⟩, OA.recv hK hO rfl, fun U hU hW => ⟨rfl, by rw [hU]; exact hO, va_K.moved hW.alike hK⟩⟩ rfl rfl hs rfl (lv_room hr) hd hcs) kk
theorem metX2_count (l : Launch) (D : va_G) (aC : Nat → ClassId) (o : Nat) (ad : Nat → Nat) (x1 : Int32) (z : GS) (r : Int32) (h : FX2_count x1 z = some r) : Met l yX2_count (ws_ yX2_count cX2_count 2 (some .int)) ({ frames := 2, cells := 0, slots := 0, locals := 44 }) (va_Pc [.ref o, .int x1] (PM D aC o ad z)) (QR (some (.int r))) 0 0 (fun _ => False) := by
  refine g_ofW (cc := cX2_count) (maxL := 2) (ret := (some .int)) (own := RX2) (by decide) rfl rfl [.ref o, .int x1] (PM D aC o ad z) (Nat.le_of_ble_eq_true rfl) ?_
  intro p e s m below meth c ls hx hb hr hml hts hown hlocks hnm hPre hl
  obtain ⟨hO, hK⟩ := hPre
  have hf : CallFix p m c cX2_count 2 s _ lw_all RX2 := ⟨hx, hb, hml, hown, hts⟩
  have hl : lv_has ls 2 [(0, .ref o), (1, .int x1)] := hl
  unfold FX2_count at h
  refine lv_iload_n hx hb dX2_count_0 rfl (lv_at hl 1 rfl) ?_
  by_cases c1 : x1 = 0
  · have h := it_t c1 h
    refine lv_tableIn (off := 39) (tgt := 40) hx hb dX2_count_1 (by rw [c1]; decide) (by rw [c1]; decide) (by rw [c1]; rfl) (by decide) ?_
    refine lv_aload_n hx hb dX2_count_40 rfl (lv_at hl 0 rfl) ?_
    refine X2_getF hx hb hts hown hK hO 2 (by decide) rfl (hts _ q1539) dX2_count_41 ?_
    exact g_retR hx hb hr hlocks (Option.some.inj h) dX2_count_44
  have h := it_f c1 h
  by_cases c2 : x1 = 1
  · have h := it_t c2 h
    refine lv_tableIn (off := 44) (tgt := 45) hx hb dX2_count_1 (by rw [c2]; decide) (by rw [c2]; decide) (by rw [c2]; rfl) (by decide) ?_
    refine lv_aload_n hx hb dX2_count_45 rfl (lv_at hl 0 rfl) ?_
    obtain ⟨r3, e4, h⟩ := bn1_e h
    refine clX2_lacks hf hK hO (metX2_lacks l D aC o ad z r3 e4) q1820 hl.1 (Nat.le_of_ble_eq_true rfl) ⟨Nat.le_of_ble_eq_true rfl, Nat.le_of_ble_eq_true rfl⟩ ⟨Nat.le_of_ble_eq_true rfl, Nat.le_of_ble_eq_true rfl⟩ dX2_count_46 ?_
    refine clJ13_bitCount hf (metJ13_bitCount l r3 _ rfl) q1862 hl.1 (Nat.le_of_ble_eq_true rfl) ⟨Nat.le_of_ble_eq_true rfl, Nat.le_of_ble_eq_true rfl⟩ ⟨Nat.le_of_ble_eq_true rfl, Nat.le_of_ble_eq_true rfl⟩ dX2_count_49 ?_
    exact g_retR hx hb hr hlocks (Option.some.inj h) dX2_count_52
  have h := it_f c2 h
  by_cases c5 : x1 = 2
  · have h := it_t c5 h
    refine lv_tableIn (off := 52) (tgt := 53) hx hb dX2_count_1 (by rw [c5]; decide) (by rw [c5]; decide) (by rw [c5]; rfl) (by decide) ?_
    refine lv_aload_n hx hb dX2_count_53 rfl (lv_at hl 0 rfl) ?_
    refine X2_getF hx hb hts hown hK hO 9 (by decide) rfl (hts _ q1546) dX2_count_54 ?_
    exact g_retR hx hb hr hlocks (Option.some.inj h) dX2_count_57
  have h := it_f c5 h
  by_cases c6 : x1 = 3
  · have h := it_t c6 h
    refine lv_tableIn (off := 57) (tgt := 58) hx hb dX2_count_1 (by rw [c6]; decide) (by rw [c6]; decide) (by rw [c6]; rfl) (by decide) ?_
    refine lv_aload_n hx hb dX2_count_58 rfl (lv_at hl 0 rfl) ?_
    refine X2_getF hx hb hts hown hK hO 6 (by decide) rfl (hts _ q1543) dX2_count_59 ?_
    exact g_retR hx hb hr hlocks (Option.some.inj h) dX2_count_62
  have h := it_f c6 h
  by_cases c7 : x1 = 4
  · have h := it_t c7 h
    refine lv_tableIn (off := 62) (tgt := 63) hx hb dX2_count_1 (by rw [c7]; decide) (by rw [c7]; decide) (by rw [c7]; rfl) (by decide) ?_
    refine lv_aload_n hx hb dX2_count_63 rfl (lv_at hl 0 rfl) ?_
    refine X2_getF hx hb hts hown hK hO 41 (by decide) rfl (hts _ q1578) dX2_count_64 ?_
    exact g_retR hx hb hr hlocks (Option.some.inj h) dX2_count_67
  have h := it_f c7 h
  by_cases c8 : x1 = 5
  · have h := it_t c8 h
    refine lv_tableIn (off := 67) (tgt := 68) hx hb dX2_count_1 (by rw [c8]; decide) (by rw [c8]; decide) (by rw [c8]; rfl) (by decide) ?_
    refine lv_aload_n hx hb dX2_count_68 rfl (lv_at hl 0 rfl) ?_
    refine X2_getF hx hb hts hown hK hO 43 (by decide) rfl (hts _ q1580) dX2_count_69 ?_
    exact g_retR hx hb hr hlocks (Option.some.inj h) dX2_count_72
  have h := it_f c8 h
  have tc1 := lv_neT (a := 0) c1 rfl
  have tc2 := lv_neT (a := 1) c2 rfl
  have tc5 := lv_neT (a := 2) c5 rfl
  have tc6 := lv_neT (a := 3) c6 rfl
  have tc7 := lv_neT (a := 4) c7 rfl
  have tc8 := lv_neT (a := 5) c8 rfl
  refine lv_tableOut (tgt := 73) hx hb dX2_count_1 (by omega) (by decide) ?_
  refine lv_iconst (v := (-1)) hx hb dX2_count_73 (by decide) ?_
  exact g_retR hx hb hr hlocks (Option.some.inj h) dX2_count_74
theorem clX2_count {p : Program} {l : Launch} {e : Env} {R : Room} {s : State} {m : MethodId} {args : Array Value} {below : List Frame} {meth : Method} {c : Code} {H : Heap} {locs : List Loc} {cells slots : Nat} {Q : State → Prop} {cc : ByteArray} {pc nL idx fr lo : Nat} {ls : Array Slot} {rest : List Value} {own : String} {D : va_G} {aC : Nat → ClassId} {o : Nat} {ad : Nat → Nat} {z : GS} {x1 : Int32} {r : Int32} (hf : CallFix p m c cc nL s args lw_all own) (hK : va_K D vwCl (tysG aC) s) (hO : OM D aC o ad z H) (hM : Met l yX2_count (ws_ yX2_count cX2_count 2 (some .int)) ({ frames := fr, cells := 0, slots := 0, locals := lo }) (va_Pc [.ref o, .int x1] (PM D aC o ad z)) (QR (some (.int r))) 0 0 (fun _ => False)) (hq : Cond.methodLink own idx yX2_count ∈ lw_all) (hs : ls.size = nL) (hr : (rest.map fun v => v.category).sum ≤ 8) (hR : fr + 1 ≤ R.frames ∧ 8 + (2 + 11) + lo ≤ R.locals) (hcs : cells + 0 ≤ R.cells ∧ slots + 0 ≤ R.slots) (hd : decode cc pc = .ok (.invokevirtual idx, 3)) (kk : W p l e R s m args below meth c H locs cells slots Q (F0 m (pc + 3) ls (.int r :: rest))) : W p l e R s m args below meth c H locs cells slots Q (F0 m pc ls (.int x1 :: .ref o :: rest)) :=
  g_callR (W.runV (As := [.int x1]) (rest := rest) hf hM (cwV 1 hf.2.2.2.2 (lw_V hq q2003 q2004 q92 q2005) rfl rfl rfl (by decide +kernel) hR) ⟨fun a U g mk q => ⟨q.1, q.2.1, va_K.moved (u := U) (U := U.calling g mk a) (Vm.Alike.refl U.vm) q.2.2⟩, OA.recv hK hO rfl, fun U hU hW => ⟨rfl, by rw [hU]; exact hO, va_K.moved hW.alike hK⟩⟩ rfl rfl hs rfl (lv_room hr) hd hcs) kk
