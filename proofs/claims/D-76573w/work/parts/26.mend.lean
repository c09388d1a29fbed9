set_option maxRecDepth 100000
/-! ===== mend (printed by mkmend.py) ===== -/
theorem clX0_become {p : Program} {l : Launch} {e : Env} {R : Room} {s : State} {m : MethodId} {args : Array Value} {below : List Frame} {meth : Method} {c : Code} {H : Heap} {locs : List Loc} {cells slots : Nat} {Q : State → Prop} {cc : ByteArray} {pc nL idx fr lo : Nat} {ls : Array Slot} {rest : List Value} {own : String} {D : va_G} {aC : Nat → ClassId} {A : Nat → Prop} {o : Nat} {la : LC} {z : GS} {zq : GS} {x1 : Int32} {x2 : Int32} {x3 : Int32} {x4 : Int32} {r : Int32} (hf : CallFix p m c cc nL s args lw_all own) (hK : KC D aC s) (hO : OC D aC A o la z H) (hA : ∀ q : Nat, s.heap.size ≤ q → A q) (hZ : ZX A s s.heap) (hS : va_S A s.heap H locs) (hM : Met l yX0_become (ws_ yX0_become cX0_become 6 (some .int)) ({ frames := fr, cells := 1, slots := 4, locals := lo }) (va_Pc [.ref o, .int x1, .int x2, .int x3, .int x4] (PC D aC A o la z)) (QG (some (.int r)) (OCe D aC A o zq) A) 1 4 A) (hq : Cond.methodLink own idx yX0_become ∈ lw_all) (hs : ls.size = nL) (hr : (rest.map fun v => v.category).sum ≤ 8) (hR : fr + 1 ≤ R.frames ∧ 8 + (6 + 11) + lo ≤ R.locals) (hcs : cells + 1 ≤ R.cells ∧ slots + 4 ≤ R.slots) (hd : decode cc pc = .ok (.invokevirtual idx, 3)) (kk : ∀ (H1 : Heap) (locs1 : List Loc), OCe D aC A o zq H1 → va_S A s.heap H1 locs1 → W p l e R s m args below meth c H1 locs1 (cells + 1) (slots + 4) Q (F0 m (pc + 3) ls (.int r :: rest))) : W p l e R s m args below meth c H locs cells slots Q (F0 m pc ls (.int x4 :: .int x3 :: .int x2 :: .int x1 :: .ref o :: rest)) :=
  g_callG (W.runV (As := [.int x1, .int x2, .int x3, .int x4]) (rest := rest) hf hM (cwV 4 hf.2.2.2.2 (lw_V hq q520 qs9 q90 q521) rfl rfl rfl (by decide +kernel) hR) ⟨PC.blind, OC.recv hK hO, fun U hU hW => ⟨rfl, PC.at hO hK hA hZ hS hU hW⟩⟩ rfl rfl hs rfl (lv_room hr) hd hcs) hS (fun H1 locs1 hP hS _ _ => kk H1 locs1 hP hS)
def FX0_mend (x1 : Int32) (x2 : Int32) (x3 : Int32) (z : GS) : Option (Int32 × GS) := (if (FX0_isOf x1 x2 z) = 0 then (some ((-2000000000), z)) else (if (FX0_mayBe x1 x2 x3 z) = 0 then (some ((-2000000000), z)) else (bn1 (FX0_valueOf x1 x2 z) (fun r3 => (bnd (FX0_become x2 x1 r3 x3 z) (fun r5 z6 => (some (r5, z6))))))))
theorem metX0_mend (l : Launch) (D : va_G) (aC : Nat → ClassId) (A : Nat → Prop) (o : Nat) (la : LC) (x1 : Int32) (x2 : Int32) (x3 : Int32) (z : GS) (r : Int32) (zq : GS) (h : FX0_mend x1 x2 x3 z = some (r, zq)) : Met l yX0_mend (ws_ yX0_mend cX0_mend 4 (some .int)) ({ frames := 4, cells := 1, slots := 4, locals := 225 }) (va_Pc [.ref o, .int x1, .int x2, .int x3] (PC D aC A o la z)) (QG (some (.int r)) (OCe D aC A o zq) A) 1 4 A := by
  refine g_ofW (cc := cX0_mend) (maxL := 4) (ret := (some .int)) (own := RX0) (by decide) rfl rfl [.ref o, .int x1, .int x2, .int x3] (PC D aC A o la z) (Nat.le_of_ble_eq_true rfl) ?_
  intro p e s m below meth c ls hx hb hr hml hts hown hlocks hnm hPre hl
  obtain ⟨hO, hK, hA, hZ⟩ := hPre
  have hf : CallFix p m c cX0_mend 4 s _ lw_all RX0 := ⟨hx, hb, hml, hown, hts⟩
  have hl : lv_has ls 4 [(0, .ref o), (1, .int x1), (2, .int x2), (3, .int x3)] := hl
  refine g_open (A := A) (OC D aC A o la z) hO (fun H locs hO hS => ?_)
  unfold FX0_mend at h
  refine lv_aload_n hx hb dX0_mend_0 rfl (lv_at hl 0 rfl) ?_
  refine lv_iload_n hx hb dX0_mend_1 rfl (lv_at hl 1 rfl) ?_
  refine lv_iload_n hx hb dX0_mend_2 rfl (lv_at hl 2 rfl) ?_
  refine clX0_isOf hf hK hO hA hZ hS (metX0_isOf l D aC A o la x1 x2 z _ rfl) q498 hl.1 (Nat.le_of_ble_eq_true rfl) ⟨Nat.le_of_ble_eq_true rfl, Nat.le_of_ble_eq_true rfl⟩ ⟨Nat.le_of_ble_eq_true rfl, Nat.le_of_ble_eq_true rfl⟩ dX0_mend_3 ?_
  refine lv_if_eq (tgt := 35) hx hb dX0_mend_6 (by decide) (fun c1 => ?_) (fun c1 => ?_)
  · have h := it_t c1 h
    refine lv_ldc (v := (-2000000000)) hx hb hown (hts _ q544) dX0_mend_35 ?_
    obtain ⟨e8, rfl⟩ := Prod.mk.inj (Option.some.inj h)
    refine W.widen (k := 1) (n := 4) (Nat.le_of_ble_eq_true rfl) (Nat.le_of_ble_eq_true rfl) ?_
    exact g_retG hx hb hr hlocks e8 (P := OCe D aC A o _) ⟨_, hO⟩ hS dX0_mend_37
  · have h := it_f c1 h
    refine lv_aload_n hx hb dX0_mend_9 rfl (lv_at hl 0 rfl) ?_
    refine lv_iload_n hx hb dX0_mend_10 rfl (lv_at hl 1 rfl) ?_
    refine lv_iload_n hx hb dX0_mend_11 rfl (lv_at hl 2 rfl) ?_
    refine lv_iload_n hx hb dX0_mend_12 rfl (lv_at hl 3 rfl) ?_
    refine clX0_mayBe hf hK hO hA hZ hS (metX0_mayBe l D aC A o la x1 x2 x3 z _ rfl) q506 hl.1 (Nat.le_of_ble_eq_true rfl) ⟨Nat.le_of_ble_eq_true rfl, Nat.le_of_ble_eq_true rfl⟩ ⟨Nat.le_of_ble_eq_true rfl, Nat.le_of_ble_eq_true rfl⟩ dX0_mend_13 ?_
    refine lv_if_eq (tgt := 35) hx hb dX0_mend_16 (by decide) (fun c2 => ?_) (fun c2 => ?_)
    · have h := it_t c2 h
      refine lv_ldc (v := (-2000000000)) hx hb hown (hts _ q544) dX0_mend_35 ?_
      obtain ⟨e8, rfl⟩ := Prod.mk.inj (Option.some.inj h)
      refine W.widen (k := 1) (n := 4) (Nat.le_of_ble_eq_true rfl) (Nat.le_of_ble_eq_true rfl) ?_
      exact g_retG hx hb hr hlocks e8 (P := OCe D aC A o _) ⟨_, hO⟩ hS dX0_mend_37
    · have h := it_f c2 h
      refine lv_aload_n hx hb dX0_mend_19 rfl (lv_at hl 0 rfl) ?_
      refine lv_iload_n hx hb dX0_mend_20 rfl (lv_at hl 2 rfl) ?_
      refine lv_iload_n hx hb dX0_mend_21 rfl (lv_at hl 1 rfl) ?_
      refine lv_aload_n hx hb dX0_mend_22 rfl (lv_at hl 0 rfl) ?_
      refine lv_iload_n hx hb dX0_mend_23 rfl (lv_at hl 1 rfl) ?_
      refine lv_iload_n hx hb dX0_mend_24 rfl (lv_at hl 2 rfl) ?_
      obtain ⟨r3, e4, h⟩ := bn1_e h
      refine clX0_valueOf hf hK hO hA hZ hS (metX0_valueOf l D aC A o la x1 x2 z r3 e4) q514 hl.1 (Nat.le_of_ble_eq_true rfl) ⟨Nat.le_of_ble_eq_true rfl, Nat.le_of_ble_eq_true rfl⟩ ⟨Nat.le_of_ble_eq_true rfl, Nat.le_of_ble_eq_true rfl⟩ dX0_mend_25 ?_
      refine lv_iload_n hx hb dX0_mend_28 rfl (lv_at hl 3 rfl) ?_
      obtain ⟨r5, z6, e7, h⟩ := bnd_e h
      refine clX0_become hf hK hO hA hZ hS (metX0_become l D aC A o la x2 x1 r3 x3 z r5 z6 e7) q518 hl.1 (Nat.le_of_ble_eq_true rfl) ⟨Nat.le_of_ble_eq_true rfl, Nat.le_of_ble_eq_true rfl⟩ ⟨Nat.le_of_ble_eq_true rfl, Nat.le_of_ble_eq_true rfl⟩ dX0_mend_29 (fun H locs hO hS => ?_)
      obtain ⟨la, hO⟩ := hO
      refine lv_goto (tgt := 37) hx hb dX0_mend_32 (by decide) ?_
      obtain ⟨e8, rfl⟩ := Prod.mk.inj (Option.some.inj h)
      refine W.widen (k := 1) (n := 4) (Nat.le_of_ble_eq_true rfl) (Nat.le_of_ble_eq_true rfl) ?_
      exact g_retG hx hb hr hlocks e8 (P := OCe D aC A o _) ⟨_, hO⟩ hS dX0_mend_37
