set_option maxRecDepth 100000
/-! printed by mkrowz.py ===== the rows of shelves: copy ===== -/
/-- what System.arraycopy asks of places and length -/
abbrev cpR (i j n a b : Int32) : Prop := 0 ≤ i.toInt ∧ 0 ≤ j.toInt ∧ 0 ≤ n.toInt ∧ i.toInt + n.toInt ≤ a.toInt ∧ j.toInt + n.toInt ≤ b.toInt
/-- the store behind a copy of n elements of shelf sh, from i on, onto shelf ot, from j on -/
def cpJ (z : GS) (sh ot : Nat) (i j n : Int32) : GS := (z.1, z.2.1, va_up z.2.2.1 (150 + ot) (va_cpy (z.2.2.1 (150 + sh)) (z.2.2.1 (150 + ot)) i.toNatClampNeg j.toNatClampNeg n.toNatClampNeg), z.2.2.2)
theorem nn0 {x : Int32} (h : 0 ≤ x.toInt) : ¬ x < 0 := by
  rw [Int32.lt_iff_toInt_lt]
  show ¬ x.toInt < 0
  omega
theorem cpR_use {i j n a b : Int32} (h : cpR i j n a b) : ¬ i < 0 ∧ ¬ j < 0 ∧ ¬ n < 0 ∧ i.toNatClampNeg + n.toNatClampNeg ≤ a.toNatClampNeg ∧ j.toNatClampNeg + n.toNatClampNeg ≤ b.toNatClampNeg := by
  obtain ⟨h1, h2, h3, h4, h5⟩ := h
  refine ⟨nn0 h1, nn0 h2, nn0 h3, ?_, ?_⟩
  · show i.toInt.toNat + n.toInt.toNat ≤ a.toInt.toNat
    omega
  · show j.toInt.toNat + n.toInt.toNat ≤ b.toInt.toNat
    omega
theorem cpR_not {i j n a b : Int32} {ty : FieldType} (ha : okI a 61) (hb : okI b 61) (h : ¬ cpR i j n a b) : ∃ what, copyFault ty ty a.toNatClampNeg b.toNatClampNeg i j n = some what := by
  have e1 : a.toNatClampNeg = a.toInt.toNat := rfl
  have e2 : b.toNatClampNeg = b.toInt.toNat := rfl
  have a0 := ha.1
  have b0 := hb.1
  have lt0 : ∀ x : Int32, ¬ x < 0 → 0 ≤ x.toInt := by
    intro x hx
    rw [Int32.lt_iff_toInt_lt] at hx
    have : ¬ x.toInt < 0 := hx
    omega
  unfold copyFault
  by_cases c1 : i < 0
  · rw [if_pos c1]; exact ⟨_, rfl⟩
  · rw [if_neg c1]
    by_cases c2 : j < 0
    · rw [if_pos c2]; exact ⟨_, rfl⟩
    · rw [if_neg c2]
      by_cases c3 : n < 0
      · rw [if_pos c3]; exact ⟨_, rfl⟩
      · rw [if_neg c3]
        by_cases c4 : i.toInt + n.toInt > a.toNatClampNeg
        · rw [if_pos c4]; exact ⟨_, rfl⟩
        · rw [if_neg c4]
          by_cases c5 : j.toInt + n.toInt > b.toNatClampNeg
          · rw [if_pos c5]; exact ⟨_, rfl⟩
          · exfalso
            refine h ⟨lt0 i c1, lt0 j c2, lt0 n c3, ?_, ?_⟩ <;> omega
theorem shN_9 {v : Int32} (h : okI v 61) : v.toNatClampNeg < 1000 := by
  have h1 : v.toNatClampNeg = v.toInt.toNat := rfl
  have := h.1; have := h.2
  omega
theorem cpy_i32 (f g : Nat → Int64) (sp dp k : Nat) : va_cpy (fun j => (f j).toInt32) (fun j => (g j).toInt32) sp dp k = fun j => (va_cpy f g sp dp k j).toInt32 := by
  funext q
  unfold va_cpy
  by_cases h : dp ≤ q ∧ q < dp + k
  · rw [if_pos h, if_pos h]
  · rw [if_neg h, if_neg h]
theorem shFit_cpy {h n1 n2 sp dp k : Nat} {E G : Nat → Int64} (hE : shFit h n1 E) (hG : shFit h n2 G) (hs : sp + k ≤ n1) : shFit h n2 (va_cpy E G sp dp k) := by
  intro q hq
  unfold va_cpy
  by_cases c : dp ≤ q ∧ q < dp + k
  · rw [if_pos c]; exact hE _ (by omega)
  · rw [if_neg c]; exact hG _ hq
theorem nc_rr0 : ∀ h9, h9 ≤ 4 → h9 ≠ 0 → ∃ r, vwCl[20 + h9]? = some r ∧ (r.1, "ShieldLine$ByteRow") ∈ ncTab ∧ packageOf r.1 = "" ∧ castOk r.1 "ShieldLine$ByteRow" = true
  | 0, _, h => absurd rfl h
  | 1, _, _ => ⟨_, rfl, by decide +kernel, by decide +kernel, by decide +kernel⟩
  | 2, _, _ => ⟨_, rfl, by decide +kernel, by decide +kernel, by decide +kernel⟩
  | 3, _, _ => ⟨_, rfl, by decide +kernel, by decide +kernel, by decide +kernel⟩
  | 4, _, _ => ⟨_, rfl, by decide +kernel, by decide +kernel, by decide +kernel⟩
  | n + 5, h, _ => absurd h (by omega)
theorem nc_rr1 : ∀ h9, h9 ≤ 4 → h9 ≠ 1 → ∃ r, vwCl[20 + h9]? = some r ∧ (r.1, "ShieldLine$ShortRow") ∈ ncTab ∧ packageOf r.1 = "" ∧ castOk r.1 "ShieldLine$ShortRow" = true
  | 0, _, _ => ⟨_, rfl, by decide +kernel, by decide +kernel, by decide +kernel⟩
  | 1, _, h => absurd rfl h
  | 2, _, _ => ⟨_, rfl, by decide +kernel, by decide +kernel, by decide +kernel⟩
  | 3, _, _ => ⟨_, rfl, by decide +kernel, by decide +kernel, by decide +kernel⟩
  | 4, _, _ => ⟨_, rfl, by decide +kernel, by decide +kernel, by decide +kernel⟩
  | n + 5, h, _ => absurd h (by omega)
theorem nc_rr2 : ∀ h9, h9 ≤ 4 → h9 ≠ 2 → ∃ r, vwCl[20 + h9]? = some r ∧ (r.1, "ShieldLine$IntRow") ∈ ncTab ∧ packageOf r.1 = "" ∧ castOk r.1 "ShieldLine$IntRow" = true
  | 0, _, _ => ⟨_, rfl, by decide +kernel, by decide +kernel, by decide +kernel⟩
  | 1, _, _ => ⟨_, rfl, by decide +kernel, by decide +kernel, by decide +kernel⟩
  | 2, _, h => absurd rfl h
  | 3, _, _ => ⟨_, rfl, by decide +kernel, by decide +kernel, by decide +kernel⟩
  | 4, _, _ => ⟨_, rfl, by decide +kernel, by decide +kernel, by decide +kernel⟩
  | n + 5, h, _ => absurd h (by omega)
theorem nc_rr3 : ∀ h9, h9 ≤ 4 → h9 ≠ 3 → ∃ r, vwCl[20 + h9]? = some r ∧ (r.1, "ShieldLine$LongRow") ∈ ncTab ∧ packageOf r.1 = "" ∧ castOk r.1 "ShieldLine$LongRow" = true
  | 0, _, _ => ⟨_, rfl, by decide +kernel, by decide +kernel, by decide +kernel⟩
  | 1, _, _ => ⟨_, rfl, by decide +kernel, by decide +kernel, by decide +kernel⟩
  | 2, _, _ => ⟨_, rfl, by decide +kernel, by decide +kernel, by decide +kernel⟩
  | 3, _, h => absurd rfl h
  | 4, _, _ => ⟨_, rfl, by decide +kernel, by decide +kernel, by decide +kernel⟩
  | n + 5, h, _ => absurd h (by omega)
theorem nc_rr4 : ∀ h9, h9 ≤ 4 → h9 ≠ 4 → ∃ r, vwCl[20 + h9]? = some r ∧ (r.1, "ShieldLine$BooleanRow") ∈ ncTab ∧ packageOf r.1 = "" ∧ castOk r.1 "ShieldLine$BooleanRow" = true
  | 0, _, _ => ⟨_, rfl, by decide +kernel, by decide +kernel, by decide +kernel⟩
  | 1, _, _ => ⟨_, rfl, by decide +kernel, by decide +kernel, by decide +kernel⟩
  | 2, _, _ => ⟨_, rfl, by decide +kernel, by decide +kernel, by decide +kernel⟩
  | 3, _, _ => ⟨_, rfl, by decide +kernel, by decide +kernel, by decide +kernel⟩
  | 4, _, h => absurd rfl h
  | n + 5, h, _ => absurd h (by omega)
section CL
variable {p : Program} {l : Launch} {e : Env} {R : Room} {s : State} {m : MethodId} {args : Array Value} {below : List Frame} {meth : Method} {c : Code} {H H0 : Heap} {locs : List Loc} {cells slots : Nat} {Q : State → Prop}
variable {cc : ByteArray} {pc index n : Nat} {ls : Array Slot} {rest : List Value}
/-- System.arraycopy of a long array, all other cells kept (after g_copyi) -/
theorem g_copyl {own : String} {a a0 n0 n1 : Nat} {c0 c1 : ClassId} {f g : Nat → Int64} {ty : FieldType} {sp dp k : Int32} (hx : p.tables.exec = Jvm.exec) (hb : c.code = cc) (hml : c.maxLocals = ls.size) (hown : s.vm.findClass own = some m.cls) (hlink : (Cond.methodLink own index arraycopyName).before args s = true) (hnat : (Cond.native arraycopyName).before args s = true) (hstat : (Cond.static arraycopyName).before args s = true) (hini : (Cond.initialized "java/lang/System").before args s = true)
    (hc0 : H[a0]? = some (vp_cell c0 (n0, .inr (.inl f)))) (hc1 : H[a]? = some (vp_cell c1 (n1, .inr (.inl g)))) (ht0 : ArrOfT s c0 ty) (ht1 : ArrOfT s c1 ty) (hprim : refKind ty = false)
    (h1 : ¬ sp < 0) (h2 : ¬ dp < 0) (h3 : ¬ k < 0) (h4 : sp.toNatClampNeg + k.toNatClampNeg ≤ n0) (h5 : dp.toNatClampNeg + k.toNatClampNeg ≤ n1) (hfit : ∀ i, i < k.toNatClampNeg → fits ty (.long (f (sp.toNatClampNeg + i))) = true)
    (hframes : 1 ≤ R.frames) (hlocals : (rest.map fun v => v.category).sum + (nativeFrameWords "java/lang/System" "arraycopy" 5 + 11) ≤ R.locals) (hdg : decode cc pc = .ok (.invokestatic index, 3))
    (kk : ∀ (H1 : Heap) (L : List Loc), (∀ q ∈ L, q.base = a) → H1[a]? = some (vp_cell c1 (n1, .inr (.inl (va_cpy f g sp.toNatClampNeg dp.toNatClampNeg k.toNatClampNeg)))) → H1.size = H.size → (∀ q : Nat, q ≠ a → H1[q]? = H[q]?) → W p l e R s m args below meth c H1 (locs ++ L) cells slots Q (F0 m (pc + 3) ls rest)) : W p l e R s m args below meth c H locs cells slots Q (F0 m pc ls (.int k :: .int dp :: .ref a :: .int sp :: .ref a0 :: rest)) := by
  intro T hT X
  obtain ⟨-, k0, hk0, cm0, hkk0⟩ := ht0 n0 (fun j => .long (f j))
  obtain ⟨-, k1, hk1, cm1, hkk1⟩ := ht1 n1 (fun j => .long (g j))
  obtain ⟨vm', X', step⟩ := X.arraycopy hx hown hlink hnat hstat hini (src := a0) (dst := a) (cs := vp_cell c0 (n0, .inr (.inl f))) (cd := vp_cell c1 (n1, .inr (.inl g))) (srcPos := sp) (destPos := dp) (n := k) (by rw [hT]; exact hc0) (by rw [hT]; exact hc1)
    (fun _ h => by cases h) (fun _ h => by cases h) (fun h => by cases h) (fun h => by cases h) hk0 hk1 hkk0 hkk1 (by simp [hprim]) h1 h2 h3
    (by rw [clamp_toInt h1, clamp_toInt h3]; show ¬ _ > ((arrV c0 n0 (fun j => .long (f j))).slots.size : Int); rw [arrV_size]; omega)
    (by rw [clamp_toInt h2, clamp_toInt h3]; show ¬ _ > ((arrV c1 n1 (fun j => .long (g j))).slots.size : Int); rw [arrV_size]; omega)
    (fun vm₁ _ i hi => by
      have e : (vp_cell c0 (n0, .inr (.inl f))).slots.getD (sp.toNatClampNeg + i) .null = .long (f (sp.toNatClampNeg + i)) := by
        show (arrV c0 n0 (fun j => .long (f j))).slots.getD _ _ = _
        rw [Array.getD_eq_getD_getElem?, arrV_read _ _ (by omega)]
        rfl
      refine ⟨?_, ?_⟩
      · rw [e]
        exact hfit i hi
      · rw [e]
        exact trivial)
    (g := F0 m pc ls (.int k :: .int dp :: .ref a :: .int sp :: .ref a0 :: rest)) rfl (by rw [hml]) (rest := rest) rfl (by rw [hb]; exact hdg) hframes (by show 2 * 0 + _ + _ ≤ _; omega)
  have e1 : copied (vp_cell c0 (n0, .inr (.inl f))) (vp_cell c1 (n1, .inr (.inl g))) sp dp k = vp_cell c1 (n1, .inr (.inl (va_cpy f g sp.toNatClampNeg dp.toNatClampNeg k.toNatClampNeg))) := va_copied (fun z => .long z) c0 c1 f g h4
  rw [e1] at X' step
  have hl : a < H.size := (Array.getElem?_eq_some_iff.mp hc1).1
  have hheap : ((T.setVm vm').setCell a (vp_cell c1 (n1, .inr (.inl (va_cpy f g sp.toNatClampNeg dp.toNatClampNeg k.toNatClampNeg))))).heap = H.setIfInBounds a (vp_cell c1 (n1, .inr (.inl (va_cpy f g sp.toNatClampNeg dp.toNatClampNeg k.toNatClampNeg)))) := by rw [← hT]; rfl
  obtain ⟨t, a1, b1⟩ := kk _ _ (fun q h => by
      obtain ⟨z, -, hz⟩ := List.mem_map.mp h
      rw [← hz]) (show (H.setIfInBounds a _)[a]? = some _ by simp [Array.getElem?_setIfInBounds, hl]) (by simp) (fun q hq => by simp [Array.getElem?_setIfInBounds, Ne.symm hq]) _ hheap X'
  exact ⟨t, step t a1, b1⟩
end CL


theorem metX23_copyR (l : Launch) (D : va_G) (aC : Nat → ClassId) (A : Nat → Prop) (o : Nat) (la : LC) (z : GS) (sh ot a b : Nat) (i j n : Int32) (hm8 : kMany (kz z) ≤ 8) (hs : sh < 6) (hu : ot < 6) (hh : kHold (kz z) sh = 0) (hk : kHold (kz z) ot = 0) (ha : lQ la 44 sh = some a) (hb9 : lQ la 44 ot = some b) (hr0 : cpR i j n (kA (kz z) 21 sh) (kA (kz z) 21 ot)) : Met l yX23_copy (ws_ yX23_copy cX23_copy 5 none) ({ frames := 1, cells := 0, slots := 0, locals := 20 }) (va_Pc [.ref a, .int i, .ref b, .int j, .int n] (PC D aC A o la z)) (QG none (OC D aC A o la (cpJ z sh ot i j n)) A) 0 0 A := by
  refine g_ofW (cc := cX23_copy) (maxL := 5) (ret := none) (own := RX23) (by decide) rfl rfl [.ref a, .int i, .ref b, .int j, .int n] (PC D aC A o la z) (Nat.le_of_ble_eq_true rfl) ?_
  intro p e s m below meth c ls hx hb hr hml hts hown hlocks hnm hPre hl
  obtain ⟨hO, hK, hA, hZ⟩ := hPre
  obtain ⟨a', h1, him, h2, h3, h4, h5⟩ := hO.row (h := 0) hs hh (by decide)
  cases h1.symm.trans ha
  have h3 : s.heap[lIa la sh]? = some (vp_cell (aC 2) ((kA (kz z) 21 sh).toNatClampNeg, .inl (fun j => (z.2.2.1 (150 + sh) j).toInt32))) := h3
  obtain ⟨b', g1, gim, g2, g3, g4, g5⟩ := hO.row (h := 0) hu hk (by decide)
  cases g1.symm.trans hb9
  have g3 : s.heap[lIa la ot]? = some (vp_cell (aC 2) ((kA (kz z) 21 ot).toNatClampNeg, .inl (fun j => (z.2.2.1 (150 + ot) j).toInt32))) := g3
  have hl : lv_has ls 5 [(0, .ref a), (1, .int i), (2, .ref b), (3, .int j), (4, .int n)] := hl
  refine lv_aload_n hx hb dX23_copy_0 rfl (lv_at hl 0 rfl) ?_
  refine nd_get hx hb hts in_X23 TX23_own hown hK hO (ci := 20) rfl him 0 (by decide) rfl (hts _ q1343) dX23_copy_1 ?_
  refine lv_iload_n hx hb dX23_copy_4 rfl (lv_at hl 1 rfl) ?_
  refine lv_aload_n hx hb dX23_copy_5 rfl (lv_at hl 2 rfl) ?_
  refine g_castI hx hb hown (hts _ q1448) hK hO (ci := 20) rfl gim (Or.inl rfl) dX23_copy_6 ?_
  refine nd_get hx hb hts in_X23 TX23_own hown hK hO (ci := 20) rfl gim 0 (by decide) rfl (hts _ q1343) dX23_copy_9 ?_
  refine lv_iload_n hx hb dX23_copy_12 rfl (lv_at hl 3 rfl) ?_
  refine lv_iload hx hb dX23_copy_13 (lv_at hl 4 rfl) ?_
  obtain ⟨c1, c2, c3, c4, c5⟩ := cpR_use hr0
  refine g_copyi (ty := .byte) hx hb (hml.trans hl.1.symm) hown (hts _ q1449) (hts _ q925) (hts _ q924) (hts _ q117) h3 g3 (hK.1.2 1 _ rfl).1 (hK.1.2 1 _ rfl).1 rfl c1 c2 c3 c4 c5 (fun q hq => h4 _ (by omega)) (Nat.le_of_ble_eq_true rfl) (Nat.le_of_ble_eq_true rfl) dX23_copy_15 (fun H1 L hL e1 e2 oq => ?_)
  have hO1 := hO.setE (H1 := H1) (h := 0) (E := va_cpy (z.2.2.1 (150 + sh)) (z.2.2.1 (150 + ot)) i.toNatClampNeg j.toNatClampNeg n.toNatClampNeg) hm8 hu hk (by decide) (by
    rw [e1]
    show _ = some (vp_cell (aC 2) (_, .inl _))
    rw [cpy_i32]) (shFit_cpy (h := 0) h4 g4 c4) oq
  exact g_retGv hx hb hr hlocks hO1 (va_S.rf.putL e2 oq (hO.2.2.1.2.2.2.2.2.2 _ (by rw [g5]; omega)) hL) dX23_copy_18
theorem metX23_copyX (l : Launch) (hst : l.stackTraces = false) (D : va_G) (aC : Nat → ClassId) (A : Nat → Prop) (o : Nat) (la : LC) (z : GS) (sh ot a b : Nat) (i j n : Int32) (hs : sh < 6) (hu : ot < 6) (hh : kHold (kz z) sh = 0) (hk : kHold (kz z) ot = 0) (ha : lQ la 44 sh = some a) (hb9 : lQ la 44 ot = some b) (hr0 : ¬ cpR i j n (kA (kz z) 21 sh) (kA (kz z) 21 ot)) : vx_Met l yX23_copy (ws_ yX23_copy cX23_copy 5 none) ({ frames := 10, cells := 3, slots := 410, locals := 10300 }) (va_Pc [.ref a, .int i, .ref b, .int j, .int n] (PC D aC A o la z)) (fun _ _ _ _ => False) (XE "java/lang/ArrayIndexOutOfBoundsException" (OC D aC A o la z) A) 3 410 A := by
  refine g_ofX (cc := cX23_copy) (maxL := 5) (ret := none) (own := RX23) (by decide) rfl rfl [.ref a, .int i, .ref b, .int j, .int n] (PC D aC A o la z) (Nat.le_of_ble_eq_true rfl) ?_
  intro p e s m below meth c ls hx hb hr hml hts hown hlocks htb hPre hl
  obtain ⟨hO, hK, hA, hZ⟩ := hPre
  obtain ⟨a', h1, him, h2, h3, h4, h5⟩ := hO.row (h := 0) hs hh (by decide)
  cases h1.symm.trans ha
  have h3 : s.heap[lIa la sh]? = some (vp_cell (aC 2) ((kA (kz z) 21 sh).toNatClampNeg, .inl (fun j => (z.2.2.1 (150 + sh) j).toInt32))) := h3
  obtain ⟨b', g1, gim, g2, g3, g4, g5⟩ := hO.row (h := 0) hu hk (by decide)
  cases g1.symm.trans hb9
  have g3 : s.heap[lIa la ot]? = some (vp_cell (aC 2) ((kA (kz z) 21 ot).toNatClampNeg, .inl (fun j => (z.2.2.1 (150 + ot) j).toInt32))) := g3
  have hl : lv_has ls 5 [(0, .ref a), (1, .int i), (2, .ref b), (3, .int j), (4, .int n)] := hl
  refine lv_aload_n hx hb dX23_copy_0 rfl (lv_at hl 0 rfl) ?_
  refine nd_get hx hb hts in_X23 TX23_own hown hK hO (ci := 20) rfl him 0 (by decide) rfl (hts _ q1343) dX23_copy_1 ?_
  refine lv_iload_n hx hb dX23_copy_4 rfl (lv_at hl 1 rfl) ?_
  refine lv_aload_n hx hb dX23_copy_5 rfl (lv_at hl 2 rfl) ?_
  refine g_castI hx hb hown (hts _ q1448) hK hO (ci := 20) rfl gim (Or.inl rfl) dX23_copy_6 ?_
  refine nd_get hx hb hts in_X23 TX23_own hown hK hO (ci := 20) rfl gim 0 (by decide) rfl (hts _ q1343) dX23_copy_9 ?_
  refine lv_iload_n hx hb dX23_copy_12 rfl (lv_at hl 3 rfl) ?_
  refine lv_iload hx hb dX23_copy_13 (lv_at hl 4 rfl) ?_
  obtain ⟨what, hf9⟩ := cpR_not (ty := .byte) h2 g2 hr0
  have n1 : (vp_cell (aC 2) ((kA (kz z) 21 sh).toNatClampNeg, .inl (fun j => (z.2.2.1 (150 + sh) j).toInt32))).slots.size = (kA (kz z) 21 sh).toNatClampNeg := arrV_size _ _ _
  have n2 : (vp_cell (aC 2) ((kA (kz z) 21 ot).toNatClampNeg, .inl (fun j => (z.2.2.1 (150 + ot) j).toInt32))).slots.size = (kA (kz z) 21 ot).toNatClampNeg := arrV_size _ _ _
  obtain ⟨-, k0, hk0, cm0, hkk0⟩ := (hK.1.2 1 _ rfl).1 (kA (kz z) 21 sh).toNatClampNeg (fun q => .int ((z.2.2.1 (150 + sh) q).toInt32))
  have hk0 : s.vm.classes[aC 2]? = some k0 := hk0
  refine g_copyX (ty := .byte) (what := what) (c0 := aC 2) (c1 := aC 2) hx hst hb (hml.trans hl.1.symm) hts hown hK hZ va_S.rf (hts _ q1449) (hts _ q925) (hts _ q924) (hts _ q117) h3 g3 rfl rfl rfl rfl ⟨k0, cm0, hk0, hkk0⟩ ⟨k0, cm0, hk0, hkk0⟩ n1 n2 (shN_9 h2) (shN_9 g2) hf9 (by decide) (Nat.le_of_ble_eq_true rfl) (Nat.le_of_ble_eq_true rfl) ⟨Nat.le_of_ble_eq_true rfl, Nat.le_of_ble_eq_true rfl⟩ hlocks dX23_copy_15 (fun H1 q9 ce hz1 hq1 hS hce hv hcl => ?_)
  exact vx_out (fun x hx => (htb x hx).elim) hlocks hce hv hcl (fun t htp _ => ⟨rfl, by rw [htp]; exact hO.grow hq1, hS.F htp⟩) hS.2.2 (Nat.le_of_ble_eq_true rfl) (Nat.le_of_ble_eq_true rfl)
theorem metX23_copyC (l : Launch) (hst : l.stackTraces = false) (D : va_G) (aC : Nat → ClassId) (A : Nat → Prop) (o : Nat) (la : LC) (z : GS) (sh ot a b : Nat) (i j n : Int32) (h9 : Nat) (hn4 : h9 ≤ 4) (hne : h9 ≠ 0) (hs : sh < 6) (hu : ot < 6) (hh : kHold (kz z) sh = 0) (hk : kHold (kz z) ot = nI h9) (ha : lQ la 44 sh = some a) (hb9 : lQ la 44 ot = some b) : vx_Met l yX23_copy (ws_ yX23_copy cX23_copy 5 none) ({ frames := 9, cells := 3, slots := 1010, locals := 10300 }) (va_Pc [.ref a, .int i, .ref b, .int j, .int n] (PC D aC A o la z)) (fun _ _ _ _ => False) (XE "java/lang/ClassCastException" (OC D aC A o la z) A) 3 1010 A := by
  refine g_ofX (cc := cX23_copy) (maxL := 5) (ret := none) (own := RX23) (by decide) rfl rfl [.ref a, .int i, .ref b, .int j, .int n] (PC D aC A o la z) (Nat.le_of_ble_eq_true rfl) ?_
  intro p e s m below meth c ls hx hb hr hml hts hown hlocks htb hPre hl
  obtain ⟨hO, hK, hA, hZ⟩ := hPre
  obtain ⟨a', h1, him, h2, h3, h4, h5⟩ := hO.row (h := 0) hs hh (by decide)
  cases h1.symm.trans ha
  have h3 : s.heap[lIa la sh]? = some (vp_cell (aC 2) ((kA (kz z) 21 sh).toNatClampNeg, .inl (fun j => (z.2.2.1 (150 + sh) j).toInt32))) := h3
  obtain ⟨b', g1, gim, -⟩ := hO.row (h := h9) hu hk hn4
  cases g1.symm.trans hb9
  have hl : lv_has ls 5 [(0, .ref a), (1, .int i), (2, .ref b), (3, .int j), (4, .int n)] := hl
  refine lv_aload_n hx hb dX23_copy_0 rfl (lv_at hl 0 rfl) ?_
  refine nd_get hx hb hts in_X23 TX23_own hown hK hO (ci := 20) rfl him 0 (by decide) rfl (hts _ q1343) dX23_copy_1 ?_
  refine lv_iload_n hx hb dX23_copy_4 rfl (lv_at hl 1 rfl) ?_
  refine lv_aload_n hx hb dX23_copy_5 rfl (lv_at hl 2 rfl) ?_
  obtain ⟨rc, v1, v2, v3, v4⟩ := nc_rr0 h9 hn4 hne
  refine g_castNo hx hb hown (hts _ q1448) (hK.nc v2) hK.2.2.2 v3 (by decide +kernel) (nd_recv hK hO v1 gim) dX23_copy_6 (fun q => ?_)
  refine g_vmC hx hst hts hK hZ va_S.rf (hl.1.trans hml.symm) (castOk_use v4 q) (Nat.le_of_ble_eq_true rfl) (Nat.le_of_ble_eq_true rfl) ⟨Nat.le_of_ble_eq_true rfl, Nat.le_of_ble_eq_true rfl⟩ hlocks (fun H1 q9 ce hz1 hq1 hS hce hv hcl => ?_)
  exact vx_out (fun x hx => (htb x hx).elim) hlocks hce hv hcl (fun t htp _ => ⟨rfl, by rw [htp]; exact hO.grow hq1, hS.F htp⟩) hS.2.2 (Nat.le_of_ble_eq_true rfl) (Nat.le_of_ble_eq_true rfl)
theorem metX24_copyR (l : Launch) (D : va_G) (aC : Nat → ClassId) (A : Nat → Prop) (o : Nat) (la : LC) (z : GS) (sh ot a b : Nat) (i j n : Int32) (hm8 : kMany (kz z) ≤ 8) (hs : sh < 6) (hu : ot < 6) (hh : kHold (kz z) sh = 1) (hk : kHold (kz z) ot = 1) (ha : lQ la 44 sh = some a) (hb9 : lQ la 44 ot = some b) (hr0 : cpR i j n (kA (kz z) 21 sh) (kA (kz z) 21 ot)) : Met l yX24_copy (ws_ yX24_copy cX24_copy 5 none) ({ frames := 1, cells := 0, slots := 0, locals := 20 }) (va_Pc [.ref a, .int i, .ref b, .int j, .int n] (PC D aC A o la z)) (QG none (OC D aC A o la (cpJ z sh ot i j n)) A) 0 0 A := by
  refine g_ofW (cc := cX24_copy) (maxL := 5) (ret := none) (own := RX24) (by decide) rfl rfl [.ref a, .int i, .ref b, .int j, .int n] (PC D aC A o la z) (Nat.le_of_ble_eq_true rfl) ?_
  intro p e s m below meth c ls hx hb hr hml hts hown hlocks hnm hPre hl
  obtain ⟨hO, hK, hA, hZ⟩ := hPre
  obtain ⟨a', h1, him, h2, h3, h4, h5⟩ := hO.row (h := 1) hs hh (by decide)
  cases h1.symm.trans ha
  have h3 : s.heap[lIa la sh]? = some (vp_cell (aC 6) ((kA (kz z) 21 sh).toNatClampNeg, .inl (fun j => (z.2.2.1 (150 + sh) j).toInt32))) := h3
  obtain ⟨b', g1, gim, g2, g3, g4, g5⟩ := hO.row (h := 1) hu hk (by decide)
  cases g1.symm.trans hb9
  have g3 : s.heap[lIa la ot]? = some (vp_cell (aC 6) ((kA (kz z) 21 ot).toNatClampNeg, .inl (fun j => (z.2.2.1 (150 + ot) j).toInt32))) := g3
  have hl : lv_has ls 5 [(0, .ref a), (1, .int i), (2, .ref b), (3, .int j), (4, .int n)] := hl
  refine lv_aload_n hx hb dX24_copy_0 rfl (lv_at hl 0 rfl) ?_
  refine nd_get hx hb hts in_X24 TX24_own hown hK hO (ci := 21) rfl him 0 (by decide) rfl (hts _ q1353) dX24_copy_1 ?_
  refine lv_iload_n hx hb dX24_copy_4 rfl (lv_at hl 1 rfl) ?_
  refine lv_aload_n hx hb dX24_copy_5 rfl (lv_at hl 2 rfl) ?_
  refine g_castI hx hb hown (hts _ q1463) hK hO (ci := 21) rfl gim (Or.inl rfl) dX24_copy_6 ?_
  refine nd_get hx hb hts in_X24 TX24_own hown hK hO (ci := 21) rfl gim 0 (by decide) rfl (hts _ q1353) dX24_copy_9 ?_
  refine lv_iload_n hx hb dX24_copy_12 rfl (lv_at hl 3 rfl) ?_
  refine lv_iload hx hb dX24_copy_13 (lv_at hl 4 rfl) ?_
  obtain ⟨c1, c2, c3, c4, c5⟩ := cpR_use hr0
  refine g_copyi (ty := .short) hx hb (hml.trans hl.1.symm) hown (hts _ q1464) (hts _ q925) (hts _ q924) (hts _ q117) h3 g3 (hK.1.2 5 _ rfl).1 (hK.1.2 5 _ rfl).1 rfl c1 c2 c3 c4 c5 (fun q hq => h4 _ (by omega)) (Nat.le_of_ble_eq_true rfl) (Nat.le_of_ble_eq_true rfl) dX24_copy_15 (fun H1 L hL e1 e2 oq => ?_)
  have hO1 := hO.setE (H1 := H1) (h := 1) (E := va_cpy (z.2.2.1 (150 + sh)) (z.2.2.1 (150 + ot)) i.toNatClampNeg j.toNatClampNeg n.toNatClampNeg) hm8 hu hk (by decide) (by
    rw [e1]
    show _ = some (vp_cell (aC 6) (_, .inl _))
    rw [cpy_i32]) (shFit_cpy (h := 1) h4 g4 c4) oq
  exact g_retGv hx hb hr hlocks hO1 (va_S.rf.putL e2 oq (hO.2.2.1.2.2.2.2.2.2 _ (by rw [g5]; omega)) hL) dX24_copy_18
theorem metX24_copyX (l : Launch) (hst : l.stackTraces = false) (D : va_G) (aC : Nat → ClassId) (A : Nat → Prop) (o : Nat) (la : LC) (z : GS) (sh ot a b : Nat) (i j n : Int32) (hs : sh < 6) (hu : ot < 6) (hh : kHold (kz z) sh = 1) (hk : kHold (kz z) ot = 1) (ha : lQ la 44 sh = some a) (hb9 : lQ la 44 ot = some b) (hr0 : ¬ cpR i j n (kA (kz z) 21 sh) (kA (kz z) 21 ot)) : vx_Met l yX24_copy (ws_ yX24_copy cX24_copy 5 none) ({ frames := 10, cells := 3, slots := 410, locals := 10300 }) (va_Pc [.ref a, .int i, .ref b, .int j, .int n] (PC D aC A o la z)) (fun _ _ _ _ => False) (XE "java/lang/ArrayIndexOutOfBoundsException" (OC D aC A o la z) A) 3 410 A := by
  refine g_ofX (cc := cX24_copy) (maxL := 5) (ret := none) (own := RX24) (by decide) rfl rfl [.ref a, .int i, .ref b, .int j, .int n] (PC D aC A o la z) (Nat.le_of_ble_eq_true rfl) ?_
  intro p e s m below meth c ls hx hb hr hml hts hown hlocks htb hPre hl
  obtain ⟨hO, hK, hA, hZ⟩ := hPre
  obtain ⟨a', h1, him, h2, h3, h4, h5⟩ := hO.row (h := 1) hs hh (by decide)
  cases h1.symm.trans ha
  have h3 : s.heap[lIa la sh]? = some (vp_cell (aC 6) ((kA (kz z) 21 sh).toNatClampNeg, .inl (fun j => (z.2.2.1 (150 + sh) j).toInt32))) := h3
  obtain ⟨b', g1, gim, g2, g3, g4, g5⟩ := hO.row (h := 1) hu hk (by decide)
  cases g1.symm.trans hb9
  have g3 : s.heap[lIa la ot]? = some (vp_cell (aC 6) ((kA (kz z) 21 ot).toNatClampNeg, .inl (fun j => (z.2.2.1 (150 + ot) j).toInt32))) := g3
  have hl : lv_has ls 5 [(0, .ref a), (1, .int i), (2, .ref b), (3, .int j), (4, .int n)] := hl
  refine lv_aload_n hx hb dX24_copy_0 rfl (lv_at hl 0 rfl) ?_
  refine nd_get hx hb hts in_X24 TX24_own hown hK hO (ci := 21) rfl him 0 (by decide) rfl (hts _ q1353) dX24_copy_1 ?_
  refine lv_iload_n hx hb dX24_copy_4 rfl (lv_at hl 1 rfl) ?_
  refine lv_aload_n hx hb dX24_copy_5 rfl (lv_at hl 2 rfl) ?_
  refine g_castI hx hb hown (hts _ q1463) hK hO (ci := 21) rfl gim (Or.inl rfl) dX24_copy_6 ?_
  refine nd_get hx hb hts in_X24 TX24_own hown hK hO (ci := 21) rfl gim 0 (by decide) rfl (hts _ q1353) dX24_copy_9 ?_
  refine lv_iload_n hx hb dX24_copy_12 rfl (lv_at hl 3 rfl) ?_
  refine lv_iload hx hb dX24_copy_13 (lv_at hl 4 rfl) ?_
  obtain ⟨what, hf9⟩ := cpR_not (ty := .short) h2 g2 hr0
  have n1 : (vp_cell (aC 6) ((kA (kz z) 21 sh).toNatClampNeg, .inl (fun j => (z.2.2.1 (150 + sh) j).toInt32))).slots.size = (kA (kz z) 21 sh).toNatClampNeg := arrV_size _ _ _
  have n2 : (vp_cell (aC 6) ((kA (kz z) 21 ot).toNatClampNeg, .inl (fun j => (z.2.2.1 (150 + ot) j).toInt32))).slots.size = (kA (kz z) 21 ot).toNatClampNeg := arrV_size _ _ _
  obtain ⟨-, k0, hk0, cm0, hkk0⟩ := (hK.1.2 5 _ rfl).1 (kA (kz z) 21 sh).toNatClampNeg (fun q => .int ((z.2.2.1 (150 + sh) q).toInt32))
  have hk0 : s.vm.classes[aC 6]? = some k0 := hk0
  refine g_copyX (ty := .short) (what := what) (c0 := aC 6) (c1 := aC 6) hx hst hb (hml.trans hl.1.symm) hts hown hK hZ va_S.rf (hts _ q1464) (hts _ q925) (hts _ q924) (hts _ q117) h3 g3 rfl rfl rfl rfl ⟨k0, cm0, hk0, hkk0⟩ ⟨k0, cm0, hk0, hkk0⟩ n1 n2 (shN_9 h2) (shN_9 g2) hf9 (by decide) (Nat.le_of_ble_eq_true rfl) (Nat.le_of_ble_eq_true rfl) ⟨Nat.le_of_ble_eq_true rfl, Nat.le_of_ble_eq_true rfl⟩ hlocks dX24_copy_15 (fun H1 q9 ce hz1 hq1 hS hce hv hcl => ?_)
  exact vx_out (fun x hx => (htb x hx).elim) hlocks hce hv hcl (fun t htp _ => ⟨rfl, by rw [htp]; exact hO.grow hq1, hS.F htp⟩) hS.2.2 (Nat.le_of_ble_eq_true rfl) (Nat.le_of_ble_eq_true rfl)
theorem metX24_copyC (l : Launch) (hst : l.stackTraces = false) (D : va_G) (aC : Nat → ClassId) (A : Nat → Prop) (o : Nat) (la : LC) (z : GS) (sh ot a b : Nat) (i j n : Int32) (h9 : Nat) (hn4 : h9 ≤ 4) (hne : h9 ≠ 1) (hs : sh < 6) (hu : ot < 6) (hh : kHold (kz z) sh = 1) (hk : kHold (kz z) ot = nI h9) (ha : lQ la 44 sh = some a) (hb9 : lQ la 44 ot = some b) : vx_Met l yX24_copy (ws_ yX24_copy cX24_copy 5 none) ({ frames := 9, cells := 3, slots := 1010, locals := 10300 }) (va_Pc [.ref a, .int i, .ref b, .int j, .int n] (PC D aC A o la z)) (fun _ _ _ _ => False) (XE "java/lang/ClassCastException" (OC D aC A o la z) A) 3 1010 A := by
  refine g_ofX (cc := cX24_copy) (maxL := 5) (ret := none) (own := RX24) (by decide) rfl rfl [.ref a, .int i, .ref b, .int j, .int n] (PC D aC A o la z) (Nat.le_of_ble_eq_true rfl) ?_
  intro p e s m below meth c ls hx hb hr hml hts hown hlocks htb hPre hl
  obtain ⟨hO, hK, hA, hZ⟩ := hPre
  obtain ⟨a', h1, him, h2, h3, h4, h5⟩ := hO.row (h := 1) hs hh (by decide)
  cases h1.symm.trans ha
  have h3 : s.heap[lIa la sh]? = some (vp_cell (aC 6) ((kA (kz z) 21 sh).toNatClampNeg, .inl (fun j => (z.2.2.1 (150 + sh) j).toInt32))) := h3
  obtain ⟨b', g1, gim, -⟩ := hO.row (h := h9) hu hk hn4
  cases g1.symm.trans hb9
  have hl : lv_has ls 5 [(0, .ref a), (1, .int i), (2, .ref b), (3, .int j), (4, .int n)] := hl
  refine lv_aload_n hx hb dX24_copy_0 rfl (lv_at hl 0 rfl) ?_
  refine nd_get hx hb hts in_X24 TX24_own hown hK hO (ci := 21) rfl him 0 (by decide) rfl (hts _ q1353) dX24_copy_1 ?_
  refine lv_iload_n hx hb dX24_copy_4 rfl (lv_at hl 1 rfl) ?_
  refine lv_aload_n hx hb dX24_copy_5 rfl (lv_at hl 2 rfl) ?_
  obtain ⟨rc, v1, v2, v3, v4⟩ := nc_rr1 h9 hn4 hne
  refine g_castNo hx hb hown (hts _ q1463) (hK.nc v2) hK.2.2.2 v3 (by decide +kernel) (nd_recv hK hO v1 gim) dX24_copy_6 (fun q => ?_)
  refine g_vmC hx hst hts hK hZ va_S.rf (hl.1.trans hml.symm) (castOk_use v4 q) (Nat.le_of_ble_eq_true rfl) (Nat.le_of_ble_eq_true rfl) ⟨Nat.le_of_ble_eq_true rfl, Nat.le_of_ble_eq_true rfl⟩ hlocks (fun H1 q9 ce hz1 hq1 hS hce hv hcl => ?_)
  exact vx_out (fun x hx => (htb x hx).elim) hlocks hce hv hcl (fun t htp _ => ⟨rfl, by rw [htp]; exact hO.grow hq1, hS.F htp⟩) hS.2.2 (Nat.le_of_ble_eq_true rfl) (Nat.le_of_ble_eq_true rfl)
theorem metX25_copyR (l : Launch) (D : va_G) (aC : Nat → ClassId) (A : Nat → Prop) (o : Nat) (la : LC) (z : GS) (sh ot a b : Nat) (i j n : Int32) (hm8 : kMany (kz z) ≤ 8) (hs : sh < 6) (hu : ot < 6) (hh : kHold (kz z) sh = 2) (hk : kHold (kz z) ot = 2) (ha : lQ la 44 sh = some a) (hb9 : lQ la 44 ot = some b) (hr0 : cpR i j n (kA (kz z) 21 sh) (kA (kz z) 21 ot)) : Met l yX25_copy (ws_ yX25_copy cX25_copy 5 none) ({ frames := 1, cells := 0, slots := 0, locals := 20 }) (va_Pc [.ref a, .int i, .ref b, .int j, .int n] (PC D aC A o la z)) (QG none (OC D aC A o la (cpJ z sh ot i j n)) A) 0 0 A := by
  refine g_ofW (cc := cX25_copy) (maxL := 5) (ret := none) (own := RX25) (by decide) rfl rfl [.ref a, .int i, .ref b, .int j, .int n] (PC D aC A o la z) (Nat.le_of_ble_eq_true rfl) ?_
  intro p e s m below meth c ls hx hb hr hml hts hown hlocks hnm hPre hl
  obtain ⟨hO, hK, hA, hZ⟩ := hPre
  obtain ⟨a', h1, him, h2, h3, h4, h5⟩ := hO.row (h := 2) hs hh (by decide)
  cases h1.symm.trans ha
  have h3 : s.heap[lIa la sh]? = some (vp_cell (aC 1) ((kA (kz z) 21 sh).toNatClampNeg, .inl (fun j => (z.2.2.1 (150 + sh) j).toInt32))) := h3
  obtain ⟨b', g1, gim, g2, g3, g4, g5⟩ := hO.row (h := 2) hu hk (by decide)
  cases g1.symm.trans hb9
  have g3 : s.heap[lIa la ot]? = some (vp_cell (aC 1) ((kA (kz z) 21 ot).toNatClampNeg, .inl (fun j => (z.2.2.1 (150 + ot) j).toInt32))) := g3
  have hl : lv_has ls 5 [(0, .ref a), (1, .int i), (2, .ref b), (3, .int j), (4, .int n)] := hl
  refine lv_aload_n hx hb dX25_copy_0 rfl (lv_at hl 0 rfl) ?_
  refine nd_get hx hb hts in_X25 TX25_own hown hK hO (ci := 22) rfl him 0 (by decide) rfl (hts _ q1364) dX25_copy_1 ?_
  refine lv_iload_n hx hb dX25_copy_4 rfl (lv_at hl 1 rfl) ?_
  refine lv_aload_n hx hb dX25_copy_5 rfl (lv_at hl 2 rfl) ?_
  refine g_castI hx hb hown (hts _ q1453) hK hO (ci := 22) rfl gim (Or.inl rfl) dX25_copy_6 ?_
  refine nd_get hx hb hts in_X25 TX25_own hown hK hO (ci := 22) rfl gim 0 (by decide) rfl (hts _ q1364) dX25_copy_9 ?_
  refine lv_iload_n hx hb dX25_copy_12 rfl (lv_at hl 3 rfl) ?_
  refine lv_iload hx hb dX25_copy_13 (lv_at hl 4 rfl) ?_
  obtain ⟨c1, c2, c3, c4, c5⟩ := cpR_use hr0
  refine g_copyi (ty := .int) hx hb (hml.trans hl.1.symm) hown (hts _ q1454) (hts _ q925) (hts _ q924) (hts _ q117) h3 g3 (hK.1.2 0 _ rfl).1 (hK.1.2 0 _ rfl).1 rfl c1 c2 c3 c4 c5 (fun q hq => h4 _ (by omega)) (Nat.le_of_ble_eq_true rfl) (Nat.le_of_ble_eq_true rfl) dX25_copy_15 (fun H1 L hL e1 e2 oq => ?_)
  have hO1 := hO.setE (H1 := H1) (h := 2) (E := va_cpy (z.2.2.1 (150 + sh)) (z.2.2.1 (150 + ot)) i.toNatClampNeg j.toNatClampNeg n.toNatClampNeg) hm8 hu hk (by decide) (by
    rw [e1]
    show _ = some (vp_cell (aC 1) (_, .inl _))
    rw [cpy_i32]) (shFit_cpy (h := 2) h4 g4 c4) oq
  exact g_retGv hx hb hr hlocks hO1 (va_S.rf.putL e2 oq (hO.2.2.1.2.2.2.2.2.2 _ (by rw [g5]; omega)) hL) dX25_copy_18
theorem metX25_copyX (l : Launch) (hst : l.stackTraces = false) (D : va_G) (aC : Nat → ClassId) (A : Nat → Prop) (o : Nat) (la : LC) (z : GS) (sh ot a b : Nat) (i j n : Int32) (hs : sh < 6) (hu : ot < 6) (hh : kHold (kz z) sh = 2) (hk : kHold (kz z) ot = 2) (ha : lQ la 44 sh = some a) (hb9 : lQ la 44 ot = some b) (hr0 : ¬ cpR i j n (kA (kz z) 21 sh) (kA (kz z) 21 ot)) : vx_Met l yX25_copy (ws_ yX25_copy cX25_copy 5 none) ({ frames := 10, cells := 3, slots := 410, locals := 10300 }) (va_Pc [.ref a, .int i, .ref b, .int j, .int n] (PC D aC A o la z)) (fun _ _ _ _ => False) (XE "java/lang/ArrayIndexOutOfBoundsException" (OC D aC A o la z) A) 3 410 A := by
  refine g_ofX (cc := cX25_copy) (maxL := 5) (ret := none) (own := RX25) (by decide) rfl rfl [.ref a, .int i, .ref b, .int j, .int n] (PC D aC A o la z) (Nat.le_of_ble_eq_true rfl) ?_
  intro p e s m below meth c ls hx hb hr hml hts hown hlocks htb hPre hl
  obtain ⟨hO, hK, hA, hZ⟩ := hPre
  obtain ⟨a', h1, him, h2, h3, h4, h5⟩ := hO.row (h := 2) hs hh (by decide)
  cases h1.symm.trans ha
  have h3 : s.heap[lIa la sh]? = some (vp_cell (aC 1) ((kA (kz z) 21 sh).toNatClampNeg, .inl (fun j => (z.2.2.1 (150 + sh) j).toInt32))) := h3
  obtain ⟨b', g1, gim, g2, g3, g4, g5⟩ := hO.row (h := 2) hu hk (by decide)
  cases g1.symm.trans hb9
  have g3 : s.heap[lIa la ot]? = some (vp_cell (aC 1) ((kA (kz z) 21 ot).toNatClampNeg, .inl (fun j => (z.2.2.1 (150 + ot) j).toInt32))) := g3
  have hl : lv_has ls 5 [(0, .ref a), (1, .int i), (2, .ref b), (3, .int j), (4, .int n)] := hl
  refine lv_aload_n hx hb dX25_copy_0 rfl (lv_at hl 0 rfl) ?_
  refine nd_get hx hb hts in_X25 TX25_own hown hK hO (ci := 22) rfl him 0 (by decide) rfl (hts _ q1364) dX25_copy_1 ?_
  refine lv_iload_n hx hb dX25_copy_4 rfl (lv_at hl 1 rfl) ?_
  refine lv_aload_n hx hb dX25_copy_5 rfl (lv_at hl 2 rfl) ?_
  refine g_castI hx hb hown (hts _ q1453) hK hO (ci := 22) rfl gim (Or.inl rfl) dX25_copy_6 ?_
  refine nd_get hx hb hts in_X25 TX25_own hown hK hO (ci := 22) rfl gim 0 (by decide) rfl (hts _ q1364) dX25_copy_9 ?_
  refine lv_iload_n hx hb dX25_copy_12 rfl (lv_at hl 3 rfl) ?_
  refine lv_iload hx hb dX25_copy_13 (lv_at hl 4 rfl) ?_
  obtain ⟨what, hf9⟩ := cpR_not (ty := .int) h2 g2 hr0
  have n1 : (vp_cell (aC 1) ((kA (kz z) 21 sh).toNatClampNeg, .inl (fun j => (z.2.2.1 (150 + sh) j).toInt32))).slots.size = (kA (kz z) 21 sh).toNatClampNeg := arrV_size _ _ _
  have n2 : (vp_cell (aC 1) ((kA (kz z) 21 ot).toNatClampNeg, .inl (fun j => (z.2.2.1 (150 + ot) j).toInt32))).slots.size = (kA (kz z) 21 ot).toNatClampNeg := arrV_size _ _ _
  obtain ⟨-, k0, hk0, cm0, hkk0⟩ := (hK.1.2 0 _ rfl).1 (kA (kz z) 21 sh).toNatClampNeg (fun q => .int ((z.2.2.1 (150 + sh) q).toInt32))
  have hk0 : s.vm.classes[aC 1]? = some k0 := hk0
  refine g_copyX (ty := .int) (what := what) (c0 := aC 1) (c1 := aC 1) hx hst hb (hml.trans hl.1.symm) hts hown hK hZ va_S.rf (hts _ q1454) (hts _ q925) (hts _ q924) (hts _ q117) h3 g3 rfl rfl rfl rfl ⟨k0, cm0, hk0, hkk0⟩ ⟨k0, cm0, hk0, hkk0⟩ n1 n2 (shN_9 h2) (shN_9 g2) hf9 (by decide) (Nat.le_of_ble_eq_true rfl) (Nat.le_of_ble_eq_true rfl) ⟨Nat.le_of_ble_eq_true rfl, Nat.le_of_ble_eq_true rfl⟩ hlocks dX25_copy_15 (fun H1 q9 ce hz1 hq1 hS hce hv hcl => ?_)
  exact vx_out (fun x hx => (htb x hx).elim) hlocks hce hv hcl (fun t htp _ => ⟨rfl, by rw [htp]; exact hO.grow hq1, hS.F htp⟩) hS.2.2 (Nat.le_of_ble_eq_true rfl) (Nat.le_of_ble_eq_true rfl)
theorem metX25_copyC (l : Launch) (hst : l.stackTraces = false) (D : va_G) (aC : Nat → ClassId) (A : Nat → Prop) (o : Nat) (la : LC) (z : GS) (sh ot a b : Nat) (i j n : Int32) (h9 : Nat) (hn4 : h9 ≤ 4) (hne : h9 ≠ 2) (hs : sh < 6) (hu : ot < 6) (hh : kHold (kz z) sh = 2) (hk : kHold (kz z) ot = nI h9) (ha : lQ la 44 sh = some a) (hb9 : lQ la 44 ot = some b) : vx_Met l yX25_copy (ws_ yX25_copy cX25_copy 5 none) ({ frames := 9, cells := 3, slots := 1010, locals := 10300 }) (va_Pc [.ref a, .int i, .ref b, .int j, .int n] (PC D aC A o la z)) (fun _ _ _ _ => False) (XE "java/lang/ClassCastException" (OC D aC A o la z) A) 3 1010 A := by
  refine g_ofX (cc := cX25_copy) (maxL := 5) (ret := none) (own := RX25) (by decide) rfl rfl [.ref a, .int i, .ref b, .int j, .int n] (PC D aC A o la z) (Nat.le_of_ble_eq_true rfl) ?_
  intro p e s m below meth c ls hx hb hr hml hts hown hlocks htb hPre hl
  obtain ⟨hO, hK, hA, hZ⟩ := hPre
  obtain ⟨a', h1, him, h2, h3, h4, h5⟩ := hO.row (h := 2) hs hh (by decide)
  cases h1.symm.trans ha
  have h3 : s.heap[lIa la sh]? = some (vp_cell (aC 1) ((kA (kz z) 21 sh).toNatClampNeg, .inl (fun j => (z.2.2.1 (150 + sh) j).toInt32))) := h3
  obtain ⟨b', g1, gim, -⟩ := hO.row (h := h9) hu hk hn4
  cases g1.symm.trans hb9
  have hl : lv_has ls 5 [(0, .ref a), (1, .int i), (2, .ref b), (3, .int j), (4, .int n)] := hl
  refine lv_aload_n hx hb dX25_copy_0 rfl (lv_at hl 0 rfl) ?_
  refine nd_get hx hb hts in_X25 TX25_own hown hK hO (ci := 22) rfl him 0 (by decide) rfl (hts _ q1364) dX25_copy_1 ?_
  refine lv_iload_n hx hb dX25_copy_4 rfl (lv_at hl 1 rfl) ?_
  refine lv_aload_n hx hb dX25_copy_5 rfl (lv_at hl 2 rfl) ?_
  obtain ⟨rc, v1, v2, v3, v4⟩ := nc_rr2 h9 hn4 hne
  refine g_castNo hx hb hown (hts _ q1453) (hK.nc v2) hK.2.2.2 v3 (by decide +kernel) (nd_recv hK hO v1 gim) dX25_copy_6 (fun q => ?_)
  refine g_vmC hx hst hts hK hZ va_S.rf (hl.1.trans hml.symm) (castOk_use v4 q) (Nat.le_of_ble_eq_true rfl) (Nat.le_of_ble_eq_true rfl) ⟨Nat.le_of_ble_eq_true rfl, Nat.le_of_ble_eq_true rfl⟩ hlocks (fun H1 q9 ce hz1 hq1 hS hce hv hcl => ?_)
  exact vx_out (fun x hx => (htb x hx).elim) hlocks hce hv hcl (fun t htp _ => ⟨rfl, by rw [htp]; exact hO.grow hq1, hS.F htp⟩) hS.2.2 (Nat.le_of_ble_eq_true rfl) (Nat.le_of_ble_eq_true rfl)
theorem metX26_copyR (l : Launch) (D : va_G) (aC : Nat → ClassId) (A : Nat → Prop) (o : Nat) (la : LC) (z : GS) (sh ot a b : Nat) (i j n : Int32) (hm8 : kMany (kz z) ≤ 8) (hs : sh < 6) (hu : ot < 6) (hh : kHold (kz z) sh = 3) (hk : kHold (kz z) ot = 3) (ha : lQ la 44 sh = some a) (hb9 : lQ la 44 ot = some b) (hr0 : cpR i j n (kA (kz z) 21 sh) (kA (kz z) 21 ot)) : Met l yX26_copy (ws_ yX26_copy cX26_copy 5 none) ({ frames := 1, cells := 0, slots := 0, locals := 20 }) (va_Pc [.ref a, .int i, .ref b, .int j, .int n] (PC D aC A o la z)) (QG none (OC D aC A o la (cpJ z sh ot i j n)) A) 0 0 A := by
  refine g_ofW (cc := cX26_copy) (maxL := 5) (ret := none) (own := RX26) (by decide) rfl rfl [.ref a, .int i, .ref b, .int j, .int n] (PC D aC A o la z) (Nat.le_of_ble_eq_true rfl) ?_
  intro p e s m below meth c ls hx hb hr hml hts hown hlocks hnm hPre hl
  obtain ⟨hO, hK, hA, hZ⟩ := hPre
  obtain ⟨a', h1, him, h2, h3, h4, h5⟩ := hO.row (h := 3) hs hh (by decide)
  cases h1.symm.trans ha
  have h3 : s.heap[lIa la sh]? = some (vp_cell (aC 3) ((kA (kz z) 21 sh).toNatClampNeg, .inr (.inl (z.2.2.1 (150 + sh))))) := h3
  obtain ⟨b', g1, gim, g2, g3, g4, g5⟩ := hO.row (h := 3) hu hk (by decide)
  cases g1.symm.trans hb9
  have g3 : s.heap[lIa la ot]? = some (vp_cell (aC 3) ((kA (kz z) 21 ot).toNatClampNeg, .inr (.inl (z.2.2.1 (150 + ot))))) := g3
  have hl : lv_has ls 5 [(0, .ref a), (1, .int i), (2, .ref b), (3, .int j), (4, .int n)] := hl
  refine lv_aload_n hx hb dX26_copy_0 rfl (lv_at hl 0 rfl) ?_
  refine nd_get hx hb hts in_X26 TX26_own hown hK hO (ci := 23) rfl him 0 (by decide) rfl (hts _ q1374) dX26_copy_1 ?_
  refine lv_iload_n hx hb dX26_copy_4 rfl (lv_at hl 1 rfl) ?_
  refine lv_aload_n hx hb dX26_copy_5 rfl (lv_at hl 2 rfl) ?_
  refine g_castI hx hb hown (hts _ q1458) hK hO (ci := 23) rfl gim (Or.inl rfl) dX26_copy_6 ?_
  refine nd_get hx hb hts in_X26 TX26_own hown hK hO (ci := 23) rfl gim 0 (by decide) rfl (hts _ q1374) dX26_copy_9 ?_
  refine lv_iload_n hx hb dX26_copy_12 rfl (lv_at hl 3 rfl) ?_
  refine lv_iload hx hb dX26_copy_13 (lv_at hl 4 rfl) ?_
  obtain ⟨c1, c2, c3, c4, c5⟩ := cpR_use hr0
  refine g_copyl hx hb (hml.trans hl.1.symm) hown (hts _ q1459) (hts _ q925) (hts _ q924) (hts _ q117) h3 g3 (hK.1.2 2 _ rfl).1 (hK.1.2 2 _ rfl).1 rfl c1 c2 c3 c4 c5 (fun _ _ => rfl) (Nat.le_of_ble_eq_true rfl) (Nat.le_of_ble_eq_true rfl) dX26_copy_15 (fun H1 L hL e1 e2 oq => ?_)
  have hO1 := hO.setE (H1 := H1) (h := 3) (E := va_cpy (z.2.2.1 (150 + sh)) (z.2.2.1 (150 + ot)) i.toNatClampNeg j.toNatClampNeg n.toNatClampNeg) hm8 hu hk (by decide) e1 (shFit_cpy (h := 3) h4 g4 c4) oq
  exact g_retGv hx hb hr hlocks hO1 (va_S.rf.putL e2 oq (hO.2.2.1.2.2.2.2.2.2 _ (by rw [g5]; omega)) hL) dX26_copy_18
theorem metX26_copyX (l : Launch) (hst : l.stackTraces = false) (D : va_G) (aC : Nat → ClassId) (A : Nat → Prop) (o : Nat) (la : LC) (z : GS) (sh ot a b : Nat) (i j n : Int32) (hs : sh < 6) (hu : ot < 6) (hh : kHold (kz z) sh = 3) (hk : kHold (kz z) ot = 3) (ha : lQ la 44 sh = some a) (hb9 : lQ la 44 ot = some b) (hr0 : ¬ cpR i j n (kA (kz z) 21 sh) (kA (kz z) 21 ot)) : vx_Met l yX26_copy (ws_ yX26_copy cX26_copy 5 none) ({ frames := 10, cells := 3, slots := 410, locals := 10300 }) (va_Pc [.ref a, .int i, .ref b, .int j, .int n] (PC D aC A o la z)) (fun _ _ _ _ => False) (XE "java/lang/ArrayIndexOutOfBoundsException" (OC D aC A o la z) A) 3 410 A := by
  refine g_ofX (cc := cX26_copy) (maxL := 5) (ret := none) (own := RX26) (by decide) rfl rfl [.ref a, .int i, .ref b, .int j, .int n] (PC D aC A o la z) (Nat.le_of_ble_eq_true rfl) ?_
  intro p e s m below meth c ls hx hb hr hml hts hown hlocks htb hPre hl
  obtain ⟨hO, hK, hA, hZ⟩ := hPre
  obtain ⟨a', h1, him, h2, h3, h4, h5⟩ := hO.row (h := 3) hs hh (by decide)
  cases h1.symm.trans ha
  have h3 : s.heap[lIa la sh]? = some (vp_cell (aC 3) ((kA (kz z) 21 sh).toNatClampNeg, .inr (.inl (z.2.2.1 (150 + sh))))) := h3
  obtain ⟨b', g1, gim, g2, g3, g4, g5⟩ := hO.row (h := 3) hu hk (by decide)
  cases g1.symm.trans hb9
  have g3 : s.heap[lIa la ot]? = some (vp_cell (aC 3) ((kA (kz z) 21 ot).toNatClampNeg, .inr (.inl (z.2.2.1 (150 + ot))))) := g3
  have hl : lv_has ls 5 [(0, .ref a), (1, .int i), (2, .ref b), (3, .int j), (4, .int n)] := hl
  refine lv_aload_n hx hb dX26_copy_0 rfl (lv_at hl 0 rfl) ?_
  refine nd_get hx hb hts in_X26 TX26_own hown hK hO (ci := 23) rfl him 0 (by decide) rfl (hts _ q1374) dX26_copy_1 ?_
  refine lv_iload_n hx hb dX26_copy_4 rfl (lv_at hl 1 rfl) ?_
  refine lv_aload_n hx hb dX26_copy_5 rfl (lv_at hl 2 rfl) ?_
  refine g_castI hx hb hown (hts _ q1458) hK hO (ci := 23) rfl gim (Or.inl rfl) dX26_copy_6 ?_
  refine nd_get hx hb hts in_X26 TX26_own hown hK hO (ci := 23) rfl gim 0 (by decide) rfl (hts _ q1374) dX26_copy_9 ?_
  refine lv_iload_n hx hb dX26_copy_12 rfl (lv_at hl 3 rfl) ?_
  refine lv_iload hx hb dX26_copy_13 (lv_at hl 4 rfl) ?_
  obtain ⟨what, hf9⟩ := cpR_not (ty := .long) h2 g2 hr0
  have n1 : (vp_cell (aC 3) ((kA (kz z) 21 sh).toNatClampNeg, .inr (.inl (z.2.2.1 (150 + sh))))).slots.size = (kA (kz z) 21 sh).toNatClampNeg := arrV_size _ _ _
  have n2 : (vp_cell (aC 3) ((kA (kz z) 21 ot).toNatClampNeg, .inr (.inl (z.2.2.1 (150 + ot))))).slots.size = (kA (kz z) 21 ot).toNatClampNeg := arrV_size _ _ _
  obtain ⟨-, k0, hk0, cm0, hkk0⟩ := (hK.1.2 2 _ rfl).1 (kA (kz z) 21 sh).toNatClampNeg (fun q => .long (z.2.2.1 (150 + sh) q))
  have hk0 : s.vm.classes[aC 3]? = some k0 := hk0
  refine g_copyX (ty := .long) (what := what) (c0 := aC 3) (c1 := aC 3) hx hst hb (hml.trans hl.1.symm) hts hown hK hZ va_S.rf (hts _ q1459) (hts _ q925) (hts _ q924) (hts _ q117) h3 g3 rfl rfl rfl rfl ⟨k0, cm0, hk0, hkk0⟩ ⟨k0, cm0, hk0, hkk0⟩ n1 n2 (shN_9 h2) (shN_9 g2) hf9 (by decide) (Nat.le_of_ble_eq_true rfl) (Nat.le_of_ble_eq_true rfl) ⟨Nat.le_of_ble_eq_true rfl, Nat.le_of_ble_eq_true rfl⟩ hlocks dX26_copy_15 (fun H1 q9 ce hz1 hq1 hS hce hv hcl => ?_)
  exact vx_out (fun x hx => (htb x hx).elim) hlocks hce hv hcl (fun t htp _ => ⟨rfl, by rw [htp]; exact hO.grow hq1, hS.F htp⟩) hS.2.2 (Nat.le_of_ble_eq_true rfl) (Nat.le_of_ble_eq_true rfl)
theorem metX26_copyC (l : Launch) (hst : l.stackTraces = false) (D : va_G) (aC : Nat → ClassId) (A : Nat → Prop) (o : Nat) (la : LC) (z : GS) (sh ot a b : Nat) (i j n : Int32) (h9 : Nat) (hn4 : h9 ≤ 4) (hne : h9 ≠ 3) (hs : sh < 6) (hu : ot < 6) (hh : kHold (kz z) sh = 3) (hk : kHold (kz z) ot = nI h9) (ha : lQ la 44 sh = some a) (hb9 : lQ la 44 ot = some b) : vx_Met l yX26_copy (ws_ yX26_copy cX26_copy 5 none) ({ frames := 9, cells := 3, slots := 1010, locals := 10300 }) (va_Pc [.ref a, .int i, .ref b, .int j, .int n] (PC D aC A o la z)) (fun _ _ _ _ => False) (XE "java/lang/ClassCastException" (OC D aC A o la z) A) 3 1010 A := by
  refine g_ofX (cc := cX26_copy) (maxL := 5) (ret := none) (own := RX26) (by decide) rfl rfl [.ref a, .int i, .ref b, .int j, .int n] (PC D aC A o la z) (Nat.le_of_ble_eq_true rfl) ?_
  intro p e s m below meth c ls hx hb hr hml hts hown hlocks htb hPre hl
  obtain ⟨hO, hK, hA, hZ⟩ := hPre
  obtain ⟨a', h1, him, h2, h3, h4, h5⟩ := hO.row (h := 3) hs hh (by decide)
  cases h1.symm.trans ha
  have h3 : s.heap[lIa la sh]? = some (vp_cell (aC 3) ((kA (kz z) 21 sh).toNatClampNeg, .inr (.inl (z.2.2.1 (150 + sh))))) := h3
  obtain ⟨b', g1, gim, -⟩ := hO.row (h := h9) hu hk hn4
  cases g1.symm.trans hb9
  have hl : lv_has ls 5 [(0, .ref a), (1, .int i), (2, .ref b), (3, .int j), (4, .int n)] := hl
  refine lv_aload_n hx hb dX26_copy_0 rfl (lv_at hl 0 rfl) ?_
  refine nd_get hx hb hts in_X26 TX26_own hown hK hO (ci := 23) rfl him 0 (by decide) rfl (hts _ q1374) dX26_copy_1 ?_
  refine lv_iload_n hx hb dX26_copy_4 rfl (lv_at hl 1 rfl) ?_
  refine lv_aload_n hx hb dX26_copy_5 rfl (lv_at hl 2 rfl) ?_
  obtain ⟨rc, v1, v2, v3, v4⟩ := nc_rr3 h9 hn4 hne
  refine g_castNo hx hb hown (hts _ q1458) (hK.nc v2) hK.2.2.2 v3 (by decide +kernel) (nd_recv hK hO v1 gim) dX26_copy_6 (fun q => ?_)
  refine g_vmC hx hst hts hK hZ va_S.rf (hl.1.trans hml.symm) (castOk_use v4 q) (Nat.le_of_ble_eq_true rfl) (Nat.le_of_ble_eq_true rfl) ⟨Nat.le_of_ble_eq_true rfl, Nat.le_of_ble_eq_true rfl⟩ hlocks (fun H1 q9 ce hz1 hq1 hS hce hv hcl => ?_)
  exact vx_out (fun x hx => (htb x hx).elim) hlocks hce hv hcl (fun t htp _ => ⟨rfl, by rw [htp]; exact hO.grow hq1, hS.F htp⟩) hS.2.2 (Nat.le_of_ble_eq_true rfl) (Nat.le_of_ble_eq_true rfl)
theorem metX27_copyR (l : Launch) (D : va_G) (aC : Nat → ClassId) (A : Nat → Prop) (o : Nat) (la : LC) (z : GS) (sh ot a b : Nat) (i j n : Int32) (hm8 : kMany (kz z) ≤ 8) (hs : sh < 6) (hu : ot < 6) (hh : kHold (kz z) sh = 4) (hk : kHold (kz z) ot = 4) (ha : lQ la 44 sh = some a) (hb9 : lQ la 44 ot = some b) (hr0 : cpR i j n (kA (kz z) 21 sh) (kA (kz z) 21 ot)) : Met l yX27_copy (ws_ yX27_copy cX27_copy 5 none) ({ frames := 1, cells := 0, slots := 0, locals := 20 }) (va_Pc [.ref a, .int i, .ref b, .int j, .int n] (PC D aC A o la z)) (QG none (OC D aC A o la (cpJ z sh ot i j n)) A) 0 0 A := by
  refine g_ofW (cc := cX27_copy) (maxL := 5) (ret := none) (own := RX27) (by decide) rfl rfl [.ref a, .int i, .ref b, .int j, .int n] (PC D aC A o la z) (Nat.le_of_ble_eq_true rfl) ?_
  intro p e s m below meth c ls hx hb hr hml hts hown hlocks hnm hPre hl
  obtain ⟨hO, hK, hA, hZ⟩ := hPre
  obtain ⟨a', h1, him, h2, h3, h4, h5⟩ := hO.row (h := 4) hs hh (by decide)
  cases h1.symm.trans ha
  have h3 : s.heap[lIa la sh]? = some (vp_cell (aC 5) ((kA (kz z) 21 sh).toNatClampNeg, .inl (fun j => (z.2.2.1 (150 + sh) j).toInt32))) := h3
  obtain ⟨b', g1, gim, g2, g3, g4, g5⟩ := hO.row (h := 4) hu hk (by decide)
  cases g1.symm.trans hb9
  have g3 : s.heap[lIa la ot]? = some (vp_cell (aC 5) ((kA (kz z) 21 ot).toNatClampNeg, .inl (fun j => (z.2.2.1 (150 + ot) j).toInt32))) := g3
  have hl : lv_has ls 5 [(0, .ref a), (1, .int i), (2, .ref b), (3, .int j), (4, .int n)] := hl
  refine lv_aload_n hx hb dX27_copy_0 rfl (lv_at hl 0 rfl) ?_
  refine nd_get hx hb hts in_X27 TX27_own hown hK hO (ci := 24) rfl him 0 (by decide) rfl (hts _ q1385) dX27_copy_1 ?_
  refine lv_iload_n hx hb dX27_copy_4 rfl (lv_at hl 1 rfl) ?_
  refine lv_aload_n hx hb dX27_copy_5 rfl (lv_at hl 2 rfl) ?_
  refine g_castI hx hb hown (hts _ q1443) hK hO (ci := 24) rfl gim (Or.inl rfl) dX27_copy_6 ?_
  refine nd_get hx hb hts in_X27 TX27_own hown hK hO (ci := 24) rfl gim 0 (by decide) rfl (hts _ q1385) dX27_copy_9 ?_
  refine lv_iload_n hx hb dX27_copy_12 rfl (lv_at hl 3 rfl) ?_
  refine lv_iload hx hb dX27_copy_13 (lv_at hl 4 rfl) ?_
  obtain ⟨c1, c2, c3, c4, c5⟩ := cpR_use hr0
  refine g_copyi (ty := .boolean) hx hb (hml.trans hl.1.symm) hown (hts _ q1444) (hts _ q925) (hts _ q924) (hts _ q117) h3 g3 (hK.1.2 4 _ rfl).1 (hK.1.2 4 _ rfl).1 rfl c1 c2 c3 c4 c5 (fun q hq => h4 _ (by omega)) (Nat.le_of_ble_eq_true rfl) (Nat.le_of_ble_eq_true rfl) dX27_copy_15 (fun H1 L hL e1 e2 oq => ?_)
  have hO1 := hO.setE (H1 := H1) (h := 4) (E := va_cpy (z.2.2.1 (150 + sh)) (z.2.2.1 (150 + ot)) i.toNatClampNeg j.toNatClampNeg n.toNatClampNeg) hm8 hu hk (by decide) (by
    rw [e1]
    show _ = some (vp_cell (aC 5) (_, .inl _))
    rw [cpy_i32]) (shFit_cpy (h := 4) h4 g4 c4) oq
  exact g_retGv hx hb hr hlocks hO1 (va_S.rf.putL e2 oq (hO.2.2.1.2.2.2.2.2.2 _ (by rw [g5]; omega)) hL) dX27_copy_18
theorem metX27_copyX (l : Launch) (hst : l.stackTraces = false) (D : va_G) (aC : Nat → ClassId) (A : Nat → Prop) (o : Nat) (la : LC) (z : GS) (sh ot a b : Nat) (i j n : Int32) (hs : sh < 6) (hu : ot < 6) (hh : kHold (kz z) sh = 4) (hk : kHold (kz z) ot = 4) (ha : lQ la 44 sh = some a) (hb9 : lQ la 44 ot = some b) (hr0 : ¬ cpR i j n (kA (kz z) 21 sh) (kA (kz z) 21 ot)) : vx_Met l yX27_copy (ws_ yX27_copy cX27_copy 5 none) ({ frames := 10, cells := 3, slots := 410, locals := 10300 }) (va_Pc [.ref a, .int i, .ref b, .int j, .int n] (PC D aC A o la z)) (fun _ _ _ _ => False) (XE "java/lang/ArrayIndexOutOfBoundsException" (OC D aC A o la z) A) 3 410 A := by
  refine g_ofX (cc := cX27_copy) (maxL := 5) (ret := none) (own := RX27) (by decide) rfl rfl [.ref a, .int i, .ref b, .int j, .int n] (PC D aC A o la z) (Nat.le_of_ble_eq_true rfl) ?_
  intro p e s m below meth c ls hx hb hr hml hts hown hlocks htb hPre hl
  obtain ⟨hO, hK, hA, hZ⟩ := hPre
  obtain ⟨a', h1, him, h2, h3, h4, h5⟩ := hO.row (h := 4) hs hh (by decide)
  cases h1.symm.trans ha
  have h3 : s.heap[lIa la sh]? = some (vp_cell (aC 5) ((kA (kz z) 21 sh).toNatClampNeg, .inl (fun j => (z.2.2.1 (150 + sh) j).toInt32))) := h3
  obtain ⟨b', g1, gim, g2, g3, g4, g5⟩ := hO.row (h := 4) hu hk (by decide)
  cases g1.symm.trans hb9
  have g3 : s.heap[lIa la ot]? = some (vp_cell (aC 5) ((kA (kz z) 21 ot).toNatClampNeg, .inl (fun j => (z.2.2.1 (150 + ot) j).toInt32))) := g3
  have hl : lv_has ls 5 [(0, .ref a), (1, .int i), (2, .ref b), (3, .int j), (4, .int n)] := hl
  refine lv_aload_n hx hb dX27_copy_0 rfl (lv_at hl 0 rfl) ?_
  refine nd_get hx hb hts in_X27 TX27_own hown hK hO (ci := 24) rfl him 0 (by decide) rfl (hts _ q1385) dX27_copy_1 ?_
  refine lv_iload_n hx hb dX27_copy_4 rfl (lv_at hl 1 rfl) ?_
  refine lv_aload_n hx hb dX27_copy_5 rfl (lv_at hl 2 rfl) ?_
  refine g_castI hx hb hown (hts _ q1443) hK hO (ci := 24) rfl gim (Or.inl rfl) dX27_copy_6 ?_
  refine nd_get hx hb hts in_X27 TX27_own hown hK hO (ci := 24) rfl gim 0 (by decide) rfl (hts _ q1385) dX27_copy_9 ?_
  refine lv_iload_n hx hb dX27_copy_12 rfl (lv_at hl 3 rfl) ?_
  refine lv_iload hx hb dX27_copy_13 (lv_at hl 4 rfl) ?_
  obtain ⟨what, hf9⟩ := cpR_not (ty := .boolean) h2 g2 hr0
  have n1 : (vp_cell (aC 5) ((kA (kz z) 21 sh).toNatClampNeg, .inl (fun j => (z.2.2.1 (150 + sh) j).toInt32))).slots.size = (kA (kz z) 21 sh).toNatClampNeg := arrV_size _ _ _
  have n2 : (vp_cell (aC 5) ((kA (kz z) 21 ot).toNatClampNeg, .inl (fun j => (z.2.2.1 (150 + ot) j).toInt32))).slots.size = (kA (kz z) 21 ot).toNatClampNeg := arrV_size _ _ _
  obtain ⟨-, k0, hk0, cm0, hkk0⟩ := (hK.1.2 4 _ rfl).1 (kA (kz z) 21 sh).toNatClampNeg (fun q => .int ((z.2.2.1 (150 + sh) q).toInt32))
  have hk0 : s.vm.classes[aC 5]? = some k0 := hk0
  refine g_copyX (ty := .boolean) (what := what) (c0 := aC 5) (c1 := aC 5) hx hst hb (hml.trans hl.1.symm) hts hown hK hZ va_S.rf (hts _ q1444) (hts _ q925) (hts _ q924) (hts _ q117) h3 g3 rfl rfl rfl rfl ⟨k0, cm0, hk0, hkk0⟩ ⟨k0, cm0, hk0, hkk0⟩ n1 n2 (shN_9 h2) (shN_9 g2) hf9 (by decide) (Nat.le_of_ble_eq_true rfl) (Nat.le_of_ble_eq_true rfl) ⟨Nat.le_of_ble_eq_true rfl, Nat.le_of_ble_eq_true rfl⟩ hlocks dX27_copy_15 (fun H1 q9 ce hz1 hq1 hS hce hv hcl => ?_)
  exact vx_out (fun x hx => (htb x hx).elim) hlocks hce hv hcl (fun t htp _ => ⟨rfl, by rw [htp]; exact hO.grow hq1, hS.F htp⟩) hS.2.2 (Nat.le_of_ble_eq_true rfl) (Nat.le_of_ble_eq_true rfl)
theorem metX27_copyC (l : Launch) (hst : l.stackTraces = false) (D : va_G) (aC : Nat → ClassId) (A : Nat → Prop) (o : Nat) (la : LC) (z : GS) (sh ot a b : Nat) (i j n : Int32) (h9 : Nat) (hn4 : h9 ≤ 4) (hne : h9 ≠ 4) (hs : sh < 6) (hu : ot < 6) (hh : kHold (kz z) sh = 4) (hk : kHold (kz z) ot = nI h9) (ha : lQ la 44 sh = some a) (hb9 : lQ la 44 ot = some b) : vx_Met l yX27_copy (ws_ yX27_copy cX27_copy 5 none) ({ frames := 9, cells := 3, slots := 1010, locals := 10300 }) (va_Pc [.ref a, .int i, .ref b, .int j, .int n] (PC D aC A o la z)) (fun _ _ _ _ => False) (XE "java/lang/ClassCastException" (OC D aC A o la z) A) 3 1010 A := by
  refine g_ofX (cc := cX27_copy) (maxL := 5) (ret := none) (own := RX27) (by decide) rfl rfl [.ref a, .int i, .ref b, .int j, .int n] (PC D aC A o la z) (Nat.le_of_ble_eq_true rfl) ?_
  intro p e s m below meth c ls hx hb hr hml hts hown hlocks htb hPre hl
  obtain ⟨hO, hK, hA, hZ⟩ := hPre
  obtain ⟨a', h1, him, h2, h3, h4, h5⟩ := hO.row (h := 4) hs hh (by decide)
  cases h1.symm.trans ha
  have h3 : s.heap[lIa la sh]? = some (vp_cell (aC 5) ((kA (kz z) 21 sh).toNatClampNeg, .inl (fun j => (z.2.2.1 (150 + sh) j).toInt32))) := h3
  obtain ⟨b', g1, gim, -⟩ := hO.row (h := h9) hu hk hn4
  cases g1.symm.trans hb9
  have hl : lv_has ls 5 [(0, .ref a), (1, .int i), (2, .ref b), (3, .int j), (4, .int n)] := hl
  refine lv_aload_n hx hb dX27_copy_0 rfl (lv_at hl 0 rfl) ?_
  refine nd_get hx hb hts in_X27 TX27_own hown hK hO (ci := 24) rfl him 0 (by decide) rfl (hts _ q1385) dX27_copy_1 ?_
  refine lv_iload_n hx hb dX27_copy_4 rfl (lv_at hl 1 rfl) ?_
  refine lv_aload_n hx hb dX27_copy_5 rfl (lv_at hl 2 rfl) ?_
  obtain ⟨rc, v1, v2, v3, v4⟩ := nc_rr4 h9 hn4 hne
  refine g_castNo hx hb hown (hts _ q1443) (hK.nc v2) hK.2.2.2 v3 (by decide +kernel) (nd_recv hK hO v1 gim) dX27_copy_6 (fun q => ?_)
  refine g_vmC hx hst hts hK hZ va_S.rf (hl.1.trans hml.symm) (castOk_use v4 q) (Nat.le_of_ble_eq_true rfl) (Nat.le_of_ble_eq_true rfl) ⟨Nat.le_of_ble_eq_true rfl, Nat.le_of_ble_eq_true rfl⟩ hlocks (fun H1 q9 ce hz1 hq1 hS hce hv hcl => ?_)
  exact vx_out (fun x hx => (htb x hx).elim) hlocks hce hv hcl (fun t htp _ => ⟨rfl, by rw [htp]; exact hO.grow hq1, hS.F htp⟩) hS.2.2 (Nat.le_of_ble_eq_true rfl) (Nat.le_of_ble_eq_true rfl)
section RZ
variable {p : Program} {l : Launch} {e : Env} {R : Room} {s : State} {m : MethodId} {args : Array Value} {below : List Frame} {meth : Method} {c : Code} {H : Heap} {locs : List Loc} {cells slots : Nat} {Q : State → Prop}
variable {cc : ByteArray} {pc nL idx : Nat} {ls : Array Slot} {rest : List Value} {own : String} {D : va_G} {aC : Nat → ClassId} {A : Nat → Prop} {o : Nat} {la : LC} {z zq : GS}
abbrev yRow_copy : MethodName := ⟨"ShieldLine$Row", "copy", "(ILShieldLine$Row;II)V"⟩
theorem row_copyR {h sh ot a b : Nat} {i j n : Int32} (hf : CallFix p m c cc nL s args lw_all own) (hK : KC D aC s) (hO : OC D aC A o la z H) (hA : ∀ q : Nat, s.heap.size ≤ q → A q) (hZ : ZX A s s.heap) (hS : va_S A s.heap H locs) (h4 : h ≤ 4) (hs6 : sh < 6) (hu6 : ot < 6) (hh : kHold (kz z) sh = nI h) (hk : kHold (kz z) ot = nI h) (ha : lQ la 44 sh = some a) (hb9 : lQ la 44 ot = some b) (hm8 : kMany (kz z) ≤ 8) (hr0 : cpR i j n (kA (kz z) 21 sh) (kA (kz z) 21 ot)) (hq : Cond.methodLink own idx yRow_copy ∈ lw_all) (hs : ls.size = nL) (hr : (rest.map fun v => v.category).sum ≤ 8) (hR : 1 + 1 ≤ R.frames ∧ 8 + (5 + 11) + 20 ≤ R.locals) (hcs : cells ≤ R.cells ∧ slots ≤ R.slots) (hd : decode cc pc = .ok (.invokevirtual idx, 3)) (kk : ∀ (H1 : Heap) (locs1 : List Loc), OC D aC A o la (cpJ z sh ot i j n) H1 → va_S A s.heap H1 locs1 → W p l e R s m args below meth c H1 locs1 cells slots Q (F0 m (pc + 3) ls rest)) : W p l e R s m args below meth c H locs cells slots Q (F0 m pc ls (.int n :: .int j :: .ref b :: .int i :: .ref a :: rest)) := by
  obtain ⟨a2, h1, him, -⟩ := hO.row hs6 hh h4
  cases h1.symm.trans ha
  have h5 : h = 0 ∨ h = 1 ∨ h = 2 ∨ h = 3 ∨ h = 4 := by omega
  rcases h5 with rfl | rfl | rfl | rfl | rfl
  · exact absG (x := yRow_copy) (owner := "ShieldLine$Row") (As := [.int i, .ref b, .int j, .int n]) (ci := 20) rfl him q1445 q1439 q1438 q1446 q129 q1447 (metX23_copyR l D aC A o la z sh ot _ b i j n hm8 hs6 hu6 hh hk ha hb9 hr0) (k := 4) rfl (by decide +kernel) hf hK hO hA hZ hS hq hs hr hR hcs hd kk
  · exact absG (x := yRow_copy) (owner := "ShieldLine$Row") (As := [.int i, .ref b, .int j, .int n]) (ci := 21) rfl him q1460 q1439 q1438 q1461 q130 q1462 (metX24_copyR l D aC A o la z sh ot _ b i j n hm8 hs6 hu6 hh hk ha hb9 hr0) (k := 4) rfl (by decide +kernel) hf hK hO hA hZ hS hq hs hr hR hcs hd kk
  · exact absG (x := yRow_copy) (owner := "ShieldLine$Row") (As := [.int i, .ref b, .int j, .int n]) (ci := 22) rfl him q1450 q1439 q1438 q1451 q131 q1452 (metX25_copyR l D aC A o la z sh ot _ b i j n hm8 hs6 hu6 hh hk ha hb9 hr0) (k := 4) rfl (by decide +kernel) hf hK hO hA hZ hS hq hs hr hR hcs hd kk
  · exact absG (x := yRow_copy) (owner := "ShieldLine$Row") (As := [.int i, .ref b, .int j, .int n]) (ci := 23) rfl him q1455 q1439 q1438 q1456 q132 q1457 (metX26_copyR l D aC A o la z sh ot _ b i j n hm8 hs6 hu6 hh hk ha hb9 hr0) (k := 4) rfl (by decide +kernel) hf hK hO hA hZ hS hq hs hr hR hcs hd kk
  · exact absG (x := yRow_copy) (owner := "ShieldLine$Row") (As := [.int i, .ref b, .int j, .int n]) (ci := 24) rfl him q1440 q1439 q1438 q1441 q133 q1442 (metX27_copyR l D aC A o la z sh ot _ b i j n hm8 hs6 hu6 hh hk ha hb9 hr0) (k := 4) rfl (by decide +kernel) hf hK hO hA hZ hS hq hs hr hR hcs hd kk
theorem row_copyX {h sh ot a b : Nat} {i j n : Int32} (hf : CallFix p m c cc nL s args lw_all own) (hK : KC D aC s) (hO : OC D aC A o la z H) (hA : ∀ q : Nat, s.heap.size ≤ q → A q) (hZ : ZX A s s.heap) (hS : va_S A s.heap H locs) (h4 : h ≤ 4) (hs6 : sh < 6) (hu6 : ot < 6) (hh : kHold (kz z) sh = nI h) (hk : kHold (kz z) ot = nI h) (ha : lQ la 44 sh = some a) (hb9 : lQ la 44 ot = some b) (hst : l.stackTraces = false) (hr0 : ¬ cpR i j n (kA (kz z) 21 sh) (kA (kz z) 21 ot)) (hq : Cond.methodLink own idx yRow_copy ∈ lw_all) (hs : ls.size = nL) (hr : (rest.map fun v => v.category).sum ≤ 8) (hR : 10 + 1 ≤ R.frames ∧ 8 + (5 + 11) + 10300 ≤ R.locals) (hcs : cells + 3 ≤ R.cells ∧ slots + 410 ≤ R.slots) (hd : decode cc pc = .ok (.invokevirtual idx, 3)) (kk : ∀ (H1 : Heap) (locs1 : List Loc) (q9 : Addr) (ce : Cell), OC D aC A o la z H1 → H.size ≤ H1.size → va_S A s.heap H1 locs1 → H1[q9]? = some ce → ce.vm = .none → s.vm.findClass "java/lang/ArrayIndexOutOfBoundsException" = some ce.cls → vx_W p l e R s m args below meth c H1 locs1 (cells + 3) (slots + 410) Q (F0 m pc ls rest) q9) : W p l e R s m args below meth c H locs cells slots Q (F0 m pc ls (.int n :: .int j :: .ref b :: .int i :: .ref a :: rest)) := by
  obtain ⟨a2, h1, him, -⟩ := hO.row hs6 hh h4
  cases h1.symm.trans ha
  have h5 : h = 0 ∨ h = 1 ∨ h = 2 ∨ h = 3 ∨ h = 4 := by omega
  rcases h5 with rfl | rfl | rfl | rfl | rfl
  · exact absX (x := yRow_copy) (owner := "ShieldLine$Row") (As := [.int i, .ref b, .int j, .int n]) (ci := 20) rfl him q1445 q1439 q1438 q1446 q129 q1447 (metX23_copyX l hst D aC A o la z sh ot _ b i j n hs6 hu6 hh hk ha hb9 hr0) (k := 4) rfl (by decide +kernel) hf hK hO hA hZ hS hq hs hr hR hcs hd kk
  · exact absX (x := yRow_copy) (owner := "ShieldLine$Row") (As := [.int i, .ref b, .int j, .int n]) (ci := 21) rfl him q1460 q1439 q1438 q1461 q130 q1462 (metX24_copyX l hst D aC A o la z sh ot _ b i j n hs6 hu6 hh hk ha hb9 hr0) (k := 4) rfl (by decide +kernel) hf hK hO hA hZ hS hq hs hr hR hcs hd kk
  · exact absX (x := yRow_copy) (owner := "ShieldLine$Row") (As := [.int i, .ref b, .int j, .int n]) (ci := 22) rfl him q1450 q1439 q1438 q1451 q131 q1452 (metX25_copyX l hst D aC A o la z sh ot _ b i j n hs6 hu6 hh hk ha hb9 hr0) (k := 4) rfl (by decide +kernel) hf hK hO hA hZ hS hq hs hr hR hcs hd kk
  · exact absX (x := yRow_copy) (owner := "ShieldLine$Row") (As := [.int i, .ref b, .int j, .int n]) (ci := 23) rfl him q1455 q1439 q1438 q1456 q132 q1457 (metX26_copyX l hst D aC A o la z sh ot _ b i j n hs6 hu6 hh hk ha hb9 hr0) (k := 4) rfl (by decide +kernel) hf hK hO hA hZ hS hq hs hr hR hcs hd kk
  · exact absX (x := yRow_copy) (owner := "ShieldLine$Row") (As := [.int i, .ref b, .int j, .int n]) (ci := 24) rfl him q1440 q1439 q1438 q1441 q133 q1442 (metX27_copyX l hst D aC A o la z sh ot _ b i j n hs6 hu6 hh hk ha hb9 hr0) (k := 4) rfl (by decide +kernel) hf hK hO hA hZ hS hq hs hr hR hcs hd kk
theorem row_copyC {h h9 sh ot a b : Nat} {i j n : Int32} (hf : CallFix p m c cc nL s args lw_all own) (hK : KC D aC s) (hO : OC D aC A o la z H) (hA : ∀ q : Nat, s.heap.size ≤ q → A q) (hZ : ZX A s s.heap) (hS : va_S A s.heap H locs) (h4 : h ≤ 4) (hs6 : sh < 6) (hu6 : ot < 6) (hh : kHold (kz z) sh = nI h) (hk : kHold (kz z) ot = nI h9) (ha : lQ la 44 sh = some a) (hb9 : lQ la 44 ot = some b) (hst : l.stackTraces = false) (hn4 : h9 ≤ 4) (hne : h9 ≠ h) (hq : Cond.methodLink own idx yRow_copy ∈ lw_all) (hs : ls.size = nL) (hr : (rest.map fun v => v.category).sum ≤ 8) (hR : 9 + 1 ≤ R.frames ∧ 8 + (5 + 11) + 10300 ≤ R.locals) (hcs : cells + 3 ≤ R.cells ∧ slots + 1010 ≤ R.slots) (hd : decode cc pc = .ok (.invokevirtual idx, 3)) (kk : ∀ (H1 : Heap) (locs1 : List Loc) (q9 : Addr) (ce : Cell), OC D aC A o la z H1 → H.size ≤ H1.size → va_S A s.heap H1 locs1 → H1[q9]? = some ce → ce.vm = .none → s.vm.findClass "java/lang/ClassCastException" = some ce.cls → vx_W p l e R s m args below meth c H1 locs1 (cells + 3) (slots + 1010) Q (F0 m pc ls rest) q9) : W p l e R s m args below meth c H locs cells slots Q (F0 m pc ls (.int n :: .int j :: .ref b :: .int i :: .ref a :: rest)) := by
  obtain ⟨a2, h1, him, -⟩ := hO.row hs6 hh h4
  cases h1.symm.trans ha
  have h5 : h = 0 ∨ h = 1 ∨ h = 2 ∨ h = 3 ∨ h = 4 := by omega
  rcases h5 with rfl | rfl | rfl | rfl | rfl
  · exact absX (x := yRow_copy) (owner := "ShieldLine$Row") (As := [.int i, .ref b, .int j, .int n]) (ci := 20) rfl him q1445 q1439 q1438 q1446 q129 q1447 (metX23_copyC l hst D aC A o la z sh ot _ b i j n h9 hn4 hne hs6 hu6 hh hk ha hb9) (k := 4) rfl (by decide +kernel) hf hK hO hA hZ hS hq hs hr hR hcs hd kk
  · exact absX (x := yRow_copy) (owner := "ShieldLine$Row") (As := [.int i, .ref b, .int j, .int n]) (ci := 21) rfl him q1460 q1439 q1438 q1461 q130 q1462 (metX24_copyC l hst D aC A o la z sh ot _ b i j n h9 hn4 hne hs6 hu6 hh hk ha hb9) (k := 4) rfl (by decide +kernel) hf hK hO hA hZ hS hq hs hr hR hcs hd kk
  · exact absX (x := yRow_copy) (owner := "ShieldLine$Row") (As := [.int i, .ref b, .int j, .int n]) (ci := 22) rfl him q1450 q1439 q1438 q1451 q131 q1452 (metX25_copyC l hst D aC A o la z sh ot _ b i j n h9 hn4 hne hs6 hu6 hh hk ha hb9) (k := 4) rfl (by decide +kernel) hf hK hO hA hZ hS hq hs hr hR hcs hd kk
  · exact absX (x := yRow_copy) (owner := "ShieldLine$Row") (As := [.int i, .ref b, .int j, .int n]) (ci := 23) rfl him q1455 q1439 q1438 q1456 q132 q1457 (metX26_copyC l hst D aC A o la z sh ot _ b i j n h9 hn4 hne hs6 hu6 hh hk ha hb9) (k := 4) rfl (by decide +kernel) hf hK hO hA hZ hS hq hs hr hR hcs hd kk
  · exact absX (x := yRow_copy) (owner := "ShieldLine$Row") (As := [.int i, .ref b, .int j, .int n]) (ci := 24) rfl him q1440 q1439 q1438 q1441 q133 q1442 (metX27_copyC l hst D aC A o la z sh ot _ b i j n h9 hn4 hne hs6 hu6 hh hk ha hb9) (k := 4) rfl (by decide +kernel) hf hK hO hA hZ hS hq hs hr hR hcs hd kk
end RZ
