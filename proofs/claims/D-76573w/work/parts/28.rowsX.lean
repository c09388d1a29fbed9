set_option maxRecDepth 100000
/-! printed by mkrowx.py ===== the rows of shelves: at, put; what they throw ===== -/
def rdV (h : Nat) (E : Nat → Int64) (j : Nat) : Int64 := if h = 3 then E j else if h = 4 then (if (E j).toInt32 = 0 then 0 else 1) else (E j).toInt32.toInt64
def putV (h : Nat) (v : Int64) : Int64 := if h = 0 then (v.toInt32.toInt8.toInt32).toInt64 else if h = 1 then (v.toInt32.toInt16.toInt32).toInt64 else if h = 2 then v.toInt32.toInt64 else if h = 3 then v else if lg_cmp v 0 = 0 then 0 else 1
/-- thrown: a class's object, over a heap with its picture -/
def XE (E0 : String) (P : Heap → Prop) (A : Nat → Prop) : String → State → State → Prop := fun E st t => E = E0 ∧ P t.heap ∧ va_F A st t
theorem g_ofX {l : Launch} {y : MethodName} {ws : List Cond} {rm : Room} {Qc : Array Value → State → Outcome → State → Prop} {XC : String → State → State → Prop} {mc ms : Nat} {free : Addr → Prop} {cc : ByteArray} {maxL : Nat} {ret : Option FieldType} {own : String}
    (hy : plainName y.cls = true) (ho : y.cls = own) (hw : ws = Cond.code y cc maxL ret :: lw_all) (As : List Value) (PRE : State → Prop) (hlen : (lg_sl As).length ≤ maxL)
    (body : ∀ (p : Program) (e : Env) (s : State) (m : MethodId) (below : List Frame) (meth : Method) (c : Code) (ls : Array Slot), p.tables.exec = Jvm.exec → c.code = cc → meth.sig.returnType = ret → c.maxLocals = maxL → (∀ w ∈ lw_all, w.before As.toArray s = true) → s.vm.findClass own = some m.cls → meth.locks = false → (∀ x ∈ c.exceptionTable.toList, False) → PRE s → lv_has ls maxL (lv_args 0 As) →
      W p l e rm s m As.toArray below meth c s.heap [] 0 0 (vx_MQ below Qc XC As.toArray s mc ms free) (F0 m 0 ls [])) : vx_Met l y ws rm (va_Pc As PRE) Qc XC mc ms free := by
  subst ho
  refine vx_ofW (cc := cc) (maxL := maxL) (ret := ret) hy hw ?_
  intro p e s m args below meth c s₁ B hml htb hv
  obtain ⟨rfl, hP⟩ := hv
  have hts := atoms_spec (ws := ws) B.pre
  have hl := lv_entry As (n := maxL) hlen
  rw [lg_entry_eq]
  exact body p e s m below meth c _ B.exec B.bytes B.returns hml (fun w h => hts w (by rw [hw]; exact List.mem_cons_of_mem _ h)) (findClass_of_methodNamed B.named) B.notSynchronized htb hP hl
section RX
variable {p : Program} {l : Launch} {e : Env} {R : Room} {s : State} {m : MethodId} {args : Array Value} {below : List Frame} {meth : Method} {c : Code} {H : Heap} {locs : List Loc} {cells slots : Nat} {Q : State → Prop}
variable {cc : ByteArray} {pc nL : Nat} {ls : Array Slot} {rest st0 : List Value} {D : va_G} {aC : Nat → ClassId} {A : Nat → Prop} {o : Nat} {la : LC} {z : GS}
/-- a call that throws -/
theorem g_throwX {E0 : String} {P : Heap → Prop} {mc ms : Nat} {Qa : State → Outcome → State → Prop} (hQ : ∀ st oc t, ¬ Qa st oc t) (hr : vx_Run p l e R s m args below meth c H locs cells slots mc ms (F0 m pc ls st0) rest Qa (XE E0 P A) A) (hS : va_S A s.heap H locs)
    (kx : ∀ (H1 : Heap) (locs1 : List Loc) (q9 : Addr) (ce : Cell), P H1 → H.size ≤ H1.size → va_S A s.heap H1 locs1 → H1[q9]? = some ce → ce.vm = .none → s.vm.findClass E0 = some ce.cls → vx_W p l e R s m args below meth c H1 locs1 (cells + mc) (slots + ms) Q (F0 m pc ls rest) q9) : W p l e R s m args below meth c H locs cells slots Q (F0 m pc ls st0) := by
  intro T hT X
  rcases hr T hT X with ⟨v, st₀, t, T', L, h0, X', hL, e1, e2, hF, st⟩ | ⟨q, st₀, t, T', L, E, ce, h0, X', hL, e1, e2, ⟨hE, hP, hz, hk⟩, hce, hcv, hcl, st⟩
  · exact (hQ _ _ _ hF).elim
  · subst hE
    rw [h0] at hz hk
    obtain ⟨t2, a1, b1⟩ := kx t.heap (locs ++ L) q ce hP hz ⟨Nat.le_trans hS.1 hz, fun q h1 h2 => by rw [hk q (Nat.lt_of_lt_of_le h1 hS.1) h2]; exact hS.2.1 q h1 h2, fun q hq => by
      rcases List.mem_append.mp hq with h | h
      · exact hS.2.2 q h
      · exact hL q h⟩ hce hcv hcl T' e1 X'
    exact ⟨t2, st.trans a1, b1⟩
theorem idxText (i : Int32) (n : Nat) (h : n < 2 ^ 31) : ((toString "Index " ++ toString i ++ toString " out of bounds for length " ++ toString n : String) == notModelled) = false ∧ (stringBytes (stringToUtf16 (toString "Index " ++ toString i ++ toString " out of bounds for length " ++ toString n : String))).size ≤ 400 :=
  ⟨index_text_modelled i n, Nat.le_trans (index_text_bytes i h) (by decide)⟩
theorem shN_lt {v : Int32} (h : okI v 61) : v.toNatClampNeg < 2 ^ 31 := by
  have h1 : v.toNatClampNeg = v.toInt.toNat := rfl
  have := h.1; have := h.2
  omega
/-- a shelf's array is written -/
theorem OC.setE {H1 : Heap} {sh h : Nat} {E : Nat → Int64} (hO : OC D aC A o la z H) (hm8 : kMany (kz z) ≤ 8) (hs : sh < 6) (hh : kHold (kz z) sh = nI h) (h4 : h ≤ 4) (e : H1[lIa la sh]? = some (shC aC h (kA (kz z) 21 sh).toNatClampNeg E)) (hfit : shFit h (kA (kz z) 21 sh).toNatClampNeg E) (oq : ∀ q : Nat, q ≠ lIa la sh → H1[q]? = H[q]?) : OC D aC A o la (z.1, z.2.1, va_up z.2.2.1 (150 + sh) E, z.2.2.2) H1 := by
  obtain ⟨a, r1, r2, r3, r4, r5, tg⟩ := hO.row hs hh h4
  obtain ⟨t1, t2, t3, t4, t5, t6, t7⟩ := hO.2.2.1
  have ne : ∀ b, lTg la b ≠ 300 + sh → b ≠ lIa la sh := fun b hb q => hb (by rw [q]; exact tg)
  have hci : (kHold (kz z) sh).toNatClampNeg = h := by rw [hh]; exact nI_clamp (by omega)
  refine ⟨?_, ⟨?_, fun j hj => ?_, fun s' hs' hr => ?_, fun b e9 hb9 => ?_⟩, hO.2.2.1, hO.2.2.2⟩
  · have h0 := hO.1.kept (H1 := H1) (oq _ (ne _ (by rw [t1]; omega))) (fun k hk ha => oq _ (ne _ (by rw [t2 k hk ha]; omega)))
    refine ⟨h0.1, fun k hk ha => ?_⟩
    rw [h0.2 k hk ha]
    have : k ≠ 150 + sh := by omega
    simp [oaC, zx, va_up, this]
  · rw [oq _ (ne _ (by rw [t3]; omega))]; exact hO.2.1.1
  · obtain ⟨g1, g2⟩ := hO.2.1.2.1 j hj
    have hj8 : j < 8 := Nat.lt_of_lt_of_le hj hm8
    exact ⟨g1, g2.kept (oq _ (ne _ (by rw [t4 j hj]; omega)))⟩
  · by_cases hss : s' = sh
    · subst hss
      show H1[lIa la s']? = some (shC aC (kHold (kz z) s').toNatClampNeg (kA (kz z) 21 s').toNatClampNeg (va_up z.2.2.1 (150 + s') E (150 + s'))) ∧ shFit (kHold (kz z) s').toNatClampNeg (kA (kz z) 21 s').toNatClampNeg (va_up z.2.2.1 (150 + s') E (150 + s'))
      rw [va_up_self, hci]
      exact ⟨e, hfit⟩
    · show H1[lIa la s']? = some (shC aC (kHold (kz z) s').toNatClampNeg (kA (kz z) 21 s').toNatClampNeg (va_up z.2.2.1 (150 + sh) E (150 + s'))) ∧ shFit (kHold (kz z) s').toNatClampNeg (kA (kz z) 21 s').toNatClampNeg (va_up z.2.2.1 (150 + sh) E (150 + s'))
      rw [va_up_ne _ _ (by omega), oq _ (ne _ (by rw [t5 s' hs' hr]; omega))]
      exact hO.2.1.2.2.1 s' hs' hr
  · obtain ⟨r, g1, g2⟩ := hO.2.1.2.2.2 b e9 hb9
    exact ⟨r, g1, g2.kept (oq _ (ne _ (by rw [t6 b e9 hb9]; omega)))⟩
theorem fit_byte (x : Int32) : fits .byte (.int x.toInt8.toInt32) = true := by
  have h1 := Int8.le_toInt x.toInt8
  have h2 := Int8.toInt_lt x.toInt8
  have a : (-128 : Int32) ≤ x.toInt8.toInt32 := Int32.le_iff_toInt_le.mpr (by rw [Int8.toInt_toInt32, show (-128 : Int32).toInt = -128 from rfl]; omega)
  have b : x.toInt8.toInt32 ≤ (127 : Int32) := Int32.le_iff_toInt_le.mpr (by rw [Int8.toInt_toInt32, show (127 : Int32).toInt = 127 from rfl]; omega)
  show (decide ((-128 : Int32) ≤ x.toInt8.toInt32) && decide (x.toInt8.toInt32 ≤ (127 : Int32))) = true
  simp [a, b]
theorem fit_short (x : Int32) : fits .short (.int x.toInt16.toInt32) = true := by
  have h1 := Int16.le_toInt x.toInt16
  have h2 := Int16.toInt_lt x.toInt16
  have a : (-32768 : Int32) ≤ x.toInt16.toInt32 := Int32.le_iff_toInt_le.mpr (by rw [Int16.toInt_toInt32, show (-32768 : Int32).toInt = -32768 from rfl]; omega)
  have b : x.toInt16.toInt32 ≤ (32767 : Int32) := Int32.le_iff_toInt_le.mpr (by rw [Int16.toInt_toInt32, show (32767 : Int32).toInt = 32767 from rfl]; omega)
  show (decide ((-32768 : Int32) ≤ x.toInt16.toInt32) && decide (x.toInt16.toInt32 ≤ (32767 : Int32))) = true
  simp [a, b]
theorem putV_fit (h : Nat) (v : Int64) : fits (if h = 0 then .byte else if h = 1 then .short else if h = 2 then .int else if h = 3 then .int else .boolean) (.int (if h = 3 then 0 else (putV h v).toInt32)) = true := by
  by_cases h0 : h = 0
  · subst h0
    show fits .byte (.int ((v.toInt32.toInt8.toInt32).toInt64).toInt32) = true
    rw [Int32.toInt32_toInt64]
    exact fit_byte _
  · by_cases h1 : h = 1
    · subst h1
      show fits .short (.int ((v.toInt32.toInt16.toInt32).toInt64).toInt32) = true
      rw [Int32.toInt32_toInt64]
      exact fit_short _
    · by_cases h2 : h = 2
      · subst h2; rfl
      · by_cases h3 : h = 3
        · subst h3; rfl
        · unfold putV
          simp only [h0, h1, h2, h3, if_false]
          by_cases hc : lg_cmp v 0 = 0
          · rw [if_pos hc]; decide
          · rw [if_neg hc]; decide
theorem shFit_up {h n j : Nat} {E : Nat → Int64} (hf : shFit h n E) (v : Int64) : shFit h n (vp_updL E j (putV h v)) := by
  intro q hq
  by_cases hqj : q = j
  · subst hqj
    have e : vp_updL E q (putV h v) q = putV h v := by simp [vp_updL]
    rw [e]
    exact putV_fit h v
  · have e : vp_updL E j (putV h v) q = E q := by simp [vp_updL, hqj]
    rw [e]; exact hf q hq
end RX

theorem metX23_atR (l : Launch) (D : va_G) (aC : Nat → ClassId) (A : Nat → Prop) (o : Nat) (la : LC) (z : GS) (sh a : Nat) (i : Int32) (hs : sh < 6) (hh : kHold (kz z) sh = 0) (ha : lQ la 44 sh = some a) (hi : okI i (kA (kz z) 21 sh).toNatClampNeg) : Met l yX23_at (ws_ yX23_at cX23_at 2 (some .long)) ({ frames := 0, cells := 0, slots := 0, locals := 0 }) (va_Pc [.ref a, .int i] (PC D aC A o la z)) (QR (some (.long (rdV 0 (z.2.2.1 (150 + sh)) i.toNatClampNeg)))) 0 0 (fun _ => False) := by
  refine g_ofW (cc := cX23_at) (maxL := 2) (ret := (some .long)) (own := RX23) (by decide) rfl rfl [.ref a, .int i] (PC D aC A o la z) (Nat.le_of_ble_eq_true rfl) ?_
  intro p e s m below meth c ls hx hb hr hml hts hown hlocks hnm hPre hl
  obtain ⟨hO, hK, hA, hZ⟩ := hPre
  obtain ⟨a', h1, him, h2, h3, h4, h5⟩ := hO.row (h := 0) hs hh (by decide)
  cases h1.symm.trans ha
  have h3 : s.heap[lIa la sh]? = some (vp_cell (aC 2) ((kA (kz z) 21 sh).toNatClampNeg, .inl (fun j => (z.2.2.1 (150 + sh) j).toInt32))) := h3
  have hl : lv_has ls 2 [(0, .ref a), (1, .int i)] := hl
  refine lv_aload_n hx hb dX23_at_0 rfl (lv_at hl 0 rfl) ?_
  refine nd_get hx hb hts in_X23 TX23_own hown hK hO (ci := 20) rfl him 0 (by decide) rfl (hts _ q1343) dX23_at_1 ?_
  refine lv_iload_n hx hb dX23_at_4 rfl (lv_at hl 1 rfl) ?_
  refine va_bald (ws := [(lIa la sh, .inl (aC 2, (kA (kz z) 21 sh).toNatClampNeg, .inl (fun j => (z.2.2.1 (150 + sh) j).toInt32)))]) hx hb hK.1 (fun j q hj => by
    cases j with
    | zero => cases hj; exact h3
    | succ j => simp at hj) 0 1 rfl rfl (okI_in hi) dX23_at_5 ?_
  refine lv_i2l hx hb dX23_at_6 rfl ?_
  exact g_retRl hx hb hr hlocks rfl dX23_at_7
theorem metX23_atX (l : Launch) (hst : l.stackTraces = false) (D : va_G) (aC : Nat → ClassId) (A : Nat → Prop) (o : Nat) (la : LC) (z : GS) (sh a : Nat) (i : Int32) (hs : sh < 6) (hh : kHold (kz z) sh = 0) (ha : lQ la 44 sh = some a) (hi : ¬ okI i (kA (kz z) 21 sh).toNatClampNeg) : vx_Met l yX23_at (ws_ yX23_at cX23_at 2 (some .long)) ({ frames := 9, cells := 3, slots := 410, locals := 10300 }) (va_Pc [.ref a, .int i] (PC D aC A o la z)) (fun _ _ _ _ => False) (XE "java/lang/ArrayIndexOutOfBoundsException" (OC D aC A o la z) A) 3 410 A := by
  refine g_ofX (cc := cX23_at) (maxL := 2) (ret := (some .long)) (own := RX23) (by decide) rfl rfl [.ref a, .int i] (PC D aC A o la z) (Nat.le_of_ble_eq_true rfl) ?_
  intro p e s m below meth c ls hx hb hr hml hts hown hlocks htb hPre hl
  obtain ⟨hO, hK, hA, hZ⟩ := hPre
  obtain ⟨a', h1, him, h2, h3, h4, h5⟩ := hO.row (h := 0) hs hh (by decide)
  cases h1.symm.trans ha
  have h3 : s.heap[lIa la sh]? = some (vp_cell (aC 2) ((kA (kz z) 21 sh).toNatClampNeg, .inl (fun j => (z.2.2.1 (150 + sh) j).toInt32))) := h3
  have hl : lv_has ls 2 [(0, .ref a), (1, .int i)] := hl
  refine lv_aload_n hx hb dX23_at_0 rfl (lv_at hl 0 rfl) ?_
  refine nd_get hx hb hts in_X23 TX23_own hown hK hO (ci := 20) rfl him 0 (by decide) rfl (hts _ q1343) dX23_at_1 ?_
  refine lv_iload_n hx hb dX23_at_4 rfl (lv_at hl 1 rfl) ?_
  refine vx_baldZ (ws := [(lIa la sh, .inl (aC 2, (kA (kz z) 21 sh).toNatClampNeg, .inl (fun j => (z.2.2.1 (150 + sh) j).toInt32)))]) hx hb hK.1 (fun j q hj => by
    cases j with
    | zero => cases hj; exact h3
    | succ j => simp at hj) 0 1 rfl rfl (fun q => hi (vp_in_iff.mp q)) dX23_at_5 (fun tx htx => ?_)
  subst htx
  refine g_vmI hx hst hts hK hZ va_S.rf (hl.1.trans hml.symm) (idxText i _ (shN_lt h2)) (Nat.le_of_ble_eq_true rfl) (Nat.le_of_ble_eq_true rfl) ⟨Nat.le_of_ble_eq_true rfl, Nat.le_of_ble_eq_true rfl⟩ hlocks (fun H1 q9 ce hz1 hq1 hS hce hv hcl => ?_)
  exact vx_out (fun x hx => (htb x hx).elim) hlocks hce hv hcl (fun t htp _ => ⟨rfl, by rw [htp]; exact hO.grow hq1, hS.F htp⟩) hS.2.2 (Nat.le_of_ble_eq_true rfl) (Nat.le_of_ble_eq_true rfl)
theorem metX23_putR (l : Launch) (D : va_G) (aC : Nat → ClassId) (A : Nat → Prop) (o : Nat) (la : LC) (z : GS) (sh a : Nat) (i : Int32) (v : Int64) (hm8 : kMany (kz z) ≤ 8) (hs : sh < 6) (hh : kHold (kz z) sh = 0) (ha : lQ la 44 sh = some a) (hi : okI i (kA (kz z) 21 sh).toNatClampNeg) : Met l yX23_put (ws_ yX23_put cX23_put 4 (some .boolean)) ({ frames := 0, cells := 0, slots := 0, locals := 0 }) (va_Pc [.ref a, .int i, .long v] (PC D aC A o la z)) (QG (some (.int 1)) (OC D aC A o la (sJ z (150 + sh) i (putV 0 v))) A) 0 0 A := by
  refine g_ofW (cc := cX23_put) (maxL := 4) (ret := (some .boolean)) (own := RX23) (by decide) rfl rfl [.ref a, .int i, .long v] (PC D aC A o la z) (Nat.le_of_ble_eq_true rfl) ?_
  intro p e s m below meth c ls hx hb hr hml hts hown hlocks hnm hPre hl
  obtain ⟨hO, hK, hA, hZ⟩ := hPre
  obtain ⟨a', h1, him, h2, h3, h4, h5⟩ := hO.row (h := 0) hs hh (by decide)
  cases h1.symm.trans ha
  have h3 : s.heap[lIa la sh]? = some (vp_cell (aC 2) ((kA (kz z) 21 sh).toNatClampNeg, .inl (fun j => (z.2.2.1 (150 + sh) j).toInt32))) := h3
  have hl : lv_has ls 4 [(0, .ref a), (1, .int i), (2, .long v)] := hl
  refine lv_aload_n hx hb dX23_put_0 rfl (lv_at hl 0 rfl) ?_
  refine nd_get hx hb hts in_X23 TX23_own hown hK hO (ci := 20) rfl him 0 (by decide) rfl (hts _ q1343) dX23_put_1 ?_
  refine lv_iload_n hx hb dX23_put_4 rfl (lv_at hl 1 rfl) ?_
  refine lv_lload_n hx hb dX23_put_5 rfl (lv_at hl 2 rfl) ?_
  refine lv_l2i hx hb dX23_put_6 rfl ?_
  refine lv_i2b hx hb dX23_put_7 rfl ?_
  refine W.bast hx hb h3 ((hK.1.2 1 _ rfl).1 (kA (kz z) 21 sh).toNatClampNeg (fun j => .int (z.2.2.1 (150 + sh) j).toInt32)) (fun q => by cases q) (by show ¬ (i < 0 ∨ (arrV _ _ _).slots.size ≤ _); rw [arrV_size]; exact okI_in hi) rfl rfl dX23_put_8 fun H1 e1 e2 oq => ?_
  have hO1 := hO.setE (H1 := H1) (h := 0) (E := vp_updL (z.2.2.1 (150 + sh)) i.toNatClampNeg (putV 0 v)) hm8 hs hh (by decide) (by
      rw [e1, vp_cell_i, arrV_store]
      show _ = some (vp_cell (aC 2) (_, .inl _))
      rw [vp_cell_i]
      congr 2
      funext q
      by_cases hq : q = i.toNatClampNeg
      · subst hq
        simp [updV, vp_updL, putV, narrow]
      · simp [updV, vp_updL, hq])
    (shFit_up (h := 0) h4 v) oq
  refine lv_iconst (v := 1) hx hb dX23_put_9 (by decide) ?_
  exact g_retGz hx hb hr hlocks (Or.inr rfl) rfl hO1 (va_S.rf.put e2 oq (hO.2.2.1.2.2.2.2.2.2 _ (by rw [h5]; omega))) dX23_put_10
theorem metX23_putX (l : Launch) (hst : l.stackTraces = false) (D : va_G) (aC : Nat → ClassId) (A : Nat → Prop) (o : Nat) (la : LC) (z : GS) (sh a : Nat) (i : Int32) (v : Int64) (hs : sh < 6) (hh : kHold (kz z) sh = 0) (ha : lQ la 44 sh = some a) (hi : ¬ okI i (kA (kz z) 21 sh).toNatClampNeg) : vx_Met l yX23_put (ws_ yX23_put cX23_put 4 (some .boolean)) ({ frames := 9, cells := 3, slots := 410, locals := 10300 }) (va_Pc [.ref a, .int i, .long v] (PC D aC A o la z)) (fun _ _ _ _ => False) (XE "java/lang/ArrayIndexOutOfBoundsException" (OC D aC A o la z) A) 3 410 A := by
  refine g_ofX (cc := cX23_put) (maxL := 4) (ret := (some .boolean)) (own := RX23) (by decide) rfl rfl [.ref a, .int i, .long v] (PC D aC A o la z) (Nat.le_of_ble_eq_true rfl) ?_
  intro p e s m below meth c ls hx hb hr hml hts hown hlocks htb hPre hl
  obtain ⟨hO, hK, hA, hZ⟩ := hPre
  obtain ⟨a', h1, him, h2, h3, h4, h5⟩ := hO.row (h := 0) hs hh (by decide)
  cases h1.symm.trans ha
  have h3 : s.heap[lIa la sh]? = some (vp_cell (aC 2) ((kA (kz z) 21 sh).toNatClampNeg, .inl (fun j => (z.2.2.1 (150 + sh) j).toInt32))) := h3
  have hl : lv_has ls 4 [(0, .ref a), (1, .int i), (2, .long v)] := hl
  refine lv_aload_n hx hb dX23_put_0 rfl (lv_at hl 0 rfl) ?_
  refine nd_get hx hb hts in_X23 TX23_own hown hK hO (ci := 20) rfl him 0 (by decide) rfl (hts _ q1343) dX23_put_1 ?_
  refine lv_iload_n hx hb dX23_put_4 rfl (lv_at hl 1 rfl) ?_
  refine lv_lload_n hx hb dX23_put_5 rfl (lv_at hl 2 rfl) ?_
  refine lv_l2i hx hb dX23_put_6 rfl ?_
  refine lv_i2b hx hb dX23_put_7 rfl ?_
  refine vx_bastZ (ws := [(lIa la sh, .inl (aC 2, (kA (kz z) 21 sh).toNatClampNeg, .inl (fun j => (z.2.2.1 (150 + sh) j).toInt32)))]) hx hb hK.1 (fun j q hj => by
      cases j with
      | zero => cases hj; exact h3
      | succ j => simp at hj) 0 1 rfl rfl (fun q => hi (vp_in_iff.mp q)) dX23_put_8 (fun tx htx => ?_)
  subst htx
  refine g_vmI hx hst hts hK hZ va_S.rf (hl.1.trans hml.symm) (idxText i _ (shN_lt h2)) (Nat.le_of_ble_eq_true rfl) (Nat.le_of_ble_eq_true rfl) ⟨Nat.le_of_ble_eq_true rfl, Nat.le_of_ble_eq_true rfl⟩ hlocks (fun H1 q9 ce hz1 hq1 hS hce hv hcl => ?_)
  exact vx_out (fun x hx => (htb x hx).elim) hlocks hce hv hcl (fun t htp _ => ⟨rfl, by rw [htp]; exact hO.grow hq1, hS.F htp⟩) hS.2.2 (Nat.le_of_ble_eq_true rfl) (Nat.le_of_ble_eq_true rfl)
theorem TX24_own : ∀ k, (TX24 k).1 = RX24 := by intro k; unfold TX24; split <;> rfl
theorem metX24_atR (l : Launch) (D : va_G) (aC : Nat → ClassId) (A : Nat → Prop) (o : Nat) (la : LC) (z : GS) (sh a : Nat) (i : Int32) (hs : sh < 6) (hh : kHold (kz z) sh = 1) (ha : lQ la 44 sh = some a) (hi : okI i (kA (kz z) 21 sh).toNatClampNeg) : Met l yX24_at (ws_ yX24_at cX24_at 2 (some .long)) ({ frames := 0, cells := 0, slots := 0, locals := 0 }) (va_Pc [.ref a, .int i] (PC D aC A o la z)) (QR (some (.long (rdV 1 (z.2.2.1 (150 + sh)) i.toNatClampNeg)))) 0 0 (fun _ => False) := by
  refine g_ofW (cc := cX24_at) (maxL := 2) (ret := (some .long)) (own := RX24) (by decide) rfl rfl [.ref a, .int i] (PC D aC A o la z) (Nat.le_of_ble_eq_true rfl) ?_
  intro p e s m below meth c ls hx hb hr hml hts hown hlocks hnm hPre hl
  obtain ⟨hO, hK, hA, hZ⟩ := hPre
  obtain ⟨a', h1, him, h2, h3, h4, h5⟩ := hO.row (h := 1) hs hh (by decide)
  cases h1.symm.trans ha
  have h3 : s.heap[lIa la sh]? = some (vp_cell (aC 6) ((kA (kz z) 21 sh).toNatClampNeg, .inl (fun j => (z.2.2.1 (150 + sh) j).toInt32))) := h3
  have hl : lv_has ls 2 [(0, .ref a), (1, .int i)] := hl
  refine lv_aload_n hx hb dX24_at_0 rfl (lv_at hl 0 rfl) ?_
  refine nd_get hx hb hts in_X24 TX24_own hown hK hO (ci := 21) rfl him 0 (by decide) rfl (hts _ q1353) dX24_at_1 ?_
  refine lv_iload_n hx hb dX24_at_4 rfl (lv_at hl 1 rfl) ?_
  refine va_sald (ws := [(lIa la sh, .inl (aC 6, (kA (kz z) 21 sh).toNatClampNeg, .inl (fun j => (z.2.2.1 (150 + sh) j).toInt32)))]) hx hb hK.1 (fun j q hj => by
    cases j with
    | zero => cases hj; exact h3
    | succ j => simp at hj) 0 5 rfl rfl (okI_in hi) dX24_at_5 ?_
  refine lv_i2l hx hb dX24_at_6 rfl ?_
  exact g_retRl hx hb hr hlocks rfl dX24_at_7
theorem metX24_atX (l : Launch) (hst : l.stackTraces = false) (D : va_G) (aC : Nat → ClassId) (A : Nat → Prop) (o : Nat) (la : LC) (z : GS) (sh a : Nat) (i : Int32) (hs : sh < 6) (hh : kHold (kz z) sh = 1) (ha : lQ la 44 sh = some a) (hi : ¬ okI i (kA (kz z) 21 sh).toNatClampNeg) : vx_Met l yX24_at (ws_ yX24_at cX24_at 2 (some .long)) ({ frames := 9, cells := 3, slots := 410, locals := 10300 }) (va_Pc [.ref a, .int i] (PC D aC A o la z)) (fun _ _ _ _ => False) (XE "java/lang/ArrayIndexOutOfBoundsException" (OC D aC A o la z) A) 3 410 A := by
  refine g_ofX (cc := cX24_at) (maxL := 2) (ret := (some .long)) (own := RX24) (by decide) rfl rfl [.ref a, .int i] (PC D aC A o la z) (Nat.le_of_ble_eq_true rfl) ?_
  intro p e s m below meth c ls hx hb hr hml hts hown hlocks htb hPre hl
  obtain ⟨hO, hK, hA, hZ⟩ := hPre
  obtain ⟨a', h1, him, h2, h3, h4, h5⟩ := hO.row (h := 1) hs hh (by decide)
  cases h1.symm.trans ha
  have h3 : s.heap[lIa la sh]? = some (vp_cell (aC 6) ((kA (kz z) 21 sh).toNatClampNeg, .inl (fun j => (z.2.2.1 (150 + sh) j).toInt32))) := h3
  have hl : lv_has ls 2 [(0, .ref a), (1, .int i)] := hl
  refine lv_aload_n hx hb dX24_at_0 rfl (lv_at hl 0 rfl) ?_
  refine nd_get hx hb hts in_X24 TX24_own hown hK hO (ci := 21) rfl him 0 (by decide) rfl (hts _ q1353) dX24_at_1 ?_
  refine lv_iload_n hx hb dX24_at_4 rfl (lv_at hl 1 rfl) ?_
  refine vx_saldZ (ws := [(lIa la sh, .inl (aC 6, (kA (kz z) 21 sh).toNatClampNeg, .inl (fun j => (z.2.2.1 (150 + sh) j).toInt32)))]) hx hb hK.1 (fun j q hj => by
    cases j with
    | zero => cases hj; exact h3
    | succ j => simp at hj) 0 5 rfl rfl (fun q => hi (vp_in_iff.mp q)) dX24_at_5 (fun tx htx => ?_)
  subst htx
  refine g_vmI hx hst hts hK hZ va_S.rf (hl.1.trans hml.symm) (idxText i _ (shN_lt h2)) (Nat.le_of_ble_eq_true rfl) (Nat.le_of_ble_eq_true rfl) ⟨Nat.le_of_ble_eq_true rfl, Nat.le_of_ble_eq_true rfl⟩ hlocks (fun H1 q9 ce hz1 hq1 hS hce hv hcl => ?_)
  exact vx_out (fun x hx => (htb x hx).elim) hlocks hce hv hcl (fun t htp _ => ⟨rfl, by rw [htp]; exact hO.grow hq1, hS.F htp⟩) hS.2.2 (Nat.le_of_ble_eq_true rfl) (Nat.le_of_ble_eq_true rfl)
theorem metX24_putR (l : Launch) (D : va_G) (aC : Nat → ClassId) (A : Nat → Prop) (o : Nat) (la : LC) (z : GS) (sh a : Nat) (i : Int32) (v : Int64) (hm8 : kMany (kz z) ≤ 8) (hs : sh < 6) (hh : kHold (kz z) sh = 1) (ha : lQ la 44 sh = some a) (hi : okI i (kA (kz z) 21 sh).toNatClampNeg) : Met l yX24_put (ws_ yX24_put cX24_put 4 (some .boolean)) ({ frames := 0, cells := 0, slots := 0, locals := 0 }) (va_Pc [.ref a, .int i, .long v] (PC D aC A o la z)) (QG (some (.int 1)) (OC D aC A o la (sJ z (150 + sh) i (putV 1 v))) A) 0 0 A := by
  refine g_ofW (cc := cX24_put) (maxL := 4) (ret := (some .boolean)) (own := RX24) (by decide) rfl rfl [.ref a, .int i, .long v] (PC D aC A o la z) (Nat.le_of_ble_eq_true rfl) ?_
  intro p e s m below meth c ls hx hb hr hml hts hown hlocks hnm hPre hl
  obtain ⟨hO, hK, hA, hZ⟩ := hPre
  obtain ⟨a', h1, him, h2, h3, h4, h5⟩ := hO.row (h := 1) hs hh (by decide)
  cases h1.symm.trans ha
  have h3 : s.heap[lIa la sh]? = some (vp_cell (aC 6) ((kA (kz z) 21 sh).toNatClampNeg, .inl (fun j => (z.2.2.1 (150 + sh) j).toInt32))) := h3
  have hl : lv_has ls 4 [(0, .ref a), (1, .int i), (2, .long v)] := hl
  refine lv_aload_n hx hb dX24_put_0 rfl (lv_at hl 0 rfl) ?_
  refine nd_get hx hb hts in_X24 TX24_own hown hK hO (ci := 21) rfl him 0 (by decide) rfl (hts _ q1353) dX24_put_1 ?_
  refine lv_iload_n hx hb dX24_put_4 rfl (lv_at hl 1 rfl) ?_
  refine lv_lload_n hx hb dX24_put_5 rfl (lv_at hl 2 rfl) ?_
  refine lv_l2i hx hb dX24_put_6 rfl ?_
  refine lv_i2s hx hb dX24_put_7 rfl ?_
  refine W.sast hx hb h3 ((hK.1.2 5 _ rfl).1 (kA (kz z) 21 sh).toNatClampNeg (fun j => .int (z.2.2.1 (150 + sh) j).toInt32)) (fun q => by cases q) (by show ¬ (i < 0 ∨ (arrV _ _ _).slots.size ≤ _); rw [arrV_size]; exact okI_in hi) rfl rfl dX24_put_8 fun H1 e1 e2 oq => ?_
  have hO1 := hO.setE (H1 := H1) (h := 1) (E := vp_updL (z.2.2.1 (150 + sh)) i.toNatClampNeg (putV 1 v)) hm8 hs hh (by decide) (by
      rw [e1, vp_cell_i, arrV_store]
      show _ = some (vp_cell (aC 6) (_, .inl _))
      rw [vp_cell_i]
      congr 2
      funext q
      by_cases hq : q = i.toNatClampNeg
      · subst hq
        simp [updV, vp_updL, putV, narrow]
      · simp [updV, vp_updL, hq])
    (shFit_up (h := 1) h4 v) oq
  refine lv_iconst (v := 1) hx hb dX24_put_9 (by decide) ?_
  exact g_retGz hx hb hr hlocks (Or.inr rfl) rfl hO1 (va_S.rf.put e2 oq (hO.2.2.1.2.2.2.2.2.2 _ (by rw [h5]; omega))) dX24_put_10
theorem metX24_putX (l : Launch) (hst : l.stackTraces = false) (D : va_G) (aC : Nat → ClassId) (A : Nat → Prop) (o : Nat) (la : LC) (z : GS) (sh a : Nat) (i : Int32) (v : Int64) (hs : sh < 6) (hh : kHold (kz z) sh = 1) (ha : lQ la 44 sh = some a) (hi : ¬ okI i (kA (kz z) 21 sh).toNatClampNeg) : vx_Met l yX24_put (ws_ yX24_put cX24_put 4 (some .boolean)) ({ frames := 9, cells := 3, slots := 410, locals := 10300 }) (va_Pc [.ref a, .int i, .long v] (PC D aC A o la z)) (fun _ _ _ _ => False) (XE "java/lang/ArrayIndexOutOfBoundsException" (OC D aC A o la z) A) 3 410 A := by
  refine g_ofX (cc := cX24_put) (maxL := 4) (ret := (some .boolean)) (own := RX24) (by decide) rfl rfl [.ref a, .int i, .long v] (PC D aC A o la z) (Nat.le_of_ble_eq_true rfl) ?_
  intro p e s m below meth c ls hx hb hr hml hts hown hlocks htb hPre hl
  obtain ⟨hO, hK, hA, hZ⟩ := hPre
  obtain ⟨a', h1, him, h2, h3, h4, h5⟩ := hO.row (h := 1) hs hh (by decide)
  cases h1.symm.trans ha
  have h3 : s.heap[lIa la sh]? = some (vp_cell (aC 6) ((kA (kz z) 21 sh).toNatClampNeg, .inl (fun j => (z.2.2.1 (150 + sh) j).toInt32))) := h3
  have hl : lv_has ls 4 [(0, .ref a), (1, .int i), (2, .long v)] := hl
  refine lv_aload_n hx hb dX24_put_0 rfl (lv_at hl 0 rfl) ?_
  refine nd_get hx hb hts in_X24 TX24_own hown hK hO (ci := 21) rfl him 0 (by decide) rfl (hts _ q1353) dX24_put_1 ?_
  refine lv_iload_n hx hb dX24_put_4 rfl (lv_at hl 1 rfl) ?_
  refine lv_lload_n hx hb dX24_put_5 rfl (lv_at hl 2 rfl) ?_
  refine lv_l2i hx hb dX24_put_6 rfl ?_
  refine lv_i2s hx hb dX24_put_7 rfl ?_
  refine vx_sastZ (ws := [(lIa la sh, .inl (aC 6, (kA (kz z) 21 sh).toNatClampNeg, .inl (fun j => (z.2.2.1 (150 + sh) j).toInt32)))]) hx hb hK.1 (fun j q hj => by
      cases j with
      | zero => cases hj; exact h3
      | succ j => simp at hj) 0 5 rfl rfl (fun q => hi (vp_in_iff.mp q)) dX24_put_8 (fun tx htx => ?_)
  subst htx
  refine g_vmI hx hst hts hK hZ va_S.rf (hl.1.trans hml.symm) (idxText i _ (shN_lt h2)) (Nat.le_of_ble_eq_true rfl) (Nat.le_of_ble_eq_true rfl) ⟨Nat.le_of_ble_eq_true rfl, Nat.le_of_ble_eq_true rfl⟩ hlocks (fun H1 q9 ce hz1 hq1 hS hce hv hcl => ?_)
  exact vx_out (fun x hx => (htb x hx).elim) hlocks hce hv hcl (fun t htp _ => ⟨rfl, by rw [htp]; exact hO.grow hq1, hS.F htp⟩) hS.2.2 (Nat.le_of_ble_eq_true rfl) (Nat.le_of_ble_eq_true rfl)
theorem TX25_own : ∀ k, (TX25 k).1 = RX25 := by intro k; unfold TX25; split <;> rfl
theorem metX25_atR (l : Launch) (D : va_G) (aC : Nat → ClassId) (A : Nat → Prop) (o : Nat) (la : LC) (z : GS) (sh a : Nat) (i : Int32) (hs : sh < 6) (hh : kHold (kz z) sh = 2) (ha : lQ la 44 sh = some a) (hi : okI i (kA (kz z) 21 sh).toNatClampNeg) : Met l yX25_at (ws_ yX25_at cX25_at 2 (some .long)) ({ frames := 0, cells := 0, slots := 0, locals := 0 }) (va_Pc [.ref a, .int i] (PC D aC A o la z)) (QR (some (.long (rdV 2 (z.2.2.1 (150 + sh)) i.toNatClampNeg)))) 0 0 (fun _ => False) := by
  refine g_ofW (cc := cX25_at) (maxL := 2) (ret := (some .long)) (own := RX25) (by decide) rfl rfl [.ref a, .int i] (PC D aC A o la z) (Nat.le_of_ble_eq_true rfl) ?_
  intro p e s m below meth c ls hx hb hr hml hts hown hlocks hnm hPre hl
  obtain ⟨hO, hK, hA, hZ⟩ := hPre
  obtain ⟨a', h1, him, h2, h3, h4, h5⟩ := hO.row (h := 2) hs hh (by decide)
  cases h1.symm.trans ha
  have h3 : s.heap[lIa la sh]? = some (vp_cell (aC 1) ((kA (kz z) 21 sh).toNatClampNeg, .inl (fun j => (z.2.2.1 (150 + sh) j).toInt32))) := h3
  have hl : lv_has ls 2 [(0, .ref a), (1, .int i)] := hl
  refine lv_aload_n hx hb dX25_at_0 rfl (lv_at hl 0 rfl) ?_
  refine nd_get hx hb hts in_X25 TX25_own hown hK hO (ci := 22) rfl him 0 (by decide) rfl (hts _ q1364) dX25_at_1 ?_
  refine lv_iload_n hx hb dX25_at_4 rfl (lv_at hl 1 rfl) ?_
  refine va_iald (ws := [(lIa la sh, .inl (aC 1, (kA (kz z) 21 sh).toNatClampNeg, .inl (fun j => (z.2.2.1 (150 + sh) j).toInt32)))]) hx hb hK.1 (fun j q hj => by
    cases j with
    | zero => cases hj; exact h3
    | succ j => simp at hj) 0 0 rfl rfl (okI_in hi) dX25_at_5 ?_
  refine lv_i2l hx hb dX25_at_6 rfl ?_
  exact g_retRl hx hb hr hlocks rfl dX25_at_7
theorem metX25_atX (l : Launch) (hst : l.stackTraces = false) (D : va_G) (aC : Nat → ClassId) (A : Nat → Prop) (o : Nat) (la : LC) (z : GS) (sh a : Nat) (i : Int32) (hs : sh < 6) (hh : kHold (kz z) sh = 2) (ha : lQ la 44 sh = some a) (hi : ¬ okI i (kA (kz z) 21 sh).toNatClampNeg) : vx_Met l yX25_at (ws_ yX25_at cX25_at 2 (some .long)) ({ frames := 9, cells := 3, slots := 410, locals := 10300 }) (va_Pc [.ref a, .int i] (PC D aC A o la z)) (fun _ _ _ _ => False) (XE "java/lang/ArrayIndexOutOfBoundsException" (OC D aC A o la z) A) 3 410 A := by
  refine g_ofX (cc := cX25_at) (maxL := 2) (ret := (some .long)) (own := RX25) (by decide) rfl rfl [.ref a, .int i] (PC D aC A o la z) (Nat.le_of_ble_eq_true rfl) ?_
  intro p e s m below meth c ls hx hb hr hml hts hown hlocks htb hPre hl
  obtain ⟨hO, hK, hA, hZ⟩ := hPre
  obtain ⟨a', h1, him, h2, h3, h4, h5⟩ := hO.row (h := 2) hs hh (by decide)
  cases h1.symm.trans ha
  have h3 : s.heap[lIa la sh]? = some (vp_cell (aC 1) ((kA (kz z) 21 sh).toNatClampNeg, .inl (fun j => (z.2.2.1 (150 + sh) j).toInt32))) := h3
  have hl : lv_has ls 2 [(0, .ref a), (1, .int i)] := hl
  refine lv_aload_n hx hb dX25_at_0 rfl (lv_at hl 0 rfl) ?_
  refine nd_get hx hb hts in_X25 TX25_own hown hK hO (ci := 22) rfl him 0 (by decide) rfl (hts _ q1364) dX25_at_1 ?_
  refine lv_iload_n hx hb dX25_at_4 rfl (lv_at hl 1 rfl) ?_
  refine vx_ialdZ (ws := [(lIa la sh, .inl (aC 1, (kA (kz z) 21 sh).toNatClampNeg, .inl (fun j => (z.2.2.1 (150 + sh) j).toInt32)))]) hx hb hK.1 (fun j q hj => by
    cases j with
    | zero => cases hj; exact h3
    | succ j => simp at hj) 0 0 rfl rfl (fun q => hi (vp_in_iff.mp q)) dX25_at_5 (fun tx htx => ?_)
  subst htx
  refine g_vmI hx hst hts hK hZ va_S.rf (hl.1.trans hml.symm) (idxText i _ (shN_lt h2)) (Nat.le_of_ble_eq_true rfl) (Nat.le_of_ble_eq_true rfl) ⟨Nat.le_of_ble_eq_true rfl, Nat.le_of_ble_eq_true rfl⟩ hlocks (fun H1 q9 ce hz1 hq1 hS hce hv hcl => ?_)
  exact vx_out (fun x hx => (htb x hx).elim) hlocks hce hv hcl (fun t htp _ => ⟨rfl, by rw [htp]; exact hO.grow hq1, hS.F htp⟩) hS.2.2 (Nat.le_of_ble_eq_true rfl) (Nat.le_of_ble_eq_true rfl)
theorem metX25_putR (l : Launch) (D : va_G) (aC : Nat → ClassId) (A : Nat → Prop) (o : Nat) (la : LC) (z : GS) (sh a : Nat) (i : Int32) (v : Int64) (hm8 : kMany (kz z) ≤ 8) (hs : sh < 6) (hh : kHold (kz z) sh = 2) (ha : lQ la 44 sh = some a) (hi : okI i (kA (kz z) 21 sh).toNatClampNeg) : Met l yX25_put (ws_ yX25_put cX25_put 4 (some .boolean)) ({ frames := 0, cells := 0, slots := 0, locals := 0 }) (va_Pc [.ref a, .int i, .long v] (PC D aC A o la z)) (QG (some (.int 1)) (OC D aC A o la (sJ z (150 + sh) i (putV 2 v))) A) 0 0 A := by
  refine g_ofW (cc := cX25_put) (maxL := 4) (ret := (some .boolean)) (own := RX25) (by decide) rfl rfl [.ref a, .int i, .long v] (PC D aC A o la z) (Nat.le_of_ble_eq_true rfl) ?_
  intro p e s m below meth c ls hx hb hr hml hts hown hlocks hnm hPre hl
  obtain ⟨hO, hK, hA, hZ⟩ := hPre
  obtain ⟨a', h1, him, h2, h3, h4, h5⟩ := hO.row (h := 2) hs hh (by decide)
  cases h1.symm.trans ha
  have h3 : s.heap[lIa la sh]? = some (vp_cell (aC 1) ((kA (kz z) 21 sh).toNatClampNeg, .inl (fun j => (z.2.2.1 (150 + sh) j).toInt32))) := h3
  have hl : lv_has ls 4 [(0, .ref a), (1, .int i), (2, .long v)] := hl
  refine lv_aload_n hx hb dX25_put_0 rfl (lv_at hl 0 rfl) ?_
  refine nd_get hx hb hts in_X25 TX25_own hown hK hO (ci := 22) rfl him 0 (by decide) rfl (hts _ q1364) dX25_put_1 ?_
  refine lv_iload_n hx hb dX25_put_4 rfl (lv_at hl 1 rfl) ?_
  refine lv_lload_n hx hb dX25_put_5 rfl (lv_at hl 2 rfl) ?_
  refine lv_l2i hx hb dX25_put_6 rfl ?_
  refine W.iast hx hb h3 ((hK.1.2 0 _ rfl).1 (kA (kz z) 21 sh).toNatClampNeg (fun j => .int (z.2.2.1 (150 + sh) j).toInt32)) (fun q => by cases q) (by show ¬ (i < 0 ∨ (arrV _ _ _).slots.size ≤ _); rw [arrV_size]; exact okI_in hi) rfl rfl dX25_put_7 fun H1 e1 e2 oq => ?_
  have hO1 := hO.setE (H1 := H1) (h := 2) (E := vp_updL (z.2.2.1 (150 + sh)) i.toNatClampNeg (putV 2 v)) hm8 hs hh (by decide) (by
      rw [e1, vp_cell_i, arrV_store]
      show _ = some (vp_cell (aC 1) (_, .inl _))
      rw [vp_cell_i]
      congr 2
      funext q
      by_cases hq : q = i.toNatClampNeg
      · subst hq
        simp [updV, vp_updL, putV, narrow]
      · simp [updV, vp_updL, hq])
    (shFit_up (h := 2) h4 v) oq
  refine lv_iconst (v := 1) hx hb dX25_put_8 (by decide) ?_
  exact g_retGz hx hb hr hlocks (Or.inr rfl) rfl hO1 (va_S.rf.put e2 oq (hO.2.2.1.2.2.2.2.2.2 _ (by rw [h5]; omega))) dX25_put_9
theorem metX25_putX (l : Launch) (hst : l.stackTraces = false) (D : va_G) (aC : Nat → ClassId) (A : Nat → Prop) (o : Nat) (la : LC) (z : GS) (sh a : Nat) (i : Int32) (v : Int64) (hs : sh < 6) (hh : kHold (kz z) sh = 2) (ha : lQ la 44 sh = some a) (hi : ¬ okI i (kA (kz z) 21 sh).toNatClampNeg) : vx_Met l yX25_put (ws_ yX25_put cX25_put 4 (some .boolean)) ({ frames := 9, cells := 3, slots := 410, locals := 10300 }) (va_Pc [.ref a, .int i, .long v] (PC D aC A o la z)) (fun _ _ _ _ => False) (XE "java/lang/ArrayIndexOutOfBoundsException" (OC D aC A o la z) A) 3 410 A := by
  refine g_ofX (cc := cX25_put) (maxL := 4) (ret := (some .boolean)) (own := RX25) (by decide) rfl rfl [.ref a, .int i, .long v] (PC D aC A o la z) (Nat.le_of_ble_eq_true rfl) ?_
  intro p e s m below meth c ls hx hb hr hml hts hown hlocks htb hPre hl
  obtain ⟨hO, hK, hA, hZ⟩ := hPre
  obtain ⟨a', h1, him, h2, h3, h4, h5⟩ := hO.row (h := 2) hs hh (by decide)
  cases h1.symm.trans ha
  have h3 : s.heap[lIa la sh]? = some (vp_cell (aC 1) ((kA (kz z) 21 sh).toNatClampNeg, .inl (fun j => (z.2.2.1 (150 + sh) j).toInt32))) := h3
  have hl : lv_has ls 4 [(0, .ref a), (1, .int i), (2, .long v)] := hl
  refine lv_aload_n hx hb dX25_put_0 rfl (lv_at hl 0 rfl) ?_
  refine nd_get hx hb hts in_X25 TX25_own hown hK hO (ci := 22) rfl him 0 (by decide) rfl (hts _ q1364) dX25_put_1 ?_
  refine lv_iload_n hx hb dX25_put_4 rfl (lv_at hl 1 rfl) ?_
  refine lv_lload_n hx hb dX25_put_5 rfl (lv_at hl 2 rfl) ?_
  refine lv_l2i hx hb dX25_put_6 rfl ?_
  refine vx_iastZ (ws := [(lIa la sh, .inl (aC 1, (kA (kz z) 21 sh).toNatClampNeg, .inl (fun j => (z.2.2.1 (150 + sh) j).toInt32)))]) hx hb hK.1 (fun j q hj => by
      cases j with
      | zero => cases hj; exact h3
      | succ j => simp at hj) 0 0 rfl rfl (fun q => hi (vp_in_iff.mp q)) dX25_put_7 (fun tx htx => ?_)
  subst htx
  refine g_vmI hx hst hts hK hZ va_S.rf (hl.1.trans hml.symm) (idxText i _ (shN_lt h2)) (Nat.le_of_ble_eq_true rfl) (Nat.le_of_ble_eq_true rfl) ⟨Nat.le_of_ble_eq_true rfl, Nat.le_of_ble_eq_true rfl⟩ hlocks (fun H1 q9 ce hz1 hq1 hS hce hv hcl => ?_)
  exact vx_out (fun x hx => (htb x hx).elim) hlocks hce hv hcl (fun t htp _ => ⟨rfl, by rw [htp]; exact hO.grow hq1, hS.F htp⟩) hS.2.2 (Nat.le_of_ble_eq_true rfl) (Nat.le_of_ble_eq_true rfl)
theorem TX26_own : ∀ k, (TX26 k).1 = RX26 := by intro k; unfold TX26; split <;> rfl
theorem metX26_atR (l : Launch) (D : va_G) (aC : Nat → ClassId) (A : Nat → Prop) (o : Nat) (la : LC) (z : GS) (sh a : Nat) (i : Int32) (hs : sh < 6) (hh : kHold (kz z) sh = 3) (ha : lQ la 44 sh = some a) (hi : okI i (kA (kz z) 21 sh).toNatClampNeg) : Met l yX26_at (ws_ yX26_at cX26_at 2 (some .long)) ({ frames := 0, cells := 0, slots := 0, locals := 0 }) (va_Pc [.ref a, .int i] (PC D aC A o la z)) (QR (some (.long (rdV 3 (z.2.2.1 (150 + sh)) i.toNatClampNeg)))) 0 0 (fun _ => False) := by
  refine g_ofW (cc := cX26_at) (maxL := 2) (ret := (some .long)) (own := RX26) (by decide) rfl rfl [.ref a, .int i] (PC D aC A o la z) (Nat.le_of_ble_eq_true rfl) ?_
  intro p e s m below meth c ls hx hb hr hml hts hown hlocks hnm hPre hl
  obtain ⟨hO, hK, hA, hZ⟩ := hPre
  obtain ⟨a', h1, him, h2, h3, h4, h5⟩ := hO.row (h := 3) hs hh (by decide)
  cases h1.symm.trans ha
  have h3 : s.heap[lIa la sh]? = some (vp_cell (aC 3) ((kA (kz z) 21 sh).toNatClampNeg, .inr (.inl (z.2.2.1 (150 + sh))))) := h3
  have hl : lv_has ls 2 [(0, .ref a), (1, .int i)] := hl
  refine lv_aload_n hx hb dX26_at_0 rfl (lv_at hl 0 rfl) ?_
  refine nd_get hx hb hts in_X26 TX26_own hown hK hO (ci := 23) rfl him 0 (by decide) rfl (hts _ q1374) dX26_at_1 ?_
  refine lv_iload_n hx hb dX26_at_4 rfl (lv_at hl 1 rfl) ?_
  refine va_lald (ws := [(lIa la sh, .inl (aC 3, (kA (kz z) 21 sh).toNatClampNeg, .inr (.inl (z.2.2.1 (150 + sh)))))]) hx hb hK.1 (fun j q hj => by
    cases j with
    | zero => cases hj; exact h3
    | succ j => simp at hj) 0 2 rfl rfl (okI_in hi) dX26_at_5 ?_
  exact g_retRl hx hb hr hlocks rfl dX26_at_6
theorem metX26_atX (l : Launch) (hst : l.stackTraces = false) (D : va_G) (aC : Nat → ClassId) (A : Nat → Prop) (o : Nat) (la : LC) (z : GS) (sh a : Nat) (i : Int32) (hs : sh < 6) (hh : kHold (kz z) sh = 3) (ha : lQ la 44 sh = some a) (hi : ¬ okI i (kA (kz z) 21 sh).toNatClampNeg) : vx_Met l yX26_at (ws_ yX26_at cX26_at 2 (some .long)) ({ frames := 9, cells := 3, slots := 410, locals := 10300 }) (va_Pc [.ref a, .int i] (PC D aC A o la z)) (fun _ _ _ _ => False) (XE "java/lang/ArrayIndexOutOfBoundsException" (OC D aC A o la z) A) 3 410 A := by
  refine g_ofX (cc := cX26_at) (maxL := 2) (ret := (some .long)) (own := RX26) (by decide) rfl rfl [.ref a, .int i] (PC D aC A o la z) (Nat.le_of_ble_eq_true rfl) ?_
  intro p e s m below meth c ls hx hb hr hml hts hown hlocks htb hPre hl
  obtain ⟨hO, hK, hA, hZ⟩ := hPre
  obtain ⟨a', h1, him, h2, h3, h4, h5⟩ := hO.row (h := 3) hs hh (by decide)
  cases h1.symm.trans ha
  have h3 : s.heap[lIa la sh]? = some (vp_cell (aC 3) ((kA (kz z) 21 sh).toNatClampNeg, .inr (.inl (z.2.2.1 (150 + sh))))) := h3
  have hl : lv_has ls 2 [(0, .ref a), (1, .int i)] := hl
  refine lv_aload_n hx hb dX26_at_0 rfl (lv_at hl 0 rfl) ?_
  refine nd_get hx hb hts in_X26 TX26_own hown hK hO (ci := 23) rfl him 0 (by decide) rfl (hts _ q1374) dX26_at_1 ?_
  refine lv_iload_n hx hb dX26_at_4 rfl (lv_at hl 1 rfl) ?_
  refine vx_laldZ (ws := [(lIa la sh, .inl (aC 3, (kA (kz z) 21 sh).toNatClampNeg, .inr (.inl (z.2.2.1 (150 + sh)))))]) hx hb hK.1 (fun j q hj => by
    cases j with
    | zero => cases hj; exact h3
    | succ j => simp at hj) 0 2 rfl rfl (fun q => hi (vp_in_iff.mp q)) dX26_at_5 (fun tx htx => ?_)
  subst htx
  refine g_vmI hx hst hts hK hZ va_S.rf (hl.1.trans hml.symm) (idxText i _ (shN_lt h2)) (Nat.le_of_ble_eq_true rfl) (Nat.le_of_ble_eq_true rfl) ⟨Nat.le_of_ble_eq_true rfl, Nat.le_of_ble_eq_true rfl⟩ hlocks (fun H1 q9 ce hz1 hq1 hS hce hv hcl => ?_)
  exact vx_out (fun x hx => (htb x hx).elim) hlocks hce hv hcl (fun t htp _ => ⟨rfl, by rw [htp]; exact hO.grow hq1, hS.F htp⟩) hS.2.2 (Nat.le_of_ble_eq_true rfl) (Nat.le_of_ble_eq_true rfl)
theorem metX26_putR (l : Launch) (D : va_G) (aC : Nat → ClassId) (A : Nat → Prop) (o : Nat) (la : LC) (z : GS) (sh a : Nat) (i : Int32) (v : Int64) (hm8 : kMany (kz z) ≤ 8) (hs : sh < 6) (hh : kHold (kz z) sh = 3) (ha : lQ la 44 sh = some a) (hi : okI i (kA (kz z) 21 sh).toNatClampNeg) : Met l yX26_put (ws_ yX26_put cX26_put 4 (some .boolean)) ({ frames := 0, cells := 0, slots := 0, locals := 0 }) (va_Pc [.ref a, .int i, .long v] (PC D aC A o la z)) (QG (some (.int 1)) (OC D aC A o la (sJ z (150 + sh) i (putV 3 v))) A) 0 0 A := by
  refine g_ofW (cc := cX26_put) (maxL := 4) (ret := (some .boolean)) (own := RX26) (by decide) rfl rfl [.ref a, .int i, .long v] (PC D aC A o la z) (Nat.le_of_ble_eq_true rfl) ?_
  intro p e s m below meth c ls hx hb hr hml hts hown hlocks hnm hPre hl
  obtain ⟨hO, hK, hA, hZ⟩ := hPre
  obtain ⟨a', h1, him, h2, h3, h4, h5⟩ := hO.row (h := 3) hs hh (by decide)
  cases h1.symm.trans ha
  have h3 : s.heap[lIa la sh]? = some (vp_cell (aC 3) ((kA (kz z) 21 sh).toNatClampNeg, .inr (.inl (z.2.2.1 (150 + sh))))) := h3
  have hl : lv_has ls 4 [(0, .ref a), (1, .int i), (2, .long v)] := hl
  refine lv_aload_n hx hb dX26_put_0 rfl (lv_at hl 0 rfl) ?_
  refine nd_get hx hb hts in_X26 TX26_own hown hK hO (ci := 23) rfl him 0 (by decide) rfl (hts _ q1374) dX26_put_1 ?_
  refine lv_iload_n hx hb dX26_put_4 rfl (lv_at hl 1 rfl) ?_
  refine lv_lload_n hx hb dX26_put_5 rfl (lv_at hl 2 rfl) ?_
  refine W.last hx hb h3 ((hK.1.2 2 _ rfl).1 (kA (kz z) 21 sh).toNatClampNeg (fun j => .long (z.2.2.1 (150 + sh) j))) (fun q => by cases q) (by show ¬ (i < 0 ∨ (arrV _ _ _).slots.size ≤ _); rw [arrV_size]; exact okI_in hi) rfl rfl dX26_put_6 fun H1 e1 e2 oq => ?_
  have hO1 := hO.setE (H1 := H1) (h := 3) (E := vp_updL (z.2.2.1 (150 + sh)) i.toNatClampNeg (putV 3 v)) hm8 hs hh (by decide) (by
      rw [e1, vp_cell_l, arrV_store]
      show _ = some (vp_cell (aC 3) (_, .inr (.inl _)))
      rw [vp_cell_l]
      congr 2
      funext q
      by_cases hq : q = i.toNatClampNeg <;> simp [updV, vp_updL, hq, putV])
    (shFit_up (h := 3) h4 v) oq
  refine lv_iconst (v := 1) hx hb dX26_put_7 (by decide) ?_
  exact g_retGz hx hb hr hlocks (Or.inr rfl) rfl hO1 (va_S.rf.put e2 oq (hO.2.2.1.2.2.2.2.2.2 _ (by rw [h5]; omega))) dX26_put_8
theorem metX26_putX (l : Launch) (hst : l.stackTraces = false) (D : va_G) (aC : Nat → ClassId) (A : Nat → Prop) (o : Nat) (la : LC) (z : GS) (sh a : Nat) (i : Int32) (v : Int64) (hs : sh < 6) (hh : kHold (kz z) sh = 3) (ha : lQ la 44 sh = some a) (hi : ¬ okI i (kA (kz z) 21 sh).toNatClampNeg) : vx_Met l yX26_put (ws_ yX26_put cX26_put 4 (some .boolean)) ({ frames := 9, cells := 3, slots := 410, locals := 10300 }) (va_Pc [.ref a, .int i, .long v] (PC D aC A o la z)) (fun _ _ _ _ => False) (XE "java/lang/ArrayIndexOutOfBoundsException" (OC D aC A o la z) A) 3 410 A := by
  refine g_ofX (cc := cX26_put) (maxL := 4) (ret := (some .boolean)) (own := RX26) (by decide) rfl rfl [.ref a, .int i, .long v] (PC D aC A o la z) (Nat.le_of_ble_eq_true rfl) ?_
  intro p e s m below meth c ls hx hb hr hml hts hown hlocks htb hPre hl
  obtain ⟨hO, hK, hA, hZ⟩ := hPre
  obtain ⟨a', h1, him, h2, h3, h4, h5⟩ := hO.row (h := 3) hs hh (by decide)
  cases h1.symm.trans ha
  have h3 : s.heap[lIa la sh]? = some (vp_cell (aC 3) ((kA (kz z) 21 sh).toNatClampNeg, .inr (.inl (z.2.2.1 (150 + sh))))) := h3
  have hl : lv_has ls 4 [(0, .ref a), (1, .int i), (2, .long v)] := hl
  refine lv_aload_n hx hb dX26_put_0 rfl (lv_at hl 0 rfl) ?_
  refine nd_get hx hb hts in_X26 TX26_own hown hK hO (ci := 23) rfl him 0 (by decide) rfl (hts _ q1374) dX26_put_1 ?_
  refine lv_iload_n hx hb dX26_put_4 rfl (lv_at hl 1 rfl) ?_
  refine lv_lload_n hx hb dX26_put_5 rfl (lv_at hl 2 rfl) ?_
  refine vx_lastZ (ws := [(lIa la sh, .inl (aC 3, (kA (kz z) 21 sh).toNatClampNeg, .inr (.inl (z.2.2.1 (150 + sh)))))]) hx hb hK.1 (fun j q hj => by
      cases j with
      | zero => cases hj; exact h3
      | succ j => simp at hj) 0 2 rfl rfl (fun q => hi (vp_in_iff.mp q)) dX26_put_6 (fun tx htx => ?_)
  subst htx
  refine g_vmI hx hst hts hK hZ va_S.rf (hl.1.trans hml.symm) (idxText i _ (shN_lt h2)) (Nat.le_of_ble_eq_true rfl) (Nat.le_of_ble_eq_true rfl) ⟨Nat.le_of_ble_eq_true rfl, Nat.le_of_ble_eq_true rfl⟩ hlocks (fun H1 q9 ce hz1 hq1 hS hce hv hcl => ?_)
  exact vx_out (fun x hx => (htb x hx).elim) hlocks hce hv hcl (fun t htp _ => ⟨rfl, by rw [htp]; exact hO.grow hq1, hS.F htp⟩) hS.2.2 (Nat.le_of_ble_eq_true rfl) (Nat.le_of_ble_eq_true rfl)
theorem TX27_own : ∀ k, (TX27 k).1 = RX27 := by intro k; unfold TX27; split <;> rfl
theorem metX27_atR (l : Launch) (D : va_G) (aC : Nat → ClassId) (A : Nat → Prop) (o : Nat) (la : LC) (z : GS) (sh a : Nat) (i : Int32) (hs : sh < 6) (hh : kHold (kz z) sh = 4) (ha : lQ la 44 sh = some a) (hi : okI i (kA (kz z) 21 sh).toNatClampNeg) : Met l yX27_at (ws_ yX27_at cX27_at 2 (some .long)) ({ frames := 0, cells := 0, slots := 0, locals := 0 }) (va_Pc [.ref a, .int i] (PC D aC A o la z)) (QR (some (.long (rdV 4 (z.2.2.1 (150 + sh)) i.toNatClampNeg)))) 0 0 (fun _ => False) := by
  refine g_ofW (cc := cX27_at) (maxL := 2) (ret := (some .long)) (own := RX27) (by decide) rfl rfl [.ref a, .int i] (PC D aC A o la z) (Nat.le_of_ble_eq_true rfl) ?_
  intro p e s m below meth c ls hx hb hr hml hts hown hlocks hnm hPre hl
  obtain ⟨hO, hK, hA, hZ⟩ := hPre
  obtain ⟨a', h1, him, h2, h3, h4, h5⟩ := hO.row (h := 4) hs hh (by decide)
  cases h1.symm.trans ha
  have h3 : s.heap[lIa la sh]? = some (vp_cell (aC 5) ((kA (kz z) 21 sh).toNatClampNeg, .inl (fun j => (z.2.2.1 (150 + sh) j).toInt32))) := h3
  have hl : lv_has ls 2 [(0, .ref a), (1, .int i)] := hl
  refine lv_aload_n hx hb dX27_at_0 rfl (lv_at hl 0 rfl) ?_
  refine nd_get hx hb hts in_X27 TX27_own hown hK hO (ci := 24) rfl him 0 (by decide) rfl (hts _ q1385) dX27_at_1 ?_
  refine lv_iload_n hx hb dX27_at_4 rfl (lv_at hl 1 rfl) ?_
  refine va_zald (ws := [(lIa la sh, .inl (aC 5, (kA (kz z) 21 sh).toNatClampNeg, .inl (fun j => (z.2.2.1 (150 + sh) j).toInt32)))]) hx hb hK.1 (fun j q hj => by
    cases j with
    | zero => cases hj; exact h3
    | succ j => simp at hj) 0 4 rfl rfl (okI_in hi) dX27_at_5 ?_
  refine lv_if_eq (tgt := 13) hx hb dX27_at_6 (by decide) (fun c1 => ?_) (fun c1 => ?_)
  · refine lv_lconst (v := 0) hx hb dX27_at_13 (by decide) ?_
    exact g_retRl hx hb hr hlocks (by show (0 : Int64) = if (z.2.2.1 (150 + sh) i.toNatClampNeg).toInt32 = 0 then 0 else 1; rw [if_pos c1]) dX27_at_14
  · refine lv_lconst (v := 1) hx hb dX27_at_9 (by decide) ?_
    refine lv_goto (tgt := 14) hx hb dX27_at_10 (by decide) ?_
    exact g_retRl hx hb hr hlocks (by show (1 : Int64) = if (z.2.2.1 (150 + sh) i.toNatClampNeg).toInt32 = 0 then 0 else 1; rw [if_neg c1]) dX27_at_14
theorem metX27_atX (l : Launch) (hst : l.stackTraces = false) (D : va_G) (aC : Nat → ClassId) (A : Nat → Prop) (o : Nat) (la : LC) (z : GS) (sh a : Nat) (i : Int32) (hs : sh < 6) (hh : kHold (kz z) sh = 4) (ha : lQ la 44 sh = some a) (hi : ¬ okI i (kA (kz z) 21 sh).toNatClampNeg) : vx_Met l yX27_at (ws_ yX27_at cX27_at 2 (some .long)) ({ frames := 9, cells := 3, slots := 410, locals := 10300 }) (va_Pc [.ref a, .int i] (PC D aC A o la z)) (fun _ _ _ _ => False) (XE "java/lang/ArrayIndexOutOfBoundsException" (OC D aC A o la z) A) 3 410 A := by
  refine g_ofX (cc := cX27_at) (maxL := 2) (ret := (some .long)) (own := RX27) (by decide) rfl rfl [.ref a, .int i] (PC D aC A o la z) (Nat.le_of_ble_eq_true rfl) ?_
  intro p e s m below meth c ls hx hb hr hml hts hown hlocks htb hPre hl
  obtain ⟨hO, hK, hA, hZ⟩ := hPre
  obtain ⟨a', h1, him, h2, h3, h4, h5⟩ := hO.row (h := 4) hs hh (by decide)
  cases h1.symm.trans ha
  have h3 : s.heap[lIa la sh]? = some (vp_cell (aC 5) ((kA (kz z) 21 sh).toNatClampNeg, .inl (fun j => (z.2.2.1 (150 + sh) j).toInt32))) := h3
  have hl : lv_has ls 2 [(0, .ref a), (1, .int i)] := hl
  refine lv_aload_n hx hb dX27_at_0 rfl (lv_at hl 0 rfl) ?_
  refine nd_get hx hb hts in_X27 TX27_own hown hK hO (ci := 24) rfl him 0 (by decide) rfl (hts _ q1385) dX27_at_1 ?_
  refine lv_iload_n hx hb dX27_at_4 rfl (lv_at hl 1 rfl) ?_
  refine vx_zaldZ (ws := [(lIa la sh, .inl (aC 5, (kA (kz z) 21 sh).toNatClampNeg, .inl (fun j => (z.2.2.1 (150 + sh) j).toInt32)))]) hx hb hK.1 (fun j q hj => by
    cases j with
    | zero => cases hj; exact h3
    | succ j => simp at hj) 0 4 rfl rfl (fun q => hi (vp_in_iff.mp q)) dX27_at_5 (fun tx htx => ?_)
  subst htx
  refine g_vmI hx hst hts hK hZ va_S.rf (hl.1.trans hml.symm) (idxText i _ (shN_lt h2)) (Nat.le_of_ble_eq_true rfl) (Nat.le_of_ble_eq_true rfl) ⟨Nat.le_of_ble_eq_true rfl, Nat.le_of_ble_eq_true rfl⟩ hlocks (fun H1 q9 ce hz1 hq1 hS hce hv hcl => ?_)
  exact vx_out (fun x hx => (htb x hx).elim) hlocks hce hv hcl (fun t htp _ => ⟨rfl, by rw [htp]; exact hO.grow hq1, hS.F htp⟩) hS.2.2 (Nat.le_of_ble_eq_true rfl) (Nat.le_of_ble_eq_true rfl)
theorem metX27_putR (l : Launch) (D : va_G) (aC : Nat → ClassId) (A : Nat → Prop) (o : Nat) (la : LC) (z : GS) (sh a : Nat) (i : Int32) (v : Int64) (hm8 : kMany (kz z) ≤ 8) (hs : sh < 6) (hh : kHold (kz z) sh = 4) (ha : lQ la 44 sh = some a) (hi : okI i (kA (kz z) 21 sh).toNatClampNeg) : Met l yX27_put (ws_ yX27_put cX27_put 4 (some .boolean)) ({ frames := 0, cells := 0, slots := 0, locals := 0 }) (va_Pc [.ref a, .int i, .long v] (PC D aC A o la z)) (QG (some (.int 1)) (OC D aC A o la (sJ z (150 + sh) i (putV 4 v))) A) 0 0 A := by
  refine g_ofW (cc := cX27_put) (maxL := 4) (ret := (some .boolean)) (own := RX27) (by decide) rfl rfl [.ref a, .int i, .long v] (PC D aC A o la z) (Nat.le_of_ble_eq_true rfl) ?_
  intro p e s m below meth c ls hx hb hr hml hts hown hlocks hnm hPre hl
  obtain ⟨hO, hK, hA, hZ⟩ := hPre
  obtain ⟨a', h1, him, h2, h3, h4, h5⟩ := hO.row (h := 4) hs hh (by decide)
  cases h1.symm.trans ha
  have h3 : s.heap[lIa la sh]? = some (vp_cell (aC 5) ((kA (kz z) 21 sh).toNatClampNeg, .inl (fun j => (z.2.2.1 (150 + sh) j).toInt32))) := h3
  have hl : lv_has ls 4 [(0, .ref a), (1, .int i), (2, .long v)] := hl
  refine lv_aload_n hx hb dX27_put_0 rfl (lv_at hl 0 rfl) ?_
  refine nd_get hx hb hts in_X27 TX27_own hown hK hO (ci := 24) rfl him 0 (by decide) rfl (hts _ q1385) dX27_put_1 ?_
  refine lv_iload_n hx hb dX27_put_4 rfl (lv_at hl 1 rfl) ?_
  refine lv_lload_n hx hb dX27_put_5 rfl (lv_at hl 2 rfl) ?_
  refine lv_lconst (v := 0) hx hb dX27_put_6 (by decide) ?_
  refine W.lcmp hx hb dX27_put_7 ?_
  refine lv_if_eq (tgt := 15) hx hb dX27_put_8 (by decide) (fun c1 => ?_) (fun c1 => ?_)
  · refine lv_iconst (v := 0) hx hb dX27_put_15 (by decide) ?_
    refine W.zast hx hb h3 ((hK.1.2 4 _ rfl).1 (kA (kz z) 21 sh).toNatClampNeg (fun j => .int (z.2.2.1 (150 + sh) j).toInt32)) (fun q => by cases q) (by show ¬ (i < 0 ∨ (arrV _ _ _).slots.size ≤ _); rw [arrV_size]; exact okI_in hi) rfl rfl dX27_put_16 fun H1 e1 e2 oq => ?_
    have hO1 := hO.setE (H1 := H1) (h := 4) (E := vp_updL (z.2.2.1 (150 + sh)) i.toNatClampNeg (putV 4 v)) hm8 hs hh (by decide) (by
        rw [e1, vp_cell_i, arrV_store]
        show _ = some (vp_cell (aC 5) (_, .inl _))
        rw [vp_cell_i]
        congr 2
        funext q
        by_cases hq : q = i.toNatClampNeg
        · subst hq
          simp [updV, vp_updL, putV, narrow, c1]
        · simp [updV, vp_updL, hq])
      (shFit_up (h := 4) h4 v) oq
    refine lv_iconst (v := 1) hx hb dX27_put_17 (by decide) ?_
    exact g_retGz hx hb hr hlocks (Or.inr rfl) rfl hO1 (va_S.rf.put e2 oq (hO.2.2.1.2.2.2.2.2.2 _ (by rw [h5]; omega))) dX27_put_18
  · refine lv_iconst (v := 1) hx hb dX27_put_11 (by decide) ?_
    refine lv_goto (tgt := 16) hx hb dX27_put_12 (by decide) ?_
    refine W.zast hx hb h3 ((hK.1.2 4 _ rfl).1 (kA (kz z) 21 sh).toNatClampNeg (fun j => .int (z.2.2.1 (150 + sh) j).toInt32)) (fun q => by cases q) (by show ¬ (i < 0 ∨ (arrV _ _ _).slots.size ≤ _); rw [arrV_size]; exact okI_in hi) rfl rfl dX27_put_16 fun H1 e1 e2 oq => ?_
    have hO1 := hO.setE (H1 := H1) (h := 4) (E := vp_updL (z.2.2.1 (150 + sh)) i.toNatClampNeg (putV 4 v)) hm8 hs hh (by decide) (by
        rw [e1, vp_cell_i, arrV_store]
        show _ = some (vp_cell (aC 5) (_, .inl _))
        rw [vp_cell_i]
        congr 2
        funext q
        by_cases hq : q = i.toNatClampNeg
        · subst hq
          simp [updV, vp_updL, putV, narrow, c1]
        · simp [updV, vp_updL, hq])
      (shFit_up (h := 4) h4 v) oq
    refine lv_iconst (v := 1) hx hb dX27_put_17 (by decide) ?_
    exact g_retGz hx hb hr hlocks (Or.inr rfl) rfl hO1 (va_S.rf.put e2 oq (hO.2.2.1.2.2.2.2.2.2 _ (by rw [h5]; omega))) dX27_put_18
theorem metX27_putX (l : Launch) (hst : l.stackTraces = false) (D : va_G) (aC : Nat → ClassId) (A : Nat → Prop) (o : Nat) (la : LC) (z : GS) (sh a : Nat) (i : Int32) (v : Int64) (hs : sh < 6) (hh : kHold (kz z) sh = 4) (ha : lQ la 44 sh = some a) (hi : ¬ okI i (kA (kz z) 21 sh).toNatClampNeg) : vx_Met l yX27_put (ws_ yX27_put cX27_put 4 (some .boolean)) ({ frames := 9, cells := 3, slots := 410, locals := 10300 }) (va_Pc [.ref a, .int i, .long v] (PC D aC A o la z)) (fun _ _ _ _ => False) (XE "java/lang/ArrayIndexOutOfBoundsException" (OC D aC A o la z) A) 3 410 A := by
  refine g_ofX (cc := cX27_put) (maxL := 4) (ret := (some .boolean)) (own := RX27) (by decide) rfl rfl [.ref a, .int i, .long v] (PC D aC A o la z) (Nat.le_of_ble_eq_true rfl) ?_
  intro p e s m below meth c ls hx hb hr hml hts hown hlocks htb hPre hl
  obtain ⟨hO, hK, hA, hZ⟩ := hPre
  obtain ⟨a', h1, him, h2, h3, h4, h5⟩ := hO.row (h := 4) hs hh (by decide)
  cases h1.symm.trans ha
  have h3 : s.heap[lIa la sh]? = some (vp_cell (aC 5) ((kA (kz z) 21 sh).toNatClampNeg, .inl (fun j => (z.2.2.1 (150 + sh) j).toInt32))) := h3
  have hl : lv_has ls 4 [(0, .ref a), (1, .int i), (2, .long v)] := hl
  refine lv_aload_n hx hb dX27_put_0 rfl (lv_at hl 0 rfl) ?_
  refine nd_get hx hb hts in_X27 TX27_own hown hK hO (ci := 24) rfl him 0 (by decide) rfl (hts _ q1385) dX27_put_1 ?_
  refine lv_iload_n hx hb dX27_put_4 rfl (lv_at hl 1 rfl) ?_
  refine lv_lload_n hx hb dX27_put_5 rfl (lv_at hl 2 rfl) ?_
  refine lv_lconst (v := 0) hx hb dX27_put_6 (by decide) ?_
  refine W.lcmp hx hb dX27_put_7 ?_
  refine lv_if_eq (tgt := 15) hx hb dX27_put_8 (by decide) (fun c1 => ?_) (fun c1 => ?_)
  · refine lv_iconst (v := 0) hx hb dX27_put_15 (by decide) ?_
    refine vx_zastZ (ws := [(lIa la sh, .inl (aC 5, (kA (kz z) 21 sh).toNatClampNeg, .inl (fun j => (z.2.2.1 (150 + sh) j).toInt32)))]) hx hb hK.1 (fun j q hj => by
        cases j with
        | zero => cases hj; exact h3
        | succ j => simp at hj) 0 4 rfl rfl (fun q => hi (vp_in_iff.mp q)) dX27_put_16 (fun tx htx => ?_)
    subst htx
    refine g_vmI hx hst hts hK hZ va_S.rf (hl.1.trans hml.symm) (idxText i _ (shN_lt h2)) (Nat.le_of_ble_eq_true rfl) (Nat.le_of_ble_eq_true rfl) ⟨Nat.le_of_ble_eq_true rfl, Nat.le_of_ble_eq_true rfl⟩ hlocks (fun H1 q9 ce hz1 hq1 hS hce hv hcl => ?_)
    exact vx_out (fun x hx => (htb x hx).elim) hlocks hce hv hcl (fun t htp _ => ⟨rfl, by rw [htp]; exact hO.grow hq1, hS.F htp⟩) hS.2.2 (Nat.le_of_ble_eq_true rfl) (Nat.le_of_ble_eq_true rfl)
  · refine lv_iconst (v := 1) hx hb dX27_put_11 (by decide) ?_
    refine lv_goto (tgt := 16) hx hb dX27_put_12 (by decide) ?_
    refine vx_zastZ (ws := [(lIa la sh, .inl (aC 5, (kA (kz z) 21 sh).toNatClampNeg, .inl (fun j => (z.2.2.1 (150 + sh) j).toInt32)))]) hx hb hK.1 (fun j q hj => by
        cases j with
        | zero => cases hj; exact h3
        | succ j => simp at hj) 0 4 rfl rfl (fun q => hi (vp_in_iff.mp q)) dX27_put_16 (fun tx htx => ?_)
    subst htx
    refine g_vmI hx hst hts hK hZ va_S.rf (hl.1.trans hml.symm) (idxText i _ (shN_lt h2)) (Nat.le_of_ble_eq_true rfl) (Nat.le_of_ble_eq_true rfl) ⟨Nat.le_of_ble_eq_true rfl, Nat.le_of_ble_eq_true rfl⟩ hlocks (fun H1 q9 ce hz1 hq1 hS hce hv hcl => ?_)
    exact vx_out (fun x hx => (htb x hx).elim) hlocks hce hv hcl (fun t htp _ => ⟨rfl, by rw [htp]; exact hO.grow hq1, hS.F htp⟩) hS.2.2 (Nat.le_of_ble_eq_true rfl) (Nat.le_of_ble_eq_true rfl)
