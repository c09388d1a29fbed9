set_option maxRecDepth 100000
/-! printed by mkrow.py ===== new rows; row ===== -/
/-- all cells of a heap stay -/
def Same (Hs H : Heap) : Prop := ∀ x : Nat, x < Hs.size → H[x]? = Hs[x]?
def PRo (D : va_G) (aC : Nat → ClassId) (ci q : Nat) (Hs : Heap) (V : Nat → Value) (U : State) : Prop := U.heap = Hs ∧ t_OB q (D.1 ci) 1 (D.2 ci) U.heap V ∧ KC D aC U
def PRx (D : va_G) (aC : Nat → ClassId) (A : Nat → Prop) (Hs : Heap) (U : State) : Prop := U.heap = Hs ∧ KC D aC U ∧ ZX A U U.heap
abbrev QRo (D : va_G) (aC : Nat → ClassId) (ci h q : Nat) (Hs : Heap) (n : Int32) : Array Value → State → Outcome → State → Prop := QG none (fun H => H.size = Hs.size + 1 ∧ t_OB q (D.1 ci) 1 (D.2 ci) H (fun _ => .ref Hs.size) ∧ H[Hs.size]? = some (shC aC h n.toNatClampNeg (fun _ => 0)) ∧ ∀ x : Nat, x < Hs.size → x ≠ q → H[x]? = Hs[x]?) (fun x => x = q)
abbrev QNr (D : va_G) (aC : Nat → ClassId) (h : Nat) (Hs : Heap) (n : Int32) : Array Value → State → Outcome → State → Prop := QG (some (.ref Hs.size)) (fun H => H.size = Hs.size + 2 ∧ t_OB Hs.size (D.1 (20 + h)) 1 (D.2 (20 + h)) H (fun _ => .ref (Hs.size + 1)) ∧ H[Hs.size + 1]? = some (shC aC h n.toNatClampNeg (fun _ => 0)) ∧ Same Hs H) (fun x => x = Hs.size)
theorem PRo.blind {D : va_G} {aC : Nat → ClassId} {ci q : Nat} {Hs : Heap} {V : Nat → Value} {av : List Value} : FrameBlind (va_Pc av (PRo D aC ci q Hs V)) := fun a U g mk h => ⟨h.1, h.2.1, h.2.2.1, h.2.2.2.same (u := U) (U := U.calling g mk a) rfl⟩
theorem PRx.blind {D : va_G} {aC : Nat → ClassId} {A : Nat → Prop} {Hs : Heap} {av : List Value} : FrameBlind (va_Pc av (PRx D aC A Hs)) := fun a U g mk h => ⟨h.1, h.2.1, h.2.2.1.same (u := U) (U := U.calling g mk a) rfl, ZX.moved (u := U) (U := U.calling g mk a) (Vm.Alike.refl U.vm) h.2.2.2⟩
section RW
variable {p : Program} {l : Launch} {e : Env} {R : Room} {s : State} {m : MethodId} {args : Array Value} {below : List Frame} {meth : Method} {c : Code} {H H0 : Heap} {locs : List Loc} {cells slots : Nat} {Q : State → Prop}
variable {cc : ByteArray} {pc : Nat} {ls : Array Slot} {rest : List Value} {A : Nat → Prop}
theorem g_runF {mc ms : Nat} {g : JFrame} {ov : Option Value} {P : Heap → Prop} {F : Nat → Prop} {a : Array Value} (hr : va_Run p l e R s m args below meth c H locs cells slots mc ms g rest (QG ov P F a) F) (hS : va_S A H0 H locs) (hFA : ∀ x, F x → A x) (kk : ∀ (H1 : Heap) (locs1 : List Loc), P H1 → H.size ≤ H1.size → (∀ q : Nat, q < H.size → ¬ F q → H1[q]? = H[q]?) → va_S A H0 H1 locs1 → W p l e R s m args below meth c H1 locs1 (cells + mc) (slots + ms) Q { g with pc := g.pc + 3, stack := ov.toList ++ rest }) : W p l e R s m args below meth c H locs cells slots Q g := by
  intro T hT X
  obtain ⟨v, st₀, t, T', L, h0, X', hL, e1, e2, ⟨hv, hP, hz, hk⟩, st⟩ := hr T hT X
  cases hv
  rw [h0] at hz hk
  obtain ⟨t2, a1, b1⟩ := kk t.heap (locs ++ L) hP hz hk ⟨Nat.le_trans hS.1 hz, fun q h1 h2 => by rw [hk q (Nat.lt_of_lt_of_le h1 hS.1) (fun h => h2 (hFA q h))]; exact hS.2.1 q h1 h2, fun q hq => by
      rcases List.mem_append.mp hq with h | h
      · exact hS.2.2 q h
      · exact hFA _ (hL q h)⟩ T' e1 X'
  exact ⟨t2, st t2 a1, b1⟩
theorem negText (n : Int32) : ((toString n : String) == notModelled) = false ∧ (stringBytes (stringToUtf16 (toString n))).size ≤ 400 := by
  have h1 := int32_print n
  refine ⟨?_, ?_⟩
  · rw [beq_eq_false_iff_ne]
    intro h
    have h2 := congrArg (fun s => s.toList.length) h
    have h3 : notModelled.toList.length = 32 := by decide
    have h2 : (toString n).toList.length = notModelled.toList.length := h2
    omega
  · have b1 := stringBytes_size_le (stringToUtf16 (toString n))
    have b2 := utf16_size_le (toString n)
    omega
theorem g_retGr {P : Heap → Prop} {cells slots q : Nat} {rt : FieldType} (hx : p.tables.exec = Jvm.exec) (hb : c.code = cc) (hr : meth.sig.returnType = some rt) (hrt : (∃ n, rt = .object n) ∨ ∃ t, rt = .array t) (hlocks : meth.locks = false) (hP : P H) (hS : va_S A s.heap H locs) (d : decode cc pc = .ok (.areturn, 1)) : W p l e R s m args below meth c H locs cells slots (MQ below (QG (some (.ref q)) P A) args s cells slots A) (F0 m pc ls [.ref q]) :=
  W.aret hx hb hr hrt (Or.inr ⟨q, rfl⟩) (fun t ht _ => ⟨rfl, by rw [ht]; exact hP, hS.F ht⟩) hS.2.2 d
end RW
theorem metX23_initR (l : Launch) (D : va_G) (aC : Nat → ClassId) (Hs : Heap) (q : Nat) (V : Nat → Value) (n : Int32) (hn : okI n 61) : Met l yX23_init (ws_ yX23_init cX23_init 2 none) ({ frames := 3, cells := 1, slots := 60, locals := 120 }) (va_Pc [.ref q, .int n] (PRo D aC 20 q Hs V)) (QRo D aC 20 0 q Hs n) 1 60 (fun x => x = q) := by
  refine g_ofW (cc := cX23_init) (maxL := 2) (ret := none) (own := RX23) (by decide) rfl rfl [.ref q, .int n] (PRo D aC 20 q Hs V) (Nat.le_of_ble_eq_true rfl) ?_
  intro p e s m below meth c ls hx hb hr hml hts hown hlocks hnm hPre hl
  obtain ⟨hH, hB, hK⟩ := hPre
  have hf : CallFix p m c cX23_init 2 s _ lw_all RX23 := ⟨hx, hb, hml, hown, hts⟩
  have hl : lv_has ls 2 [(0, .ref q), (1, .int n)] := hl
  have hn0 : ¬ n < 0 := nn0 hn.1
  have h60 : n.toNatClampNeg ≤ 60 := by
    have h1 : n.toNatClampNeg = n.toInt.toNat := rfl
    have := hn.1; have := hn.2
    omega
  refine lv_aload_n hx hb dX23_init_0 rfl (lv_at hl 0 rfl) ?_
  refine g_super hf hK (metX22_init l D aC q) q1339 q1340 q128 q1341 rfl (by decide +kernel) hl.1 (Nat.le_of_ble_eq_true rfl) ⟨Nat.le_of_ble_eq_true rfl, Nat.le_of_ble_eq_true rfl⟩ ⟨Nat.le_of_ble_eq_true rfl, Nat.le_of_ble_eq_true rfl⟩ dX23_init_1 ?_
  refine lv_aload_n hx hb dX23_init_4 rfl (lv_at hl 0 rfl) ?_
  refine lv_iload_n hx hb dX23_init_5 rfl (lv_at hl 1 rfl) ?_
  refine va_newaK (N := n.toNatClampNeg) (atype := .byte) hx hb (hts _ q158) rfl dX23_init_6 rfl hn0 rfl (Nat.le_trans (Nat.mul_le_mul_right _ h60) (by decide)) (Nat.le_of_ble_eq_true rfl) (by show 0 + n.toNatClampNeg ≤ 60; omega) rfl fun H1 cA e1 z1 o1 hAr hNm => ?_
  have hlt : q < s.heap.size := hB.choose_spec.1 |> fun h => (Array.getElem?_eq_some_iff.mp h).1
  have hcA : cA = aC 2 := Option.some.inj (hNm.symm.trans (hK.1.2 1 _ rfl).2)
  subst hcA
  have hB1 : t_OB q (D.1 20) 1 (D.2 20) H1 V := hB.kept (o1 q hlt)
  have hap := X_apart (own := RX23) tyX23 tyX23_ok (fun a ha b hb h => absurd (by omega : a = b) h) hts in_X23 hK (ci := 20) rfl
  have hS : va_S (fun x => x = q) s.heap H1 [] := ⟨by omega, fun x h1 h2 => o1 x h1, fun x hx => nomatch hx⟩
  refine W.eq (g2 := F0 m 8 ls (.ref s.heap.size :: .ref q :: [])) rfl ?_
  refine g_putO (ci := 20) (ty := .array .byte) (v := .ref s.heap.size) tyX23 tyX23_ok (fun a h b h2 h3 => Or.inr (hap a b h h2 h3)) hap hx hb hts in_X23 hown hK rfl hB1 hS rfl 0 (by decide) (hts _ q1343) (fun _ h9 => h9) (Or.inr ⟨hnm, rfl⟩) rfl rfl rfl dX23_init_8 (fun H2 locs hz2 hB2 hq2 hS => ?_)
  refine W.widen (k := 1) (n := 60) (Nat.le_of_ble_eq_true rfl) (by omega) ?_
  refine g_retGv hx hb hr hlocks ?_ hS dX23_init_11
  subst hH
  refine ⟨by omega, hB2.to (fun f hf => ?_), ?_, fun x hx hxq => by rw [hq2 x hxq, o1 x hx]⟩
  · have : f = 0 := by omega
    subst this
    rfl
  · rw [hq2 _ (by omega), e1]
    rfl
theorem metX23_initX (l : Launch) (hst : l.stackTraces = false) (D : va_G) (aC : Nat → ClassId) (A : Nat → Prop) (Hs : Heap) (q : Nat) (n : Int32) (hn : n < 0) : vx_Met l yX23_init (ws_ yX23_init cX23_init 2 none) ({ frames := 8, cells := 3, slots := 410, locals := 10300 }) (va_Pc [.ref q, .int n] (PRx D aC A Hs)) (fun _ _ _ _ => False) (XE "java/lang/NegativeArraySizeException" (Same Hs) A) 3 410 A := by
  refine g_ofX (cc := cX23_init) (maxL := 2) (ret := none) (own := RX23) (by decide) rfl rfl [.ref q, .int n] (PRx D aC A Hs) (Nat.le_of_ble_eq_true rfl) ?_
  intro p e s m below meth c ls hx hb hr hml hts hown hlocks htb hPre hl
  obtain ⟨hH, hK, hZ⟩ := hPre
  have hf : CallFix p m c cX23_init 2 s _ lw_all RX23 := ⟨hx, hb, hml, hown, hts⟩
  have hl : lv_has ls 2 [(0, .ref q), (1, .int n)] := hl
  refine lv_aload_n hx hb dX23_init_0 rfl (lv_at hl 0 rfl) ?_
  refine g_super hf hK (metX22_init l D aC q) q1339 q1340 q128 q1341 rfl (by decide +kernel) hl.1 (Nat.le_of_ble_eq_true rfl) ⟨Nat.le_of_ble_eq_true rfl, Nat.le_of_ble_eq_true rfl⟩ ⟨Nat.le_of_ble_eq_true rfl, Nat.le_of_ble_eq_true rfl⟩ dX23_init_1 ?_
  refine lv_aload_n hx hb dX23_init_4 rfl (lv_at hl 0 rfl) ?_
  refine lv_iload_n hx hb dX23_init_5 rfl (lv_at hl 1 rfl) ?_
  refine vx_newarrayZ hx hb hn dX23_init_6 (fun tx htx => ?_)
  subst htx
  refine g_vmG hx hst hts hK hZ va_S.rf (hl.1.trans hml.symm) (negText n) (Nat.le_of_ble_eq_true rfl) (Nat.le_of_ble_eq_true rfl) ⟨Nat.le_of_ble_eq_true rfl, Nat.le_of_ble_eq_true rfl⟩ hlocks (fun H1 q9 ce hz1 hq1 hS hce hv hcl => ?_)
  exact vx_out (fun x hx => (htb x hx).elim) hlocks hce hv hcl (fun t htp _ => ⟨rfl, by rw [htp, ← hH]; exact hq1, hS.F htp⟩) hS.2.2 (Nat.le_of_ble_eq_true rfl) (Nat.le_of_ble_eq_true rfl)
theorem metX24_initR (l : Launch) (D : va_G) (aC : Nat → ClassId) (Hs : Heap) (q : Nat) (V : Nat → Value) (n : Int32) (hn : okI n 61) : Met l yX24_init (ws_ yX24_init cX24_init 2 none) ({ frames := 3, cells := 1, slots := 60, locals := 120 }) (va_Pc [.ref q, .int n] (PRo D aC 21 q Hs V)) (QRo D aC 21 1 q Hs n) 1 60 (fun x => x = q) := by
  refine g_ofW (cc := cX24_init) (maxL := 2) (ret := none) (own := RX24) (by decide) rfl rfl [.ref q, .int n] (PRo D aC 21 q Hs V) (Nat.le_of_ble_eq_true rfl) ?_
  intro p e s m below meth c ls hx hb hr hml hts hown hlocks hnm hPre hl
  obtain ⟨hH, hB, hK⟩ := hPre
  have hf : CallFix p m c cX24_init 2 s _ lw_all RX24 := ⟨hx, hb, hml, hown, hts⟩
  have hl : lv_has ls 2 [(0, .ref q), (1, .int n)] := hl
  have hn0 : ¬ n < 0 := nn0 hn.1
  have h60 : n.toNatClampNeg ≤ 60 := by
    have h1 : n.toNatClampNeg = n.toInt.toNat := rfl
    have := hn.1; have := hn.2
    omega
  refine lv_aload_n hx hb dX24_init_0 rfl (lv_at hl 0 rfl) ?_
  refine g_super hf hK (metX22_init l D aC q) q1352 q1340 q128 q1341 rfl (by decide +kernel) hl.1 (Nat.le_of_ble_eq_true rfl) ⟨Nat.le_of_ble_eq_true rfl, Nat.le_of_ble_eq_true rfl⟩ ⟨Nat.le_of_ble_eq_true rfl, Nat.le_of_ble_eq_true rfl⟩ dX24_init_1 ?_
  refine lv_aload_n hx hb dX24_init_4 rfl (lv_at hl 0 rfl) ?_
  refine lv_iload_n hx hb dX24_init_5 rfl (lv_at hl 1 rfl) ?_
  refine va_newaK (N := n.toNatClampNeg) (atype := .short) hx hb (hts _ q1357) rfl dX24_init_6 rfl hn0 rfl (Nat.le_trans (Nat.mul_le_mul_right _ h60) (by decide)) (Nat.le_of_ble_eq_true rfl) (by show 0 + n.toNatClampNeg ≤ 60; omega) rfl fun H1 cA e1 z1 o1 hAr hNm => ?_
  have hlt : q < s.heap.size := hB.choose_spec.1 |> fun h => (Array.getElem?_eq_some_iff.mp h).1
  have hcA : cA = aC 6 := Option.some.inj (hNm.symm.trans (hK.1.2 5 _ rfl).2)
  subst hcA
  have hB1 : t_OB q (D.1 21) 1 (D.2 21) H1 V := hB.kept (o1 q hlt)
  have hap := X_apart (own := RX24) tyX24 tyX24_ok (fun a ha b hb h => absurd (by omega : a = b) h) hts in_X24 hK (ci := 21) rfl
  have hS : va_S (fun x => x = q) s.heap H1 [] := ⟨by omega, fun x h1 h2 => o1 x h1, fun x hx => nomatch hx⟩
  refine W.eq (g2 := F0 m 8 ls (.ref s.heap.size :: .ref q :: [])) rfl ?_
  refine g_putO (ci := 21) (ty := .array .short) (v := .ref s.heap.size) tyX24 tyX24_ok (fun a h b h2 h3 => Or.inr (hap a b h h2 h3)) hap hx hb hts in_X24 hown hK rfl hB1 hS rfl 0 (by decide) (hts _ q1353) (fun _ h9 => h9) (Or.inr ⟨hnm, rfl⟩) rfl rfl rfl dX24_init_8 (fun H2 locs hz2 hB2 hq2 hS => ?_)
  refine W.widen (k := 1) (n := 60) (Nat.le_of_ble_eq_true rfl) (by omega) ?_
  refine g_retGv hx hb hr hlocks ?_ hS dX24_init_11
  subst hH
  refine ⟨by omega, hB2.to (fun f hf => ?_), ?_, fun x hx hxq => by rw [hq2 x hxq, o1 x hx]⟩
  · have : f = 0 := by omega
    subst this
    rfl
  · rw [hq2 _ (by omega), e1]
    rfl
theorem metX24_initX (l : Launch) (hst : l.stackTraces = false) (D : va_G) (aC : Nat → ClassId) (A : Nat → Prop) (Hs : Heap) (q : Nat) (n : Int32) (hn : n < 0) : vx_Met l yX24_init (ws_ yX24_init cX24_init 2 none) ({ frames := 8, cells := 3, slots := 410, locals := 10300 }) (va_Pc [.ref q, .int n] (PRx D aC A Hs)) (fun _ _ _ _ => False) (XE "java/lang/NegativeArraySizeException" (Same Hs) A) 3 410 A := by
  refine g_ofX (cc := cX24_init) (maxL := 2) (ret := none) (own := RX24) (by decide) rfl rfl [.ref q, .int n] (PRx D aC A Hs) (Nat.le_of_ble_eq_true rfl) ?_
  intro p e s m below meth c ls hx hb hr hml hts hown hlocks htb hPre hl
  obtain ⟨hH, hK, hZ⟩ := hPre
  have hf : CallFix p m c cX24_init 2 s _ lw_all RX24 := ⟨hx, hb, hml, hown, hts⟩
  have hl : lv_has ls 2 [(0, .ref q), (1, .int n)] := hl
  refine lv_aload_n hx hb dX24_init_0 rfl (lv_at hl 0 rfl) ?_
  refine g_super hf hK (metX22_init l D aC q) q1352 q1340 q128 q1341 rfl (by decide +kernel) hl.1 (Nat.le_of_ble_eq_true rfl) ⟨Nat.le_of_ble_eq_true rfl, Nat.le_of_ble_eq_true rfl⟩ ⟨Nat.le_of_ble_eq_true rfl, Nat.le_of_ble_eq_true rfl⟩ dX24_init_1 ?_
  refine lv_aload_n hx hb dX24_init_4 rfl (lv_at hl 0 rfl) ?_
  refine lv_iload_n hx hb dX24_init_5 rfl (lv_at hl 1 rfl) ?_
  refine vx_newarrayZ hx hb hn dX24_init_6 (fun tx htx => ?_)
  subst htx
  refine g_vmG hx hst hts hK hZ va_S.rf (hl.1.trans hml.symm) (negText n) (Nat.le_of_ble_eq_true rfl) (Nat.le_of_ble_eq_true rfl) ⟨Nat.le_of_ble_eq_true rfl, Nat.le_of_ble_eq_true rfl⟩ hlocks (fun H1 q9 ce hz1 hq1 hS hce hv hcl => ?_)
  exact vx_out (fun x hx => (htb x hx).elim) hlocks hce hv hcl (fun t htp _ => ⟨rfl, by rw [htp, ← hH]; exact hq1, hS.F htp⟩) hS.2.2 (Nat.le_of_ble_eq_true rfl) (Nat.le_of_ble_eq_true rfl)
theorem metX25_initR (l : Launch) (D : va_G) (aC : Nat → ClassId) (Hs : Heap) (q : Nat) (V : Nat → Value) (n : Int32) (hn : okI n 61) : Met l yX25_init (ws_ yX25_init cX25_init 2 none) ({ frames := 3, cells := 1, slots := 60, locals := 120 }) (va_Pc [.ref q, .int n] (PRo D aC 22 q Hs V)) (QRo D aC 22 2 q Hs n) 1 60 (fun x => x = q) := by
  refine g_ofW (cc := cX25_init) (maxL := 2) (ret := none) (own := RX25) (by decide) rfl rfl [.ref q, .int n] (PRo D aC 22 q Hs V) (Nat.le_of_ble_eq_true rfl) ?_
  intro p e s m below meth c ls hx hb hr hml hts hown hlocks hnm hPre hl
  obtain ⟨hH, hB, hK⟩ := hPre
  have hf : CallFix p m c cX25_init 2 s _ lw_all RX25 := ⟨hx, hb, hml, hown, hts⟩
  have hl : lv_has ls 2 [(0, .ref q), (1, .int n)] := hl
  have hn0 : ¬ n < 0 := nn0 hn.1
  have h60 : n.toNatClampNeg ≤ 60 := by
    have h1 : n.toNatClampNeg = n.toInt.toNat := rfl
    have := hn.1; have := hn.2
    omega
  refine lv_aload_n hx hb dX25_init_0 rfl (lv_at hl 0 rfl) ?_
  refine g_super hf hK (metX22_init l D aC q) q1363 q1340 q128 q1341 rfl (by decide +kernel) hl.1 (Nat.le_of_ble_eq_true rfl) ⟨Nat.le_of_ble_eq_true rfl, Nat.le_of_ble_eq_true rfl⟩ ⟨Nat.le_of_ble_eq_true rfl, Nat.le_of_ble_eq_true rfl⟩ dX25_init_1 ?_
  refine lv_aload_n hx hb dX25_init_4 rfl (lv_at hl 0 rfl) ?_
  refine lv_iload_n hx hb dX25_init_5 rfl (lv_at hl 1 rfl) ?_
  refine va_newaK (N := n.toNatClampNeg) (atype := .int) hx hb (hts _ q159) rfl dX25_init_6 rfl hn0 rfl (Nat.le_trans (Nat.mul_le_mul_right _ h60) (by decide)) (Nat.le_of_ble_eq_true rfl) (by show 0 + n.toNatClampNeg ≤ 60; omega) rfl fun H1 cA e1 z1 o1 hAr hNm => ?_
  have hlt : q < s.heap.size := hB.choose_spec.1 |> fun h => (Array.getElem?_eq_some_iff.mp h).1
  have hcA : cA = aC 1 := Option.some.inj (hNm.symm.trans (hK.1.2 0 _ rfl).2)
  subst hcA
  have hB1 : t_OB q (D.1 22) 1 (D.2 22) H1 V := hB.kept (o1 q hlt)
  have hap := X_apart (own := RX25) tyX25 tyX25_ok (fun a ha b hb h => absurd (by omega : a = b) h) hts in_X25 hK (ci := 22) rfl
  have hS : va_S (fun x => x = q) s.heap H1 [] := ⟨by omega, fun x h1 h2 => o1 x h1, fun x hx => nomatch hx⟩
  refine W.eq (g2 := F0 m 8 ls (.ref s.heap.size :: .ref q :: [])) rfl ?_
  refine g_putO (ci := 22) (ty := .array .int) (v := .ref s.heap.size) tyX25 tyX25_ok (fun a h b h2 h3 => Or.inr (hap a b h h2 h3)) hap hx hb hts in_X25 hown hK rfl hB1 hS rfl 0 (by decide) (hts _ q1364) (fun _ h9 => h9) (Or.inr ⟨hnm, rfl⟩) rfl rfl rfl dX25_init_8 (fun H2 locs hz2 hB2 hq2 hS => ?_)
  refine W.widen (k := 1) (n := 60) (Nat.le_of_ble_eq_true rfl) (by omega) ?_
  refine g_retGv hx hb hr hlocks ?_ hS dX25_init_11
  subst hH
  refine ⟨by omega, hB2.to (fun f hf => ?_), ?_, fun x hx hxq => by rw [hq2 x hxq, o1 x hx]⟩
  · have : f = 0 := by omega
    subst this
    rfl
  · rw [hq2 _ (by omega), e1]
    rfl
theorem metX25_initX (l : Launch) (hst : l.stackTraces = false) (D : va_G) (aC : Nat → ClassId) (A : Nat → Prop) (Hs : Heap) (q : Nat) (n : Int32) (hn : n < 0) : vx_Met l yX25_init (ws_ yX25_init cX25_init 2 none) ({ frames := 8, cells := 3, slots := 410, locals := 10300 }) (va_Pc [.ref q, .int n] (PRx D aC A Hs)) (fun _ _ _ _ => False) (XE "java/lang/NegativeArraySizeException" (Same Hs) A) 3 410 A := by
  refine g_ofX (cc := cX25_init) (maxL := 2) (ret := none) (own := RX25) (by decide) rfl rfl [.ref q, .int n] (PRx D aC A Hs) (Nat.le_of_ble_eq_true rfl) ?_
  intro p e s m below meth c ls hx hb hr hml hts hown hlocks htb hPre hl
  obtain ⟨hH, hK, hZ⟩ := hPre
  have hf : CallFix p m c cX25_init 2 s _ lw_all RX25 := ⟨hx, hb, hml, hown, hts⟩
  have hl : lv_has ls 2 [(0, .ref q), (1, .int n)] := hl
  refine lv_aload_n hx hb dX25_init_0 rfl (lv_at hl 0 rfl) ?_
  refine g_super hf hK (metX22_init l D aC q) q1363 q1340 q128 q1341 rfl (by decide +kernel) hl.1 (Nat.le_of_ble_eq_true rfl) ⟨Nat.le_of_ble_eq_true rfl, Nat.le_of_ble_eq_true rfl⟩ ⟨Nat.le_of_ble_eq_true rfl, Nat.le_of_ble_eq_true rfl⟩ dX25_init_1 ?_
  refine lv_aload_n hx hb dX25_init_4 rfl (lv_at hl 0 rfl) ?_
  refine lv_iload_n hx hb dX25_init_5 rfl (lv_at hl 1 rfl) ?_
  refine vx_newarrayZ hx hb hn dX25_init_6 (fun tx htx => ?_)
  subst htx
  refine g_vmG hx hst hts hK hZ va_S.rf (hl.1.trans hml.symm) (negText n) (Nat.le_of_ble_eq_true rfl) (Nat.le_of_ble_eq_true rfl) ⟨Nat.le_of_ble_eq_true rfl, Nat.le_of_ble_eq_true rfl⟩ hlocks (fun H1 q9 ce hz1 hq1 hS hce hv hcl => ?_)
  exact vx_out (fun x hx => (htb x hx).elim) hlocks hce hv hcl (fun t htp _ => ⟨rfl, by rw [htp, ← hH]; exact hq1, hS.F htp⟩) hS.2.2 (Nat.le_of_ble_eq_true rfl) (Nat.le_of_ble_eq_true rfl)
theorem metX26_initR (l : Launch) (D : va_G) (aC : Nat → ClassId) (Hs : Heap) (q : Nat) (V : Nat → Value) (n : Int32) (hn : okI n 61) : Met l yX26_init (ws_ yX26_init cX26_init 2 none) ({ frames := 3, cells := 1, slots := 60, locals := 120 }) (va_Pc [.ref q, .int n] (PRo D aC 23 q Hs V)) (QRo D aC 23 3 q Hs n) 1 60 (fun x => x = q) := by
  refine g_ofW (cc := cX26_init) (maxL := 2) (ret := none) (own := RX26) (by decide) rfl rfl [.ref q, .int n] (PRo D aC 23 q Hs V) (Nat.le_of_ble_eq_true rfl) ?_
  intro p e s m below meth c ls hx hb hr hml hts hown hlocks hnm hPre hl
  obtain ⟨hH, hB, hK⟩ := hPre
  have hf : CallFix p m c cX26_init 2 s _ lw_all RX26 := ⟨hx, hb, hml, hown, hts⟩
  have hl : lv_has ls 2 [(0, .ref q), (1, .int n)] := hl
  have hn0 : ¬ n < 0 := nn0 hn.1
  have h60 : n.toNatClampNeg ≤ 60 := by
    have h1 : n.toNatClampNeg = n.toInt.toNat := rfl
    have := hn.1; have := hn.2
    omega
  refine lv_aload_n hx hb dX26_init_0 rfl (lv_at hl 0 rfl) ?_
  refine g_super hf hK (metX22_init l D aC q) q1373 q1340 q128 q1341 rfl (by decide +kernel) hl.1 (Nat.le_of_ble_eq_true rfl) ⟨Nat.le_of_ble_eq_true rfl, Nat.le_of_ble_eq_true rfl⟩ ⟨Nat.le_of_ble_eq_true rfl, Nat.le_of_ble_eq_true rfl⟩ dX26_init_1 ?_
  refine lv_aload_n hx hb dX26_init_4 rfl (lv_at hl 0 rfl) ?_
  refine lv_iload_n hx hb dX26_init_5 rfl (lv_at hl 1 rfl) ?_
  refine va_newaK (N := n.toNatClampNeg) (atype := .long) hx hb (hts _ q1378) rfl dX26_init_6 rfl hn0 rfl (Nat.le_trans (Nat.mul_le_mul_right _ h60) (by decide)) (Nat.le_of_ble_eq_true rfl) (by show 0 + n.toNatClampNeg ≤ 60; omega) rfl fun H1 cA e1 z1 o1 hAr hNm => ?_
  have hlt : q < s.heap.size := hB.choose_spec.1 |> fun h => (Array.getElem?_eq_some_iff.mp h).1
  have hcA : cA = aC 3 := Option.some.inj (hNm.symm.trans (hK.1.2 2 _ rfl).2)
  subst hcA
  have hB1 : t_OB q (D.1 23) 1 (D.2 23) H1 V := hB.kept (o1 q hlt)
  have hap := X_apart (own := RX26) tyX26 tyX26_ok (fun a ha b hb h => absurd (by omega : a = b) h) hts in_X26 hK (ci := 23) rfl
  have hS : va_S (fun x => x = q) s.heap H1 [] := ⟨by omega, fun x h1 h2 => o1 x h1, fun x hx => nomatch hx⟩
  refine W.eq (g2 := F0 m 8 ls (.ref s.heap.size :: .ref q :: [])) rfl ?_
  refine g_putO (ci := 23) (ty := .array .long) (v := .ref s.heap.size) tyX26 tyX26_ok (fun a h b h2 h3 => Or.inr (hap a b h h2 h3)) hap hx hb hts in_X26 hown hK rfl hB1 hS rfl 0 (by decide) (hts _ q1374) (fun _ h9 => h9) (Or.inr ⟨hnm, rfl⟩) rfl rfl rfl dX26_init_8 (fun H2 locs hz2 hB2 hq2 hS => ?_)
  refine W.widen (k := 1) (n := 60) (Nat.le_of_ble_eq_true rfl) (by omega) ?_
  refine g_retGv hx hb hr hlocks ?_ hS dX26_init_11
  subst hH
  refine ⟨by omega, hB2.to (fun f hf => ?_), ?_, fun x hx hxq => by rw [hq2 x hxq, o1 x hx]⟩
  · have : f = 0 := by omega
    subst this
    rfl
  · rw [hq2 _ (by omega), e1]
    rfl
theorem metX26_initX (l : Launch) (hst : l.stackTraces = false) (D : va_G) (aC : Nat → ClassId) (A : Nat → Prop) (Hs : Heap) (q : Nat) (n : Int32) (hn : n < 0) : vx_Met l yX26_init (ws_ yX26_init cX26_init 2 none) ({ frames := 8, cells := 3, slots := 410, locals := 10300 }) (va_Pc [.ref q, .int n] (PRx D aC A Hs)) (fun _ _ _ _ => False) (XE "java/lang/NegativeArraySizeException" (Same Hs) A) 3 410 A := by
  refine g_ofX (cc := cX26_init) (maxL := 2) (ret := none) (own := RX26) (by decide) rfl rfl [.ref q, .int n] (PRx D aC A Hs) (Nat.le_of_ble_eq_true rfl) ?_
  intro p e s m below meth c ls hx hb hr hml hts hown hlocks htb hPre hl
  obtain ⟨hH, hK, hZ⟩ := hPre
  have hf : CallFix p m c cX26_init 2 s _ lw_all RX26 := ⟨hx, hb, hml, hown, hts⟩
  have hl : lv_has ls 2 [(0, .ref q), (1, .int n)] := hl
  refine lv_aload_n hx hb dX26_init_0 rfl (lv_at hl 0 rfl) ?_
  refine g_super hf hK (metX22_init l D aC q) q1373 q1340 q128 q1341 rfl (by decide +kernel) hl.1 (Nat.le_of_ble_eq_true rfl) ⟨Nat.le_of_ble_eq_true rfl, Nat.le_of_ble_eq_true rfl⟩ ⟨Nat.le_of_ble_eq_true rfl, Nat.le_of_ble_eq_true rfl⟩ dX26_init_1 ?_
  refine lv_aload_n hx hb dX26_init_4 rfl (lv_at hl 0 rfl) ?_
  refine lv_iload_n hx hb dX26_init_5 rfl (lv_at hl 1 rfl) ?_
  refine vx_newarrayZ hx hb hn dX26_init_6 (fun tx htx => ?_)
  subst htx
  refine g_vmG hx hst hts hK hZ va_S.rf (hl.1.trans hml.symm) (negText n) (Nat.le_of_ble_eq_true rfl) (Nat.le_of_ble_eq_true rfl) ⟨Nat.le_of_ble_eq_true rfl, Nat.le_of_ble_eq_true rfl⟩ hlocks (fun H1 q9 ce hz1 hq1 hS hce hv hcl => ?_)
  exact vx_out (fun x hx => (htb x hx).elim) hlocks hce hv hcl (fun t htp _ => ⟨rfl, by rw [htp, ← hH]; exact hq1, hS.F htp⟩) hS.2.2 (Nat.le_of_ble_eq_true rfl) (Nat.le_of_ble_eq_true rfl)
theorem metX27_initR (l : Launch) (D : va_G) (aC : Nat → ClassId) (Hs : Heap) (q : Nat) (V : Nat → Value) (n : Int32) (hn : okI n 61) : Met l yX27_init (ws_ yX27_init cX27_init 2 none) ({ frames := 3, cells := 1, slots := 60, locals := 120 }) (va_Pc [.ref q, .int n] (PRo D aC 24 q Hs V)) (QRo D aC 24 4 q Hs n) 1 60 (fun x => x = q) := by
  refine g_ofW (cc := cX27_init) (maxL := 2) (ret := none) (own := RX27) (by decide) rfl rfl [.ref q, .int n] (PRo D aC 24 q Hs V) (Nat.le_of_ble_eq_true rfl) ?_
  intro p e s m below meth c ls hx hb hr hml hts hown hlocks hnm hPre hl
  obtain ⟨hH, hB, hK⟩ := hPre
  have hf : CallFix p m c cX27_init 2 s _ lw_all RX27 := ⟨hx, hb, hml, hown, hts⟩
  have hl : lv_has ls 2 [(0, .ref q), (1, .int n)] := hl
  have hn0 : ¬ n < 0 := nn0 hn.1
  have h60 : n.toNatClampNeg ≤ 60 := by
    have h1 : n.toNatClampNeg = n.toInt.toNat := rfl
    have := hn.1; have := hn.2
    omega
  refine lv_aload_n hx hb dX27_init_0 rfl (lv_at hl 0 rfl) ?_
  refine g_super hf hK (metX22_init l D aC q) q1384 q1340 q128 q1341 rfl (by decide +kernel) hl.1 (Nat.le_of_ble_eq_true rfl) ⟨Nat.le_of_ble_eq_true rfl, Nat.le_of_ble_eq_true rfl⟩ ⟨Nat.le_of_ble_eq_true rfl, Nat.le_of_ble_eq_true rfl⟩ dX27_init_1 ?_
  refine lv_aload_n hx hb dX27_init_4 rfl (lv_at hl 0 rfl) ?_
  refine lv_iload_n hx hb dX27_init_5 rfl (lv_at hl 1 rfl) ?_
  refine va_newaK (N := n.toNatClampNeg) (atype := .boolean) hx hb (hts _ q1389) rfl dX27_init_6 rfl hn0 rfl (Nat.le_trans (Nat.mul_le_mul_right _ h60) (by decide)) (Nat.le_of_ble_eq_true rfl) (by show 0 + n.toNatClampNeg ≤ 60; omega) rfl fun H1 cA e1 z1 o1 hAr hNm => ?_
  have hlt : q < s.heap.size := hB.choose_spec.1 |> fun h => (Array.getElem?_eq_some_iff.mp h).1
  have hcA : cA = aC 5 := Option.some.inj (hNm.symm.trans (hK.1.2 4 _ rfl).2)
  subst hcA
  have hB1 : t_OB q (D.1 24) 1 (D.2 24) H1 V := hB.kept (o1 q hlt)
  have hap := X_apart (own := RX27) tyX27 tyX27_ok (fun a ha b hb h => absurd (by omega : a = b) h) hts in_X27 hK (ci := 24) rfl
  have hS : va_S (fun x => x = q) s.heap H1 [] := ⟨by omega, fun x h1 h2 => o1 x h1, fun x hx => nomatch hx⟩
  refine W.eq (g2 := F0 m 8 ls (.ref s.heap.size :: .ref q :: [])) rfl ?_
  refine g_putO (ci := 24) (ty := .array .boolean) (v := .ref s.heap.size) tyX27 tyX27_ok (fun a h b h2 h3 => Or.inr (hap a b h h2 h3)) hap hx hb hts in_X27 hown hK rfl hB1 hS rfl 0 (by decide) (hts _ q1385) (fun _ h9 => h9) (Or.inr ⟨hnm, rfl⟩) rfl rfl rfl dX27_init_8 (fun H2 locs hz2 hB2 hq2 hS => ?_)
  refine W.widen (k := 1) (n := 60) (Nat.le_of_ble_eq_true rfl) (by omega) ?_
  refine g_retGv hx hb hr hlocks ?_ hS dX27_init_11
  subst hH
  refine ⟨by omega, hB2.to (fun f hf => ?_), ?_, fun x hx hxq => by rw [hq2 x hxq, o1 x hx]⟩
  · have : f = 0 := by omega
    subst this
    rfl
  · rw [hq2 _ (by omega), e1]
    rfl
theorem metX27_initX (l : Launch) (hst : l.stackTraces = false) (D : va_G) (aC : Nat → ClassId) (A : Nat → Prop) (Hs : Heap) (q : Nat) (n : Int32) (hn : n < 0) : vx_Met l yX27_init (ws_ yX27_init cX27_init 2 none) ({ frames := 8, cells := 3, slots := 410, locals := 10300 }) (va_Pc [.ref q, .int n] (PRx D aC A Hs)) (fun _ _ _ _ => False) (XE "java/lang/NegativeArraySizeException" (Same Hs) A) 3 410 A := by
  refine g_ofX (cc := cX27_init) (maxL := 2) (ret := none) (own := RX27) (by decide) rfl rfl [.ref q, .int n] (PRx D aC A Hs) (Nat.le_of_ble_eq_true rfl) ?_
  intro p e s m below meth c ls hx hb hr hml hts hown hlocks htb hPre hl
  obtain ⟨hH, hK, hZ⟩ := hPre
  have hf : CallFix p m c cX27_init 2 s _ lw_all RX27 := ⟨hx, hb, hml, hown, hts⟩
  have hl : lv_has ls 2 [(0, .ref q), (1, .int n)] := hl
  refine lv_aload_n hx hb dX27_init_0 rfl (lv_at hl 0 rfl) ?_
  refine g_super hf hK (metX22_init l D aC q) q1384 q1340 q128 q1341 rfl (by decide +kernel) hl.1 (Nat.le_of_ble_eq_true rfl) ⟨Nat.le_of_ble_eq_true rfl, Nat.le_of_ble_eq_true rfl⟩ ⟨Nat.le_of_ble_eq_true rfl, Nat.le_of_ble_eq_true rfl⟩ dX27_init_1 ?_
  refine lv_aload_n hx hb dX27_init_4 rfl (lv_at hl 0 rfl) ?_
  refine lv_iload_n hx hb dX27_init_5 rfl (lv_at hl 1 rfl) ?_
  refine vx_newarrayZ hx hb hn dX27_init_6 (fun tx htx => ?_)
  subst htx
  refine g_vmG hx hst hts hK hZ va_S.rf (hl.1.trans hml.symm) (negText n) (Nat.le_of_ble_eq_true rfl) (Nat.le_of_ble_eq_true rfl) ⟨Nat.le_of_ble_eq_true rfl, Nat.le_of_ble_eq_true rfl⟩ hlocks (fun H1 q9 ce hz1 hq1 hS hce hv hcl => ?_)
  exact vx_out (fun x hx => (htb x hx).elim) hlocks hce hv hcl (fun t htp _ => ⟨rfl, by rw [htp, ← hH]; exact hq1, hS.F htp⟩) hS.2.2 (Nat.le_of_ble_eq_true rfl) (Nat.le_of_ble_eq_true rfl)
theorem metX0_newRowR (l : Launch) (D : va_G) (aC : Nat → ClassId) (A : Nat → Prop) (Hs : Heap) (h : Nat) (h4 : h ≤ 4) (n : Int32) (hn : okI n 61) : Met l yX0_newRow (ws_ yX0_newRow cX0_newRow 2 (some (.object "ShieldLine$Row"))) ({ frames := 4, cells := 2, slots := 61, locals := 200 }) (va_Pc [.int (nI h), .int n] (PRx D aC A Hs)) (QNr D aC h Hs n) 2 61 (fun x => x = Hs.size) := by
  refine g_ofW (cc := cX0_newRow) (maxL := 2) (ret := (some (.object "ShieldLine$Row"))) (own := RX0) (by decide) rfl rfl [.int (nI h), .int n] (PRx D aC A Hs) (Nat.le_of_ble_eq_true rfl) ?_
  intro p e s m below meth c ls hx hb hr hml hts hown hlocks hnm hPre hl
  obtain ⟨hH, hK, hZ⟩ := hPre
  have hf : CallFix p m c cX0_newRow 2 s _ lw_all RX0 := ⟨hx, hb, hml, hown, hts⟩
  have hl : lv_has ls 2 [(0, .int (nI h)), (1, .int n)] := hl
  subst hH
  refine lv_iload_n hx hb dX0_newRow_0 rfl (lv_at hl 0 rfl) ?_
  have h5 : h = 0 ∨ h = 1 ∨ h = 2 ∨ h = 3 ∨ h = 4 := by omega
  rcases h5 with rfl | rfl | rfl | rfl | rfl
  · refine lv_tableIn (tgt := 32) (off := 31) hx hb dX0_newRow_1 (by decide) (by decide) (by decide) (by decide) ?_
    have hS0 : va_S (fun x => x = s.heap.size) s.heap s.heap [] := va_S.rf
    refine g_new (ci := 20) tyX23 tyX23_ok hx hb hts in_X23 hown hK rfl (hts _ q477) (hts _ q1335) (hts _ q129) hS0 (Nat.le_of_ble_eq_true rfl) (Nat.le_of_ble_eq_true rfl) dX0_newRow_32 (fun H1 hz1 hq1 hB1 hS => ?_)
    refine lv_dup hx hb dX0_newRow_35 rfl ?_
    refine lv_iload_n hx hb dX0_newRow_36 rfl (lv_at hl 1 rfl) ?_
    refine g_runF (mc := 1) (ms := 60) (va_runI (As := [.int n]) (rest := [.ref s.heap.size]) hf (metX23_initR l D aC H1 s.heap.size (fun k => defaultValue (tyX23 k)) n hn) (cwI 1 hf.2.2.2.2 (lw_meth q1338) rfl rfl rfl (hf.2.2.2.2 _ q129) (hf.2.2.2.2 _ q1336) (hf.2.2.2.2 _ q1337) rfl (by decide +kernel) ⟨Nat.le_of_ble_eq_true rfl, Nat.le_of_ble_eq_true rfl⟩) ⟨PRo.blind, fun U hU hW => ⟨rfl, hU, by rw [hU]; exact hB1, hK.moved hW⟩⟩ rfl rfl hl.1 rfl (lv_room (Nat.le_of_ble_eq_true rfl)) dX0_newRow_37 ⟨Nat.le_of_ble_eq_true rfl, Nat.le_of_ble_eq_true rfl⟩) hS (fun x hx => hx) (fun H2 locs hP hz2 hq2 hS => ?_)
    obtain ⟨p1, p2, p3, p4⟩ := hP
    refine g_retGr (P := fun H => H.size = s.heap.size + 2 ∧ t_OB s.heap.size (D.1 (20 + 0)) 1 (D.2 (20 + 0)) H (fun _ => .ref (s.heap.size + 1)) ∧ H[s.heap.size + 1]? = some (shC aC 0 n.toNatClampNeg (fun _ => 0)) ∧ Same s.heap H) hx hb hr (Or.inl ⟨_, rfl⟩) hlocks ⟨by omega, by rw [hz1] at p2; exact p2, by rw [hz1] at p3; exact p3, fun x hx => by rw [p4 x (by omega) (by omega), hq1 x hx]⟩ hS dX0_newRow_40
  · refine lv_tableIn (tgt := 41) (off := 40) hx hb dX0_newRow_1 (by decide) (by decide) (by decide) (by decide) ?_
    have hS0 : va_S (fun x => x = s.heap.size) s.heap s.heap [] := va_S.rf
    refine g_new (ci := 21) tyX24 tyX24_ok hx hb hts in_X24 hown hK rfl (hts _ q1347) (hts _ q1348) (hts _ q130) hS0 (Nat.le_of_ble_eq_true rfl) (Nat.le_of_ble_eq_true rfl) dX0_newRow_41 (fun H1 hz1 hq1 hB1 hS => ?_)
    refine lv_dup hx hb dX0_newRow_44 rfl ?_
    refine lv_iload_n hx hb dX0_newRow_45 rfl (lv_at hl 1 rfl) ?_
    refine g_runF (mc := 1) (ms := 60) (va_runI (As := [.int n]) (rest := [.ref s.heap.size]) hf (metX24_initR l D aC H1 s.heap.size (fun k => defaultValue (tyX24 k)) n hn) (cwI 1 hf.2.2.2.2 (lw_meth q1351) rfl rfl rfl (hf.2.2.2.2 _ q130) (hf.2.2.2.2 _ q1349) (hf.2.2.2.2 _ q1350) rfl (by decide +kernel) ⟨Nat.le_of_ble_eq_true rfl, Nat.le_of_ble_eq_true rfl⟩) ⟨PRo.blind, fun U hU hW => ⟨rfl, hU, by rw [hU]; exact hB1, hK.moved hW⟩⟩ rfl rfl hl.1 rfl (lv_room (Nat.le_of_ble_eq_true rfl)) dX0_newRow_46 ⟨Nat.le_of_ble_eq_true rfl, Nat.le_of_ble_eq_true rfl⟩) hS (fun x hx => hx) (fun H2 locs hP hz2 hq2 hS => ?_)
    obtain ⟨p1, p2, p3, p4⟩ := hP
    refine g_retGr (P := fun H => H.size = s.heap.size + 2 ∧ t_OB s.heap.size (D.1 (20 + 1)) 1 (D.2 (20 + 1)) H (fun _ => .ref (s.heap.size + 1)) ∧ H[s.heap.size + 1]? = some (shC aC 1 n.toNatClampNeg (fun _ => 0)) ∧ Same s.heap H) hx hb hr (Or.inl ⟨_, rfl⟩) hlocks ⟨by omega, by rw [hz1] at p2; exact p2, by rw [hz1] at p3; exact p3, fun x hx => by rw [p4 x (by omega) (by omega), hq1 x hx]⟩ hS dX0_newRow_49
  · refine lv_tableIn (tgt := 50) (off := 49) hx hb dX0_newRow_1 (by decide) (by decide) (by decide) (by decide) ?_
    have hS0 : va_S (fun x => x = s.heap.size) s.heap s.heap [] := va_S.rf
    refine g_new (ci := 22) tyX25 tyX25_ok hx hb hts in_X25 hown hK rfl (hts _ q1358) (hts _ q1359) (hts _ q131) hS0 (Nat.le_of_ble_eq_true rfl) (Nat.le_of_ble_eq_true rfl) dX0_newRow_50 (fun H1 hz1 hq1 hB1 hS => ?_)
    refine lv_dup hx hb dX0_newRow_53 rfl ?_
    refine lv_iload_n hx hb dX0_newRow_54 rfl (lv_at hl 1 rfl) ?_
    refine g_runF (mc := 1) (ms := 60) (va_runI (As := [.int n]) (rest := [.ref s.heap.size]) hf (metX25_initR l D aC H1 s.heap.size (fun k => defaultValue (tyX25 k)) n hn) (cwI 1 hf.2.2.2.2 (lw_meth q1362) rfl rfl rfl (hf.2.2.2.2 _ q131) (hf.2.2.2.2 _ q1360) (hf.2.2.2.2 _ q1361) rfl (by decide +kernel) ⟨Nat.le_of_ble_eq_true rfl, Nat.le_of_ble_eq_true rfl⟩) ⟨PRo.blind, fun U hU hW => ⟨rfl, hU, by rw [hU]; exact hB1, hK.moved hW⟩⟩ rfl rfl hl.1 rfl (lv_room (Nat.le_of_ble_eq_true rfl)) dX0_newRow_55 ⟨Nat.le_of_ble_eq_true rfl, Nat.le_of_ble_eq_true rfl⟩) hS (fun x hx => hx) (fun H2 locs hP hz2 hq2 hS => ?_)
    obtain ⟨p1, p2, p3, p4⟩ := hP
    refine g_retGr (P := fun H => H.size = s.heap.size + 2 ∧ t_OB s.heap.size (D.1 (20 + 2)) 1 (D.2 (20 + 2)) H (fun _ => .ref (s.heap.size + 1)) ∧ H[s.heap.size + 1]? = some (shC aC 2 n.toNatClampNeg (fun _ => 0)) ∧ Same s.heap H) hx hb hr (Or.inl ⟨_, rfl⟩) hlocks ⟨by omega, by rw [hz1] at p2; exact p2, by rw [hz1] at p3; exact p3, fun x hx => by rw [p4 x (by omega) (by omega), hq1 x hx]⟩ hS dX0_newRow_58
  · refine lv_tableIn (tgt := 59) (off := 58) hx hb dX0_newRow_1 (by decide) (by decide) (by decide) (by decide) ?_
    have hS0 : va_S (fun x => x = s.heap.size) s.heap s.heap [] := va_S.rf
    refine g_new (ci := 23) tyX26 tyX26_ok hx hb hts in_X26 hown hK rfl (hts _ q1368) (hts _ q1369) (hts _ q132) hS0 (Nat.le_of_ble_eq_true rfl) (Nat.le_of_ble_eq_true rfl) dX0_newRow_59 (fun H1 hz1 hq1 hB1 hS => ?_)
    refine lv_dup hx hb dX0_newRow_62 rfl ?_
    refine lv_iload_n hx hb dX0_newRow_63 rfl (lv_at hl 1 rfl) ?_
    refine g_runF (mc := 1) (ms := 60) (va_runI (As := [.int n]) (rest := [.ref s.heap.size]) hf (metX26_initR l D aC H1 s.heap.size (fun k => defaultValue (tyX26 k)) n hn) (cwI 1 hf.2.2.2.2 (lw_meth q1372) rfl rfl rfl (hf.2.2.2.2 _ q132) (hf.2.2.2.2 _ q1370) (hf.2.2.2.2 _ q1371) rfl (by decide +kernel) ⟨Nat.le_of_ble_eq_true rfl, Nat.le_of_ble_eq_true rfl⟩) ⟨PRo.blind, fun U hU hW => ⟨rfl, hU, by rw [hU]; exact hB1, hK.moved hW⟩⟩ rfl rfl hl.1 rfl (lv_room (Nat.le_of_ble_eq_true rfl)) dX0_newRow_64 ⟨Nat.le_of_ble_eq_true rfl, Nat.le_of_ble_eq_true rfl⟩) hS (fun x hx => hx) (fun H2 locs hP hz2 hq2 hS => ?_)
    obtain ⟨p1, p2, p3, p4⟩ := hP
    refine g_retGr (P := fun H => H.size = s.heap.size + 2 ∧ t_OB s.heap.size (D.1 (20 + 3)) 1 (D.2 (20 + 3)) H (fun _ => .ref (s.heap.size + 1)) ∧ H[s.heap.size + 1]? = some (shC aC 3 n.toNatClampNeg (fun _ => 0)) ∧ Same s.heap H) hx hb hr (Or.inl ⟨_, rfl⟩) hlocks ⟨by omega, by rw [hz1] at p2; exact p2, by rw [hz1] at p3; exact p3, fun x hx => by rw [p4 x (by omega) (by omega), hq1 x hx]⟩ hS dX0_newRow_67
  · refine lv_tableOut (tgt := 68) hx hb dX0_newRow_1 (Or.inr (by decide)) (by decide) ?_
    have hS0 : va_S (fun x => x = s.heap.size) s.heap s.heap [] := va_S.rf
    refine g_new (ci := 24) tyX27 tyX27_ok hx hb hts in_X27 hown hK rfl (hts _ q1379) (hts _ q1380) (hts _ q133) hS0 (Nat.le_of_ble_eq_true rfl) (Nat.le_of_ble_eq_true rfl) dX0_newRow_68 (fun H1 hz1 hq1 hB1 hS => ?_)
    refine lv_dup hx hb dX0_newRow_71 rfl ?_
    refine lv_iload_n hx hb dX0_newRow_72 rfl (lv_at hl 1 rfl) ?_
    refine g_runF (mc := 1) (ms := 60) (va_runI (As := [.int n]) (rest := [.ref s.heap.size]) hf (metX27_initR l D aC H1 s.heap.size (fun k => defaultValue (tyX27 k)) n hn) (cwI 1 hf.2.2.2.2 (lw_meth q1383) rfl rfl rfl (hf.2.2.2.2 _ q133) (hf.2.2.2.2 _ q1381) (hf.2.2.2.2 _ q1382) rfl (by decide +kernel) ⟨Nat.le_of_ble_eq_true rfl, Nat.le_of_ble_eq_true rfl⟩) ⟨PRo.blind, fun U hU hW => ⟨rfl, hU, by rw [hU]; exact hB1, hK.moved hW⟩⟩ rfl rfl hl.1 rfl (lv_room (Nat.le_of_ble_eq_true rfl)) dX0_newRow_73 ⟨Nat.le_of_ble_eq_true rfl, Nat.le_of_ble_eq_true rfl⟩) hS (fun x hx => hx) (fun H2 locs hP hz2 hq2 hS => ?_)
    obtain ⟨p1, p2, p3, p4⟩ := hP
    refine g_retGr (P := fun H => H.size = s.heap.size + 2 ∧ t_OB s.heap.size (D.1 (20 + 4)) 1 (D.2 (20 + 4)) H (fun _ => .ref (s.heap.size + 1)) ∧ H[s.heap.size + 1]? = some (shC aC 4 n.toNatClampNeg (fun _ => 0)) ∧ Same s.heap H) hx hb hr (Or.inl ⟨_, rfl⟩) hlocks ⟨by omega, by rw [hz1] at p2; exact p2, by rw [hz1] at p3; exact p3, fun x hx => by rw [p4 x (by omega) (by omega), hq1 x hx]⟩ hS dX0_newRow_76
theorem metX0_newRowX (l : Launch) (hst : l.stackTraces = false) (D : va_G) (aC : Nat → ClassId) (A : Nat → Prop) (Hs : Heap) (hA : ∀ q : Nat, Hs.size ≤ q → A q) (h : Nat) (h4 : h ≤ 4) (n : Int32) (hn : n < 0) : vx_Met l yX0_newRow (ws_ yX0_newRow cX0_newRow 2 (some (.object "ShieldLine$Row"))) ({ frames := 10, cells := 4, slots := 411, locals := 10400 }) (va_Pc [.int (nI h), .int n] (PRx D aC A Hs)) (fun _ _ _ _ => False) (XE "java/lang/NegativeArraySizeException" (Same Hs) A) 4 411 A := by
  refine g_ofX (cc := cX0_newRow) (maxL := 2) (ret := (some (.object "ShieldLine$Row"))) (own := RX0) (by decide) rfl rfl [.int (nI h), .int n] (PRx D aC A Hs) (Nat.le_of_ble_eq_true rfl) ?_
  intro p e s m below meth c ls hx hb hr hml hts hown hlocks htb hPre hl
  obtain ⟨hH, hK, hZ⟩ := hPre
  have hf : CallFix p m c cX0_newRow 2 s _ lw_all RX0 := ⟨hx, hb, hml, hown, hts⟩
  have hl : lv_has ls 2 [(0, .int (nI h)), (1, .int n)] := hl
  subst hH
  refine lv_iload_n hx hb dX0_newRow_0 rfl (lv_at hl 0 rfl) ?_
  have h5 : h = 0 ∨ h = 1 ∨ h = 2 ∨ h = 3 ∨ h = 4 := by omega
  rcases h5 with rfl | rfl | rfl | rfl | rfl
  · refine lv_tableIn (tgt := 32) (off := 31) hx hb dX0_newRow_1 (by decide) (by decide) (by decide) (by decide) ?_
    have hS0 : va_S A s.heap s.heap [] := va_S.rf
    refine g_new (ci := 20) tyX23 tyX23_ok hx hb hts in_X23 hown hK rfl (hts _ q477) (hts _ q1335) (hts _ q129) hS0 (Nat.le_of_ble_eq_true rfl) (Nat.le_of_ble_eq_true rfl) dX0_newRow_32 (fun H1 hz1 hq1 hB1 hS => ?_)
    refine lv_dup hx hb dX0_newRow_35 rfl ?_
    refine lv_iload_n hx hb dX0_newRow_36 rfl (lv_at hl 1 rfl) ?_
    refine g_throwX (mc := 3) (ms := 410) (fun _ _ _ h => h) (vx_runI (As := [.int n]) (rest := [.ref s.heap.size]) hf (metX23_initX l hst D aC A H1 s.heap.size n hn) (cwI 1 hf.2.2.2.2 (lw_meth q1338) rfl rfl rfl (hf.2.2.2.2 _ q129) (hf.2.2.2.2 _ q1336) (hf.2.2.2.2 _ q1337) rfl (by decide +kernel) ⟨Nat.le_of_ble_eq_true rfl, Nat.le_of_ble_eq_true rfl⟩) ⟨PRx.blind, fun U hU hW => ⟨rfl, hU, hK.moved hW, by rw [hU]; exact (hZ.kept hS).moved hW.alike⟩⟩ rfl rfl hl.1 rfl (lv_room (Nat.le_of_ble_eq_true rfl)) dX0_newRow_37 ⟨Nat.le_of_ble_eq_true rfl, Nat.le_of_ble_eq_true rfl⟩) hS (fun H2 locs q9 ce hP hz2 hS hce hv hcl => ?_)
    exact vx_out (fun x hx => (htb x hx).elim) hlocks hce hv hcl (fun t htp _ => ⟨rfl, by rw [htp]; exact fun x hx => by rw [hP x (by omega), hq1 x hx], hS.F htp⟩) hS.2.2 (Nat.le_of_ble_eq_true rfl) (Nat.le_of_ble_eq_true rfl)
  · refine lv_tableIn (tgt := 41) (off := 40) hx hb dX0_newRow_1 (by decide) (by decide) (by decide) (by decide) ?_
    have hS0 : va_S A s.heap s.heap [] := va_S.rf
    refine g_new (ci := 21) tyX24 tyX24_ok hx hb hts in_X24 hown hK rfl (hts _ q1347) (hts _ q1348) (hts _ q130) hS0 (Nat.le_of_ble_eq_true rfl) (Nat.le_of_ble_eq_true rfl) dX0_newRow_41 (fun H1 hz1 hq1 hB1 hS => ?_)
    refine lv_dup hx hb dX0_newRow_44 rfl ?_
    refine lv_iload_n hx hb dX0_newRow_45 rfl (lv_at hl 1 rfl) ?_
    refine g_throwX (mc := 3) (ms := 410) (fun _ _ _ h => h) (vx_runI (As := [.int n]) (rest := [.ref s.heap.size]) hf (metX24_initX l hst D aC A H1 s.heap.size n hn) (cwI 1 hf.2.2.2.2 (lw_meth q1351) rfl rfl rfl (hf.2.2.2.2 _ q130) (hf.2.2.2.2 _ q1349) (hf.2.2.2.2 _ q1350) rfl (by decide +kernel) ⟨Nat.le_of_ble_eq_true rfl, Nat.le_of_ble_eq_true rfl⟩) ⟨PRx.blind, fun U hU hW => ⟨rfl, hU, hK.moved hW, by rw [hU]; exact (hZ.kept hS).moved hW.alike⟩⟩ rfl rfl hl.1 rfl (lv_room (Nat.le_of_ble_eq_true rfl)) dX0_newRow_46 ⟨Nat.le_of_ble_eq_true rfl, Nat.le_of_ble_eq_true rfl⟩) hS (fun H2 locs q9 ce hP hz2 hS hce hv hcl => ?_)
    exact vx_out (fun x hx => (htb x hx).elim) hlocks hce hv hcl (fun t htp _ => ⟨rfl, by rw [htp]; exact fun x hx => by rw [hP x (by omega), hq1 x hx], hS.F htp⟩) hS.2.2 (Nat.le_of_ble_eq_true rfl) (Nat.le_of_ble_eq_true rfl)
  · refine lv_tableIn (tgt := 50) (off := 49) hx hb dX0_newRow_1 (by decide) (by decide) (by decide) (by decide) ?_
    have hS0 : va_S A s.heap s.heap [] := va_S.rf
    refine g_new (ci := 22) tyX25 tyX25_ok hx hb hts in_X25 hown hK rfl (hts _ q1358) (hts _ q1359) (hts _ q131) hS0 (Nat.le_of_ble_eq_true rfl) (Nat.le_of_ble_eq_true rfl) dX0_newRow_50 (fun H1 hz1 hq1 hB1 hS => ?_)
    refine lv_dup hx hb dX0_newRow_53 rfl ?_
    refine lv_iload_n hx hb dX0_newRow_54 rfl (lv_at hl 1 rfl) ?_
    refine g_throwX (mc := 3) (ms := 410) (fun _ _ _ h => h) (vx_runI (As := [.int n]) (rest := [.ref s.heap.size]) hf (metX25_initX l hst D aC A H1 s.heap.size n hn) (cwI 1 hf.2.2.2.2 (lw_meth q1362) rfl rfl rfl (hf.2.2.2.2 _ q131) (hf.2.2.2.2 _ q1360) (hf.2.2.2.2 _ q1361) rfl (by decide +kernel) ⟨Nat.le_of_ble_eq_true rfl, Nat.le_of_ble_eq_true rfl⟩) ⟨PRx.blind, fun U hU hW => ⟨rfl, hU, hK.moved hW, by rw [hU]; exact (hZ.kept hS).moved hW.alike⟩⟩ rfl rfl hl.1 rfl (lv_room (Nat.le_of_ble_eq_true rfl)) dX0_newRow_55 ⟨Nat.le_of_ble_eq_true rfl, Nat.le_of_ble_eq_true rfl⟩) hS (fun H2 locs q9 ce hP hz2 hS hce hv hcl => ?_)
    exact vx_out (fun x hx => (htb x hx).elim) hlocks hce hv hcl (fun t htp _ => ⟨rfl, by rw [htp]; exact fun x hx => by rw [hP x (by omega), hq1 x hx], hS.F htp⟩) hS.2.2 (Nat.le_of_ble_eq_true rfl) (Nat.le_of_ble_eq_true rfl)
  · refine lv_tableIn (tgt := 59) (off := 58) hx hb dX0_newRow_1 (by decide) (by decide) (by decide) (by decide) ?_
    have hS0 : va_S A s.heap s.heap [] := va_S.rf
    refine g_new (ci := 23) tyX26 tyX26_ok hx hb hts in_X26 hown hK rfl (hts _ q1368) (hts _ q1369) (hts _ q132) hS0 (Nat.le_of_ble_eq_true rfl) (Nat.le_of_ble_eq_true rfl) dX0_newRow_59 (fun H1 hz1 hq1 hB1 hS => ?_)
    refine lv_dup hx hb dX0_newRow_62 rfl ?_
    refine lv_iload_n hx hb dX0_newRow_63 rfl (lv_at hl 1 rfl) ?_
    refine g_throwX (mc := 3) (ms := 410) (fun _ _ _ h => h) (vx_runI (As := [.int n]) (rest := [.ref s.heap.size]) hf (metX26_initX l hst D aC A H1 s.heap.size n hn) (cwI 1 hf.2.2.2.2 (lw_meth q1372) rfl rfl rfl (hf.2.2.2.2 _ q132) (hf.2.2.2.2 _ q1370) (hf.2.2.2.2 _ q1371) rfl (by decide +kernel) ⟨Nat.le_of_ble_eq_true rfl, Nat.le_of_ble_eq_true rfl⟩) ⟨PRx.blind, fun U hU hW => ⟨rfl, hU, hK.moved hW, by rw [hU]; exact (hZ.kept hS).moved hW.alike⟩⟩ rfl rfl hl.1 rfl (lv_room (Nat.le_of_ble_eq_true rfl)) dX0_newRow_64 ⟨Nat.le_of_ble_eq_true rfl, Nat.le_of_ble_eq_true rfl⟩) hS (fun H2 locs q9 ce hP hz2 hS hce hv hcl => ?_)
    exact vx_out (fun x hx => (htb x hx).elim) hlocks hce hv hcl (fun t htp _ => ⟨rfl, by rw [htp]; exact fun x hx => by rw [hP x (by omega), hq1 x hx], hS.F htp⟩) hS.2.2 (Nat.le_of_ble_eq_true rfl) (Nat.le_of_ble_eq_true rfl)
  · refine lv_tableOut (tgt := 68) hx hb dX0_newRow_1 (Or.inr (by decide)) (by decide) ?_
    have hS0 : va_S A s.heap s.heap [] := va_S.rf
    refine g_new (ci := 24) tyX27 tyX27_ok hx hb hts in_X27 hown hK rfl (hts _ q1379) (hts _ q1380) (hts _ q133) hS0 (Nat.le_of_ble_eq_true rfl) (Nat.le_of_ble_eq_true rfl) dX0_newRow_68 (fun H1 hz1 hq1 hB1 hS => ?_)
    refine lv_dup hx hb dX0_newRow_71 rfl ?_
    refine lv_iload_n hx hb dX0_newRow_72 rfl (lv_at hl 1 rfl) ?_
    refine g_throwX (mc := 3) (ms := 410) (fun _ _ _ h => h) (vx_runI (As := [.int n]) (rest := [.ref s.heap.size]) hf (metX27_initX l hst D aC A H1 s.heap.size n hn) (cwI 1 hf.2.2.2.2 (lw_meth q1383) rfl rfl rfl (hf.2.2.2.2 _ q133) (hf.2.2.2.2 _ q1381) (hf.2.2.2.2 _ q1382) rfl (by decide +kernel) ⟨Nat.le_of_ble_eq_true rfl, Nat.le_of_ble_eq_true rfl⟩) ⟨PRx.blind, fun U hU hW => ⟨rfl, hU, hK.moved hW, by rw [hU]; exact (hZ.kept hS).moved hW.alike⟩⟩ rfl rfl hl.1 rfl (lv_room (Nat.le_of_ble_eq_true rfl)) dX0_newRow_73 ⟨Nat.le_of_ble_eq_true rfl, Nat.le_of_ble_eq_true rfl⟩) hS (fun H2 locs q9 ce hP hz2 hS hce hv hcl => ?_)
    exact vx_out (fun x hx => (htb x hx).elim) hlocks hce hv hcl (fun t htp _ => ⟨rfl, by rw [htp]; exact fun x hx => by rw [hP x (by omega), hq1 x hx], hS.F htp⟩) hS.2.2 (Nat.le_of_ble_eq_true rfl) (Nat.le_of_ble_eq_true rfl)
section RT
variable {p : Program} {l : Launch} {e : Env} {R : Room} {s : State} {m : MethodId} {args : Array Value} {below : List Frame} {meth : Method} {c : Code} {H : Heap} {locs : List Loc} {cells slots : Nat} {Q : State → Prop}
variable {D : va_G} {aC : Nat → ClassId} {A : Nat → Prop} {o : Nat} {la : LC} {z : GS}
theorem rowCl : ∀ h, h ≤ 4 → ∃ C T, vwCl[20 + h]? = some (C, T, 1) ∧ Cond.castable C "ShieldLine$Held" ∈ lw_tbl
  | 0, _ => ⟨_, _, rfl, q2050⟩
  | 1, _ => ⟨_, _, rfl, q2051⟩
  | 2, _ => ⟨_, _, rfl, q2052⟩
  | 3, _ => ⟨_, _, rfl, q2053⟩
  | 4, _ => ⟨_, _, rfl, q2054⟩
  | n + 5, h => absurd h (by omega)
/-- tags beyond the heap are nothing's -/
theorem OC.retag (hO : OC D aC A o la z H) : OC D aC A o (lAd la, lFn la, lPa la, lQ la, lLw la, lIa la, lIm la, (fun a => if a < H.size then lTg la a else 0)) z H := by
  have lt : ∀ {x : Nat} {cell : Cell}, H[x]? = some cell → x < H.size := fun h => (Array.getElem?_eq_some_iff.mp h).1
  have him := fun a e9 he => hO.imLt (a := a) (e9 := e9) he
  obtain ⟨h1, ⟨h2, h3, h4, h5⟩, ⟨t1, t2, t3, t4, t5, t6, t7⟩, hi⟩ := hO
  refine ⟨h1, ⟨h2, h3, h4, h5⟩, ⟨?_, fun k hk ha => ?_, ?_, fun i hi => ?_, fun sh hs hr => ?_, fun a e9 he => ?_, fun a ha => ?_⟩, hi⟩
  · exact (if_pos (lt h1.1.choose_spec.1)).trans t1
  · exact (if_pos (lt (h1.2 k hk ha))).trans (t2 k hk ha)
  · exact (if_pos (lt h2)).trans t3
  · exact (if_pos (lt (h3 i hi).2.choose_spec.1)).trans (t4 i hi)
  · exact (if_pos (lt (h4 sh hs hr).1)).trans (t5 sh hs hr)
  · exact (if_pos (him a e9 he)).trans (t6 a e9 he)
  · refine t7 a (fun h => ha ?_)
    show (if a < H.size then lTg la a else 0) = 0
    by_cases hq : a < H.size
    · rw [if_pos hq]; exact h
    · rw [if_neg hq]
end RT
/-- the store behind a new row of sort x2, of size x3, on shelf x1 -/
def rowZ (z : GS) (x1 x2 x3 : Int32) : GS := (z.1, va_up (va_up z.2.1 140 (upd (z.2.1 140) x1.toNatClampNeg x2)) 141 (upd (z.2.1 141) x1.toNatClampNeg x3), va_up z.2.2.1 (150 + x1.toNatClampNeg) (fun _ => 0), z.2.2.2)
theorem rowZ_140 (z : GS) (x1 x2 x3 : Int32) : (rowZ z x1 x2 x3).2.1 140 = upd (z.2.1 140) x1.toNatClampNeg x2 := (va_up_ne (k := 141) (j := 140) (va_up z.2.1 140 (upd (z.2.1 140) x1.toNatClampNeg x2)) (upd (z.2.1 141) x1.toNatClampNeg x3) (by decide)).trans (va_up_self z.2.1 140 _)
theorem rowZ_141 (z : GS) (x1 x2 x3 : Int32) : (rowZ z x1 x2 x3).2.1 141 = upd (z.2.1 141) x1.toNatClampNeg x3 := va_up_self (va_up z.2.1 140 (upd (z.2.1 140) x1.toNatClampNeg x2)) 141 _
def FX0_row (x1 x2 x3 : Int32) (z : GS) : Option (Int32 × GS) := if FX0_isShelf x1 = 0 then some (-1, z) else if FX0_in x2 0 4 = 0 then some (-1, z) else if x3 ≤ 60 then (if okI x1 6 ∧ isRowN x2 then (if x3 < 0 then some (-14, z) else some (1, rowZ z x1 x2 x3)) else none) else some (-1, z)
theorem metX0_row (l : Launch) (hst : l.stackTraces = false) (D : va_G) (aC : Nat → ClassId) (A : Nat → Prop) (o : Nat) (la : LC) (x1 x2 x3 : Int32) (z : GS) (r : Int32) (zq : GS) (h : FX0_row x1 x2 x3 z = some (r, zq)) : Met l yX0_row (wsW_ yX0_row cX0_row 5 (some .int) [(24, 35, 38, 479)]) ({ frames := 16, cells := 4, slots := 411, locals := 11000 }) (va_Pc [.ref o, .int x1, .int x2, .int x3] (PC D aC A o la z)) (QG (some (.int r)) (OCe D aC A o zq) A) 4 411 A := by
  refine g_ofWH (cc := cX0_row) (maxL := 5) (ret := (some .int)) (hh := [(24, 35, 38, 479)]) (own := RX0) (by decide) rfl rfl [.ref o, .int x1, .int x2, .int x3] (PC D aC A o la z) (Nat.le_of_ble_eq_true rfl) ?_
  intro p e s m below meth c ls hx hb hr hml hts hown hlocks htab hPre hl
  obtain ⟨hO, hK, hA, hZ⟩ := hPre
  have hf : CallFix p m c cX0_row 5 s _ lw_all RX0 := ⟨hx, hb, hml, hown, hts⟩
  have hl : lv_has ls 5 [(0, .ref o), (1, .int x1), (2, .int x2), (3, .int x3)] := hl
  refine g_open (A := A) (OC D aC A o la z) hO (fun H locs hO hS => ?_)
  unfold FX0_row at h
  have hbad : ∀ zr, some ((-1 : Int32), z) = some (r, zr) → zq = zr → W p l e ({ frames := 16, cells := 4, slots := 411, locals := 11000 }) s m ([.ref o, .int x1, .int x2, .int x3] : List Value).toArray below meth c H locs 0 0 (MQ below (QG (some (.int r)) (OCe D aC A o zq) A) ([.ref o, .int x1, .int x2, .int x3] : List Value).toArray s 4 411 A) (F0 m 22 ls []) := by
    intro zr h hq
    subst hq
    obtain ⟨e8, rfl⟩ := Prod.mk.inj (Option.some.inj h)
    refine lv_iconst (v := (-1)) hx hb dX0_row_22 (by decide) ?_
    refine W.widen (k := 4) (n := 411) (Nat.le_of_ble_eq_true rfl) (Nat.le_of_ble_eq_true rfl) ?_
    exact g_retG hx hb hr hlocks e8 (P := OCe D aC A o _) ⟨_, hO⟩ hS dX0_row_23
  refine lv_iload_n hx hb dX0_row_0 rfl (lv_at hl 1 rfl) ?_
  refine clX0_isShelf hf (metX0_isShelf l x1 _ rfl) q474 hl.1 (Nat.le_of_ble_eq_true rfl) ⟨Nat.le_of_ble_eq_true rfl, Nat.le_of_ble_eq_true rfl⟩ ⟨Nat.le_of_ble_eq_true rfl, Nat.le_of_ble_eq_true rfl⟩ dX0_row_1 ?_
  refine lv_if_eq (tgt := 22) hx hb dX0_row_4 (by decide) (fun c1 => ?_) (fun c1 => ?_)
  · exact hbad _ (it_t c1 h) rfl
  have h := it_f c1 h
  refine lv_iload_n hx hb dX0_row_7 rfl (lv_at hl 2 rfl) ?_
  refine lv_iconst (v := 0) hx hb dX0_row_8 (by decide) ?_
  refine lv_iconst (v := 4) hx hb dX0_row_9 (by decide) ?_
  refine clX0_in hf (metX0_in l x2 0 4 _ rfl) q309 hl.1 (Nat.le_of_ble_eq_true rfl) ⟨Nat.le_of_ble_eq_true rfl, Nat.le_of_ble_eq_true rfl⟩ ⟨Nat.le_of_ble_eq_true rfl, Nat.le_of_ble_eq_true rfl⟩ dX0_row_10 ?_
  refine lv_if_eq (tgt := 22) hx hb dX0_row_13 (by decide) (fun c2 => ?_) (fun c2 => ?_)
  · exact hbad _ (it_t c2 h) rfl
  have h := it_f c2 h
  refine lv_iload_n hx hb dX0_row_16 rfl (lv_at hl 3 rfl) ?_
  refine lv_bipush (v := 60) hx hb dX0_row_17 (by decide) ?_
  refine lv_icmp_le (tgt := 24) hx hb dX0_row_19 (by decide) (fun c3 => ?_) (fun c3 => ?_)
  · have h := it_t c3 h
    obtain ⟨⟨hin, hrn⟩, h⟩ := grd h
    have hsh := okI6 hin
    have hO := hO.retag
    generalize hla : ((lAd la, lFn la, lPa la, lQ la, lLw la, lIa la, lIm la, (fun a => if a < H.size then lTg la a else 0)) : LC) = la1 at hO
    have htg0 : ∀ a, H.size ≤ a → lTg la1 a = 0 := fun a ha => by
      rw [← hla]
      exact if_neg (by omega)
    clear hla
    have hx2 : nI x2.toNatClampNeg = x2 := by
      obtain ⟨n, hn, en⟩ := nI_of (x := x2) (nn0 hrn.1)
      rw [en, nI_clamp hn]
    have h4 : x2.toNatClampNeg ≤ 4 := by
      have h1 : x2.toNatClampNeg = x2.toInt.toNat := rfl
      have := hrn.2
      omega
    have hc44 : H[lAd la1 44]? = some (vp_cell (aC 12) (6, .inr (.inr (.inr (.inr (lQ la1 44)))))) := oa_cell hO.1 (k := 44) (by decide) (d := 12) (n := 6) rfl rfl rfl
    have hA44 : A (lAd la1 44) := hO.2.2.1.2.2.2.2.2.2 _ (by rw [hO.2.2.1.2.1 44 (by decide) rfl]; decide)
    have hAq : ∀ q : Nat, H.size ≤ q → A q := fun q hq => hA q (Nat.le_trans hS.1 hq)
    refine lv_aload_n hx hb dX0_row_24 rfl (lv_at hl 0 rfl) ?_
    refine X0_getA hx hb hts hown hK hO 44 (by decide) (Or.inl rfl) (hts _ q210) dX0_row_25 ?_
    refine lv_iload_n hx hb dX0_row_28 rfl (lv_at hl 1 rfl) ?_
    refine lv_iload_n hx hb dX0_row_29 rfl (lv_at hl 2 rfl) ?_
    refine lv_iload_n hx hb dX0_row_30 rfl (lv_at hl 3 rfl) ?_
    by_cases hneg : x3 < 0
    · rw [if_pos hneg] at h
      have hM := metX0_newRowX l hst D aC A H hAq x2.toNatClampNeg h4 x3 hneg
      rw [hx2] at hM
      refine g_throwX (mc := 4) (ms := 411) (fun _ _ _ h => h) (vx_runS (As := [.int x2, .int x3]) (rest := [.int x1, .ref (lAd la1 44)]) hf hM (va_cwS 2 hf.2.2.2.2 (lw_S q1332 q1333 q90 q1334) rfl rfl rfl (by decide +kernel) ⟨Nat.le_of_ble_eq_true rfl, Nat.le_of_ble_eq_true rfl⟩) ⟨PRx.blind, fun U hU hW => ⟨rfl, hU, hK.moved hW, by rw [hU]; exact (hZ.kept hS).moved hW.alike⟩⟩ rfl rfl hl.1 rfl (lv_room (Nat.le_of_ble_eq_true rfl)) dX0_row_31 ⟨Nat.le_of_ble_eq_true rfl, Nat.le_of_ble_eq_true rfl⟩) hS (fun H1 locs q9 ce hP hz1 hS hce hv hcl => ?_)
      have hO := hO.grow hP
      refine g_catch0 (T := "java/lang/NegativeArraySizeException") hown hK htab 0 rfl (fun w hw => absurd hw List.not_mem_nil) rfl (by decide) (hts _ q1318) q1330 hce hv hcl ?_
      refine lv_astore (lv' := [(4, .ref q9), (0, .ref o), (1, .int x1), (2, .int x2), (3, .int x3)]) hx hb dX0_row_38 hl (by decide) rfl (fun ls hl => ?_)
      refine lv_bipush (v := -14) hx hb dX0_row_40 (by decide) ?_
      obtain ⟨e8, rfl⟩ := Prod.mk.inj (Option.some.inj h)
      exact g_retG hx hb hr hlocks e8 (P := OCe D aC A o _) ⟨_, hO⟩ hS dX0_row_42
    · rw [if_neg hneg] at h
      obtain ⟨e8, rfl⟩ := Prod.mk.inj (Option.some.inj h)
      have hok : okI x3 61 := by
        have h1 : ¬ x3.toInt < 0 := fun q => hneg (Int32.lt_iff_toInt_lt.mpr q)
        have h2 := Int32.le_iff_toInt_le.mp c3
        have h3 : (60 : Int32).toInt = 60 := rfl
        exact ⟨by omega, by omega⟩
      have hM := metX0_newRowR l D aC A H x2.toNatClampNeg h4 x3 hok
      rw [hx2] at hM
      refine g_runF (mc := 2) (ms := 61) (va_runS (As := [.int x2, .int x3]) (rest := [.int x1, .ref (lAd la1 44)]) hf hM (va_cwS 2 hf.2.2.2.2 (lw_S q1332 q1333 q90 q1334) rfl rfl rfl (by decide +kernel) ⟨Nat.le_of_ble_eq_true rfl, Nat.le_of_ble_eq_true rfl⟩) ⟨PRx.blind, fun U hU hW => ⟨rfl, hU, hK.moved hW, by rw [hU]; exact (hZ.kept hS).moved hW.alike⟩⟩ rfl rfl hl.1 rfl (lv_room (Nat.le_of_ble_eq_true rfl)) dX0_row_31 ⟨Nat.le_of_ble_eq_true rfl, Nat.le_of_ble_eq_true rfl⟩) hS (fun x hx => by rw [hx]; exact hAq _ (Nat.le_refl _)) (fun H1 locs hP hz1 hq1 hS => ?_)
      obtain ⟨p1, p2, p3, p4⟩ := hP
      obtain ⟨C, T, v1, v2⟩ := rowCl _ h4
      have hO2 := hO.addI (ci := 20 + x2.toNatClampNeg) (F := fun _ => .ref (H.size + 1)) p4 v1 p2
      have hnone : lIm la1 (H.size + 1) = none := by
        cases h9 : lIm la1 (H.size + 1) with
        | none => rfl
        | some e9 => exact absurd (hO.imLt h9) (by omega)
      generalize hla : laI la1 H.size (20 + x2.toNatClampNeg) (fun _ => .ref (H.size + 1)) = la2 at hO2
      have i1 : lIm la2 H.size = some (20 + x2.toNatClampNeg, fun _ => .ref (H.size + 1)) := by rw [← hla]; exact va_up_self (lIm la1) _ _
      have i2 : lIm la2 (H.size + 1) = none := by rw [← hla]; exact (va_up_ne (lIm la1) _ (by omega)).trans hnone
      have i3 : lTg la2 (H.size + 1) = 0 := by rw [← hla]; exact (va_up_ne (lTg la1) _ (by omega)).trans (htg0 _ (by omega))
      have i4 : lAd la2 = lAd la1 := by rw [← hla]; rfl
      clear hla
      rw [← i4]
      rw [← i4] at hA44
      have hc2 : H1[lAd la2 44]? = some (vp_cell (aC 12) (6, .inr (.inr (.inr (.inr (lQ la2 44)))))) := oa_cell hO2.1 (k := 44) (by decide) (d := 12) (n := 6) rfl rfl rfl
      refine g_aast hx hb hK hc2 (hK.1.2 9 _ rfl).2 p2 v1 (fun comp h => Vm.classAt_of_findClass h) (hK.castAsg v1 v2) hin dX0_row_34 (fun H2 hc3 hz3 hq3 => ?_)
      have hS := hS.put (k := x1.toNatClampNeg) hz3 hq3 hA44
      have hlt1 : H.size + 1 ≠ lAd la2 44 := by
        have t44 := hO2.2.2.1.2.1 44 (by decide) rfl
        intro q
        rw [← q, i3] at t44
        omega
      have k20 : kHold (kz (rowZ z x1 x2 x3)) x1.toNatClampNeg = x2 := by
        show (rowZ z x1 x2 x3).2.1 140 x1.toNatClampNeg = x2
        rw [rowZ_140]
        simp [upd]
      have k21 : kA (kz (rowZ z x1 x2 x3)) 21 x1.toNatClampNeg = x3 := by
        show (rowZ z x1 x2 x3).2.1 141 x1.toNatClampNeg = x3
        rw [rowZ_141]
        simp [upd]
      have hkr : kRow (kz (rowZ z x1 x2 x3)) x1.toNatClampNeg := by
        unfold kRow
        rw [k20]
        exact hrn
      have hO3 := hO2.shelfSet (z' := rowZ z x1 x2 x3) (qa := H.size + 1) (g := va_up (lTg la2) (H.size + 1) (300 + x1.toNatClampNeg)) hsh hc3 hq3 rfl
        (fun j h1 h2 => (va_up_ne _ _ h2).trans (va_up_ne z.2.1 _ h1))
        (fun q hq => by rw [rowZ_140]; simp [upd, hq]) (fun q hq => by rw [rowZ_141]; simp [upd, hq])
        (fun j hj => va_up_ne z.2.2.1 _ hj) rfl (fun a ha => va_up_ne (lTg la2) _ ha) (Or.inr ⟨va_up_self (lTg la2) _ _, i3, i2, hAq _ (by omega)⟩)
        (fun _ => ⟨va_up_self (lTg la2) _ _, by
          have e9 : (rowZ z x1 x2 x3).2.2.1 (150 + x1.toNatClampNeg) = fun _ => 0 := va_up_self z.2.2.1 _ _
          rw [k20, k21, e9, hq3 _ hlt1]
          exact p3, by
          have e9 : (rowZ z x1 x2 x3).2.2.1 (150 + x1.toNatClampNeg) = fun _ => 0 := va_up_self z.2.2.1 _ _
          rw [k20, k21, e9]
          intro j hj
          have h5 : x2.toNatClampNeg = 0 ∨ x2.toNatClampNeg = 1 ∨ x2.toNatClampNeg = 2 ∨ x2.toNatClampNeg = 3 ∨ x2.toNatClampNeg = 4 := by omega
          rcases h5 with e5 | e5 | e5 | e5 | e5 <;> rw [e5] <;> first | exact (show fits .byte (.int 0) = true by decide) | exact (show fits .short (.int 0) = true by decide) | exact (show fits .int (.int 0) = true by decide) | exact (show fits .boolean (.int 0) = true by decide)⟩)
        (Or.inr (Or.inl ⟨hkr, by rw [k21]; exact hok, H.size, rfl, by rw [k20]; exact i1⟩))
      refine W.eq (g2 := F0 m 35 ls []) rfl ?_
      refine lv_goto (tgt := 43) hx hb dX0_row_35 (by decide) ?_
      refine lv_iconst (v := 1) hx hb dX0_row_43 (by decide) ?_
      refine W.widen (k := 4) (n := 411) (Nat.le_of_ble_eq_true rfl) (Nat.le_of_ble_eq_true rfl) ?_
      exact g_retG hx hb hr hlocks e8 (P := OCe D aC A o _) ⟨_, hO3⟩ hS dX0_row_44
  · exact hbad _ (it_f c3 h) rfl
