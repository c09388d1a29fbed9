set_option maxRecDepth 100000
/-! ===== people are added ===== -/
section PA
variable {p : Program} {l : Launch} {e : Env} {R : Room} {s : State} {m : MethodId} {args : Array Value} {below : List Frame} {meth : Method} {c : Code} {H H0 : Heap} {locs : List Loc} {cells slots : Nat} {Q : State → Prop}
variable {cc : ByteArray} {pc index n : Nat} {ls : Array Slot} {rest : List Value} {D : va_G} {A : Nat → Prop} {aC : Nat → ClassId} {o : Nat} {la : LC} {z : GS}
theorem KC.selfAsg {ci : Nat} {r : vw_C} (hK : KC D aC s) (hc : vwCl[ci]? = some r) (comp : ClassId) (h : s.vm.findClass r.1 = some comp) : s.vm.assignable (D.1 ci) comp = true := by
  have hcls := (hK.1.1 ci r hc).2
  have : comp = D.1 ci := Option.some.inj (h.symm.trans hcls.1)
  rw [this]
  exact va_assign hcls
theorem KC.castAsg {ci : Nat} {r : vw_C} {E : String} (hK : KC D aC s) (hc : vwCl[ci]? = some r) (hw : Cond.castable r.1 E ∈ lw_tbl) (comp : ClassId) (h : s.vm.findClass E = some comp) : s.vm.assignable (D.1 ci) comp = true :=
  vb_asgC (hK.2.1 _ hw rfl) comp (D.1 ci) h (hK.1.1 ci r hc).2.1
theorem KC.cls {ci : Nat} {r : vw_C} (hK : KC D aC s) (hc : vwCl[ci]? = some r) (comp : ClassId) (h : s.vm.findClass r.1 = some comp) : ∃ kc : Class, s.vm.classes[comp]? = some kc := by
  have hcls := (hK.1.1 ci r hc).2
  have : comp = D.1 ci := Option.some.inj (h.symm.trans hcls.1)
  rw [this]
  obtain ⟨kC, hkC, -⟩ := hcls.2
  exact ⟨kC, hkC⟩
theorem g_aast {a v n N ci : Nat} {cA : ClassId} {E : String} {f : Nat → Option Nat} {V : Nat → Value} {r : vw_C} {i : Int32} (hx : p.tables.exec = Jvm.exec) (hb : c.code = cc) (hK : KC D aC s) (hc : H[a]? = some (vp_cell cA (n, .inr (.inr (.inr (.inr f)))))) (hRA : va_RA s cA (.object E)) (hv : t_OB v (D.1 ci) N (D.2 ci) H V) (hcl : vwCl[ci]? = some r) (hE : ∀ comp : ClassId, s.vm.findClass E = some comp → ∃ kc : Class, s.vm.classes[comp]? = some kc) (hasg : ∀ comp, s.vm.findClass E = some comp → s.vm.assignable (D.1 ci) comp = true) (hin : okI i n) (hdg : decode cc pc = .ok (.aastore, 1)) (kk : ∀ (H1 : Heap), H1[a]? = some (vp_cell cA (n, .inr (.inr (.inr (.inr (va_up f i.toNatClampNeg (some v))))))) → H1.size = H.size → (∀ q : Nat, q ≠ a → H1[q]? = H[q]?) → W p l e R s m args below meth c H1 (locs ++ [⟨a, i.toNatClampNeg⟩]) cells slots Q (F0 m (pc + 1) ls rest)) : W p l e R s m args below meth c H locs cells slots Q (F0 m pc ls (.ref v :: .int i :: .ref a :: rest)) := by
  have hin' := okI_in hin
  have hlt : i.toNatClampNeg < n := Nat.not_le.mp fun q => hin' (Or.inr q)
  have h0 : ¬ i < 0 := fun q => hin' (Or.inl q)
  obtain ⟨cellV, g1, g2, g3, -⟩ := hv
  obtain ⟨kA, comp, k1, k2, k3, -⟩ := hRA
  obtain ⟨kV, hkV, -⟩ := (hK.1.1 ci _ hcl).2.2
  obtain ⟨kc, hkc⟩ := hE comp k3
  refine W.aast hx hb hc (fun q h => by cases h) (fun h => by cases h) k1 k2 rfl hkc ⟨h0, by show _ < (arrV _ _ _).slots.size; rw [arrV_size]; exact hlt⟩ g1 (fun q h => by rw [g3] at h; cases h) (by rw [g2]; exact hkV) (by rw [g2]; exact hasg comp k3) rfl rfl hdg fun H1 e1 e2 oq => ?_
  refine kk H1 ?_ e2 oq
  rw [e1, vp_cell_q, vp_cell_q, arrV_store]
  congr 2
  funext q
  by_cases hq : q = i.toNatClampNeg
  · subst hq
    simp [updV, va_up, va_rf]
  · simp [updV, va_up, hq]
theorem OC.imLt {a : Nat} {e9 : Nat × (Nat → Value)} (h : OC D aC A o la z H) (he : lIm la a = some e9) : a < H.size := by
  obtain ⟨r, g1, g2⟩ := h.2.1.2.2.2 a e9 he
  exact (Array.getElem?_eq_some_iff.mp g2.choose_spec.1).1
end PA
def laP (la : LC) (n q : Nat) : LC := (lAd la, lFn la, va_up (lPa la) n q, (fun k => if k = 0 then va_up (lQ la 0) n (some q) else lQ la k), lLw la, lIa la, lIm la, va_up (lTg la) q (200 + n))
def pF (place : Int32) (f : Nat) : Int32 := if f = 0 then place else if f = 1 then 4 else if f = 2 then 3 else if f = 3 then 20 else -1
def zP (z : GS) (n : Nat) (place : Int32) : GS := (va_up z.1 1 (nI (n + 1)), (fun k => if 100 ≤ k ∧ k < 105 then upd (z.2.1 k) n (pF place (k - 100)) else z.2.1 k), z.2.2)
theorem OC.addP {D : va_G} {aC : Nat → ClassId} {A : Nat → Prop} {o : Nat} {la : LC} {z : GS} {H H4 : Heap} {n : Nat} {place : Int32} (hO : OC D aC A o la z H) (hn : n < 8) (hm : z.1 1 = nI n) (hold : ∀ x : Nat, x < H.size → x ≠ o → x ≠ lAd la 0 → H4[x]? = H[x]?) (hOA : OA D aC 0 45 kdC lnC o (lAd la) (zx (laP la n H.size) (zP z n place)) H4) (hB : t_OB H.size (D.1 3) 5 (D.2 3) H4 (fun f => .int (pF place f))) (hAq : A H.size) : OC D aC A o (laP la n H.size) (zP z n place) H4 := by
  have lt : ∀ {x : Nat} {cell : Cell}, H[x]? = some cell → x < H.size := fun h => (Array.getElem?_eq_some_iff.mp h).1
  obtain ⟨h1, ⟨h2, h3, h4, h5⟩, ⟨t1, t2, t3, t4, t5, t6, t7⟩, hi⟩ := hO
  have hmany : kMany (kz z) = n := by show (z.1 1).toNatClampNeg = n; rw [hm]; exact nI_clamp (by omega)
  have hmany' : kMany (kz (zP z n place)) = n + 1 := by
    show (va_up z.1 1 (nI (n + 1)) 1).toNatClampNeg = n + 1
    rw [va_up_self]; exact nI_clamp (by omega)
  have tg : ∀ {x : Nat}, x < H.size → lTg (laP la n H.size) x = lTg la x := fun {x} hx => by
    show va_up (lTg la) H.size (200 + n) x = _
    rw [va_up_ne]; omega
  have keep : ∀ {x : Nat}, x < H.size → lTg la x ≠ 1 → lTg la x ≠ 100 → H4[x]? = H[x]? := fun {x} hx g1 g2 => hold x hx (fun q => g1 (by rw [q]; exact t1)) (fun q => g2 (by rw [q]; exact t2 0 (by decide) rfl))
  have hA : ∀ f, f < 5 → (zP z n place).2.1 (100 + f) = upd (z.2.1 (100 + f)) n (pF place f) := fun f hf => by
    show (if 100 ≤ 100 + f ∧ 100 + f < 105 then _ else _) = _
    rw [if_pos (by omega)]
    congr 2
    omega
  have hkA : kA (kz (zP z n place)) = kA (kz z) := by
    show (fun k => if k < 25 then (zP z n place).2.1 (120 + k) else fun _ => 0) = (fun k => if k < 25 then z.2.1 (120 + k) else fun _ => 0)
    funext k
    by_cases hk : k < 25
    · rw [if_pos hk, if_pos hk]
      show (if 100 ≤ 120 + k ∧ 120 + k < 105 then _ else _) = _
      rw [if_neg (by omega)]
    · rw [if_neg hk, if_neg hk]
  have hrow : ∀ s, kRow (kz (zP z n place)) s = kRow (kz z) s := fun s => by unfold kRow kHold; rw [hkA]
  have hz1 : ∀ k, k ≠ 1 → (zP z n place).1 k = z.1 k := fun k hk => va_up_ne _ _ hk
  refine ⟨hOA, ⟨?_, fun i hi => ?_, fun sh hs hr => ?_, fun a e9 he => ?_⟩, ⟨?_, fun k hk ha => ?_, ?_, fun i hi => ?_, fun sh hs hr => ?_, fun a e9 he => ?_, fun a ha => ?_⟩, ?_⟩
  · have e1 : (zP z n place).2.1 110 = z.2.1 110 := by simp [zP]
    have e2 : lFn (laP la n H.size) = lFn la := rfl
    rw [e1, e2, keep (lt h2) (by rw [t3]; decide) (by rw [t3]; decide)]
    exact h2
  · rw [hmany'] at hi
    by_cases hin : i = n
    · subst hin
      refine ⟨?_, ?_⟩
      · show va_up (lQ la 0) i (some H.size) i = some (va_up (lPa la) i H.size i)
        rw [va_up_self, va_up_self]
      · show t_OB (va_up (lPa la) i H.size i) _ _ _ _ _
        rw [va_up_self]
        refine hB.to (fun f hf => ?_)
        rw [hA f hf]
        simp [upd]
    · have hi' : i < kMany (kz z) := by rw [hmany]; omega
      obtain ⟨g1, g2⟩ := h3 i hi'
      have e1 : lPa (laP la n H.size) i = lPa la i := va_up_ne _ _ hin
      refine ⟨?_, ?_⟩
      · rw [e1]
        show va_up (lQ la 0) n (some H.size) i = _
        rw [va_up_ne _ _ hin]
        exact g1
      · rw [e1]
        refine (g2.kept (keep (lt g2.choose_spec.1) (by rw [t4 i hi']; omega) (by rw [t4 i hi']; omega))).to (fun f hf => ?_)
        rw [hA f hf]
        simp [upd, hin]
  · rw [hrow] at hr
    have := h4 sh hs hr
    unfold kHold at this ⊢
    rw [hkA]
    show H4[lIa la sh]? = _ ∧ _
    rw [keep (lt this.1) (by rw [t5 sh hs hr]; omega) (by rw [t5 sh hs hr]; omega)]
    exact this
  · obtain ⟨r, g1, g2⟩ := h5 a e9 he
    exact ⟨r, g1, g2.kept (keep (lt g2.choose_spec.1) (by rw [t6 a e9 he]; decide) (by rw [t6 a e9 he]; decide))⟩
  · rw [tg (lt h1.1.choose_spec.1)]; exact t1
  · rw [show lAd (laP la n H.size) = lAd la from rfl, tg (lt (h1.2 k hk ha))]; exact t2 k hk ha
  · rw [show lFn (laP la n H.size) = lFn la from rfl, tg (lt h2)]; exact t3
  · rw [hmany'] at hi
    by_cases hin : i = n
    · subst hin
      show va_up (lTg la) H.size (200 + i) (va_up (lPa la) i H.size i) = _
      rw [va_up_self, va_up_self]
    · have hi' : i < kMany (kz z) := by rw [hmany]; omega
      rw [show lPa (laP la n H.size) i = lPa la i from va_up_ne _ _ hin, tg (lt (h3 i hi').2.choose_spec.1)]
      exact t4 i hi'
  · rw [hrow] at hr
    rw [show lIa (laP la n H.size) sh = lIa la sh from rfl, tg (lt (h4 sh hs hr).1)]
    exact t5 sh hs hr
  · obtain ⟨r, g1, g2⟩ := h5 a e9 he
    rw [tg (lt g2.choose_spec.1)]
    exact t6 a e9 he
  · by_cases hq : a = H.size
    · rw [hq]; exact hAq
    · refine t7 a (fun h => ha ?_)
      show va_up (lTg la) H.size (200 + n) a = 0
      rw [va_up_ne _ _ hq]; exact h
  · obtain ⟨i1, i2, i3, i4, i5⟩ := hi
    have hch : kChgs (kz (zP z n place)) = kChgs (kz z) := by show ((zP z n place).1 201).toNatClampNeg = (z.1 201).toNatClampNeg; rw [hz1 _ (by decide)]
    have hbo : kBods (kz (zP z n place)) = kBods (kz z) := by show ((zP z n place).1 43).toNatClampNeg = (z.1 43).toNatClampNeg; rw [hz1 _ (by decide)]
    have hlw : kLaw (kz (zP z n place)) = kLaw (kz z) := hz1 202 (by decide)
    refine ⟨i1, fun j hj => ?_, fun j hj => ?_, fun sh hs => ?_, ?_⟩
    · rw [hch] at hj; unfold kV; rw [hkA]; exact i2 j hj
    · rw [hbo] at hj; rw [hkA]; exact i3 j hj
    · have := i4 sh hs
      unfold kHold at this ⊢
      rw [hkA, hrow, hbo]
      exact this
    · rw [hlw]; exact i5
/-- an end with an answer that is said by the heap -/
def QX (P : Option Value → Heap → Prop) (A : Nat → Prop) : Array Value → State → Outcome → State → Prop := fun _ st oc t => ∃ ov, oc = .returned ov ∧ P ov t.heap ∧ va_F A st t
theorem g_callX {p : Program} {l : Launch} {e : Env} {R : Room} {s : State} {m : MethodId} {args : Array Value} {below : List Frame} {meth : Method} {c : Code} {H H0 : Heap} {locs : List Loc} {cells slots : Nat} {Q : State → Prop} {rest : List Value} {A : Nat → Prop} {mc ms : Nat} {g : JFrame} {P : Option Value → Heap → Prop} {a : Array Value} (hr : CallRun p l e R s m args below meth c H locs cells slots mc ms g rest (QX P A a) A) (hS : va_S A H0 H locs) (kk : ∀ (ov : Option Value) (H1 : Heap) (locs1 : List Loc), P ov H1 → va_S A H0 H1 locs1 → H.size ≤ H1.size → (∀ q : Nat, q < H.size → ¬ A q → H1[q]? = H[q]?) → W p l e R s m args below meth c H1 locs1 (cells + mc) (slots + ms) Q { g with pc := g.pc + 3, stack := ov.toList ++ rest }) : W p l e R s m args below meth c H locs cells slots Q g := by
  intro T hT X
  obtain ⟨v, st₀, t, T', L, h0, X', hL, e1, ⟨ov, hv, hP, hz, hk⟩, st⟩ := hr T hT X
  cases hv
  rw [h0] at hz hk
  obtain ⟨t2, a1, b1⟩ := kk v t.heap (locs ++ L) hP ⟨Nat.le_trans hS.1 hz, fun q h1 h2 => by rw [hk q (Nat.lt_of_lt_of_le h1 hS.1) h2]; exact hS.2.1 q h1 h2, fun q hq => by
      rcases List.mem_append.mp hq with h | h
      · exact hS.2.2 q h
      · exact hL q h⟩ hz hk T' e1 X'
  exact ⟨t2, st t2 a1, b1⟩
theorem metX0_addPerson (l : Launch) (D : va_G) (aC : Nat → ClassId) (A : Nat → Prop) (o : Nat) (la : LC) (x1 : Int32) (z : GS) (n : Nat) (hn : n < 8) (hm : z.1 1 = nI n) : Met l yX0_addPerson (ws_ yX0_addPerson cX0_addPerson 2 (some (.object "ShieldLine$Person"))) ({ frames := 3, cells := 1, slots := 5, locals := 100 }) (va_Pc [.ref o, .int x1] (PC D aC A o la z)) (QX (fun ov H => ∃ q, ov = some (.ref q) ∧ OC D aC A o (laP la n q) (zP z n x1) H) A) 1 5 A := by
  refine g_ofW (cc := cX0_addPerson) (maxL := 2) (ret := (some (.object "ShieldLine$Person"))) (own := RX0) (by decide) rfl rfl [.ref o, .int x1] (PC D aC A o la z) (Nat.le_of_ble_eq_true rfl) ?_
  intro p e s m below meth c ls hx hb hr hml hts hown hlocks hnm hPre hl
  obtain ⟨hO, hK, hA, hZ⟩ := hPre
  have hf : CallFix p m c cX0_addPerson 2 s _ lw_all RX0 := ⟨hx, hb, hml, hown, hts⟩
  have hl : lv_has ls 2 [(0, .ref o), (1, .int x1)] := hl
  have hsz : ∃ sz, sz = s.heap.size := ⟨_, rfl⟩
  obtain ⟨sz, hsz⟩ := hsz
  refine g_open (A := A) (fun H => OC D aC A o la z H ∧ H.size = sz) ⟨hO, hsz.symm⟩ (fun H locs hP hS => ?_)
  obtain ⟨hO, hHz⟩ := hP
  have hAq : A H.size := hA _ hS.1
  have hD := OC_OD hO.2.2.1
  refine lv_aload_n hx hb dX0_addPerson_0 rfl (lv_at hl 0 rfl) ?_
  refine X0_getA hx hb hts hown hK hO 0 (by decide) (Or.inl rfl) (hts _ q164) dX0_addPerson_1 ?_
  refine lv_aload_n hx hb dX0_addPerson_4 rfl (lv_at hl 0 rfl) ?_
  refine X0_getF hx hb hts hown hK hO 1 (by decide) rfl (hts _ q165) dX0_addPerson_5 ?_
  rw [show gF z 1 = nI n from hm]
  refine g_new (ci := 3) tyX3 tyX3_ok hx hb hts in_X3 hown hK rfl (hts _ q142) (hts _ q316) (hts _ q93) hS (Nat.le_of_ble_eq_true rfl) (Nat.le_of_ble_eq_true rfl) dX0_addPerson_8 (fun H1 hz1 hq1 hB1 hS => ?_)
  refine lv_dup hx hb dX0_addPerson_11 rfl ?_
  refine lv_iload_n hx hb dX0_addPerson_12 rfl (lv_at hl 1 rfl) ?_
  refine g_ctor (As := [.int x1]) (k := 1) hf hK hB1 rfl hS hAq (metX3_init l D aC H.size _ _ x1) q317 q318 q93 q319 rfl rfl (by decide +kernel) hl.1 (Nat.le_of_ble_eq_true rfl) ⟨Nat.le_of_ble_eq_true rfl, Nat.le_of_ble_eq_true rfl⟩ ⟨Nat.le_of_ble_eq_true rfl, Nat.le_of_ble_eq_true rfl⟩ dX0_addPerson_13 (fun H2 locs hz2 hB2 hq2 hS => ?_)
  have hB2 : t_OB H.size (D.1 3) 5 (D.2 3) H2 (fun f => .int (pF x1 f)) := hB2.to (fun f hf => by
    match f, hf with
    | 0, _ => rfl
    | 1, _ => rfl
    | 2, _ => rfl
    | 3, _ => rfl
    | 4, _ => rfl)
  have hold2 : ∀ x : Nat, x < H.size → H2[x]? = H[x]? := fun x hx => by rw [hq2 x (by omega), hq1 x hx]
  have hO2 := hO.grow hold2
  have hc2 : H2[lAd la 0]? = some (vp_cell (aC 9) (8, .inr (.inr (.inr (.inr (lQ la 0)))))) := oa_cell hO2.1 (k := 0) (by decide) (d := 9) (n := 8) rfl rfl rfl
  have hni : (nI n).toNatClampNeg = n := nI_clamp (by omega)
  have hti : (nI n).toInt = (n : Int) := nI_toInt (by omega)
  have hlt0 : lAd la 0 < H.size := by
    have := hO.1.2 0 (by decide) rfl
    exact (Array.getElem?_eq_some_iff.mp this).1
  have hlto : o < H.size := (Array.getElem?_eq_some_iff.mp hO.1.1.choose_spec.1).1
  refine g_aast (r := (RX3, TX3, 5)) hx hb hK hc2 (hK.1.2 6 _ rfl).2 hB2 rfl (fun comp h => hK.cls (ci := 3) (r := (RX3, TX3, 5)) rfl comp h) (fun comp h => hK.selfAsg (r := (RX3, TX3, 5)) rfl comp h) ⟨by rw [hti]; omega, by rw [hti]; omega⟩ dX0_addPerson_16 (fun H3 hc3 hz3 hq3 => ?_)
  rw [hni] at hc3
  have hS := hS.put (k := (nI n).toNatClampNeg) hz3 hq3 (hO.2.2.1.2.2.2.2.2.2 _ (by rw [hO.2.2.1.2.1 0 (by decide) rfl]; omega))
  have hOA3 : OA D aC 0 45 kdC lnC o (lAd la) (zx (laP la n H.size) z) H3 := by
    refine ⟨(hO2.1.1.kept (hq3 o (Ne.symm (hD.2.1 0 (by decide) rfl)))).to (fun j _ => by simp [oaV, zx, laP, lLw]), fun j hj hja => ?_⟩
    by_cases hj0 : j = 0
    · subst hj0
      rw [hc3]
      rfl
    · rw [hq3 _ (fun q => hj0 (hD.1 j 0 hj (by decide) hja rfl q)), hO2.1.2 j hj hja]
      simp [oaC, zx, laP, lQ, hj0]
  refine lv_aload_n hx hb dX0_addPerson_17 rfl (lv_at hl 0 rfl) ?_
  refine lv_dup hx hb dX0_addPerson_18 rfl ?_
  refine oa_get hx hb hts in_X0 hown hK.1 hOA3 rfl 1 (by decide) (v := .int (nI n)) (hts _ q165) (X0_same 1) (by rw [← hm]; rfl) dX0_addPerson_19 ?_
  refine lv_iconst (v := 1) hx hb dX0_addPerson_22 (by decide) ?_
  refine lv_iadd hx hb dX0_addPerson_23 ?_
  rw [nI_1]
  refine oa_putF (ty := .int) hx hb hts in_X0 tyX0 tyX0_ok nmX0 hown hK.1 hOA3 hD hS rfl 1 (by decide) rfl (hts _ q165) (X0_same 1) rfl rfl rfl rfl dX0_addPerson_24 (fun H4 locs z4 e4 hOA4 hS hz4 hq4 => ?_)
  have hO4 : OC D aC A o (laP la n H.size) (zP z n x1) H4 := by
    refine hO.addP hn hm (fun x h1 h2 h3 => by rw [hq4 x h2, hq3 x h3, hold2 x h1]) ⟨hOA4.1.to (fun j _ => by rw [e4]; rfl), fun j hj hja => ?_⟩ (hB2.kept (by rw [hq4 _ (by omega), hq3 _ (by omega)])) hAq
    rw [hOA4.2 j hj hja, e4]
    have : (100 ≤ j ∧ j < 105) = False := by simp; omega
    simp [oaC, zx, sF, zP, this]
  refine lv_aload_n hx hb dX0_addPerson_27 rfl (lv_at hl 0 rfl) ?_
  refine X0_getA hx hb hts hown hK hO4 0 (by decide) (Or.inl rfl) (hts _ q164) dX0_addPerson_28 ?_
  refine lv_aload_n hx hb dX0_addPerson_31 rfl (lv_at hl 0 rfl) ?_
  refine X0_getF hx hb hts hown hK hO4 1 (by decide) rfl (hts _ q165) dX0_addPerson_32 ?_
  have hm4 : (zP z n x1).1 1 = nI (n + 1) := va_up_self z.1 1 _
  rw [show gF (zP z n x1) 1 = nI (n + 1) from hm4]
  refine lv_iconst (v := 1) hx hb dX0_addPerson_35 (by decide) ?_
  refine lv_isub hx hb dX0_addPerson_36 ?_
  rw [nI_pred]
  refine X0_paald hx hb hK hO4 (i := nI n) ⟨by rw [hti]; omega, by rw [hti, hm4, nI_toInt (by omega)]; omega, by rw [hm4, nI_toInt (by omega)]; omega⟩ dX0_addPerson_37 ?_
  rw [hni]
  have hpa : lPa (laP la n H.size) n = H.size := va_up_self _ _ _
  rw [hpa]
  exact W.aret hx hb hr (Or.inl ⟨_, rfl⟩) (Or.inr ⟨_, rfl⟩) (fun t ht _ => ⟨_, rfl, ⟨H.size, rfl, by rw [ht]; exact hO4⟩, hS.F ht⟩) hS.2.2 dX0_addPerson_38
