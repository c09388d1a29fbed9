set_option maxRecDepth 100000
/-! ===== a shelf is set: keep ===== -/
section KP
variable {p : Program} {l : Launch} {e : Env} {R : Room} {s : State} {m : MethodId} {args : Array Value} {below : List Frame} {meth : Method} {c : Code} {H : Heap} {locs : List Loc} {cells slots : Nat} {Q : State → Prop}
variable {cc : ByteArray} {pc index : Nat} {ls : Array Slot} {rest : List Value} {D : va_G} {aC : Nat → ClassId} {A : Nat → Prop} {o : Nat} {la : LC} {z z' : GS}
theorem held_cast : ∀ ci, 12 ≤ ci → ci < 25 → ∃ r, vwCl[ci]? = some r ∧ Cond.castable r.1 "ShieldLine$Held" ∈ lw_tbl
  | 12, _, _ => ⟨_, rfl, q2049⟩
  | 13, _, _ => ⟨_, rfl, q2042⟩
  | 14, _, _ => ⟨_, rfl, q2043⟩
  | 15, _, _ => ⟨_, rfl, q2044⟩
  | 16, _, _ => ⟨_, rfl, q2045⟩
  | 17, _, _ => ⟨_, rfl, q2046⟩
  | 18, _, _ => ⟨_, rfl, q2047⟩
  | 19, _, _ => ⟨_, rfl, q2048⟩
  | 20, _, _ => ⟨_, rfl, q2050⟩
  | 21, _, _ => ⟨_, rfl, q2051⟩
  | 22, _, _ => ⟨_, rfl, q2052⟩
  | 23, _, _ => ⟨_, rfl, q2053⟩
  | 24, _, _ => ⟨_, rfl, q2054⟩
  | n + 25, _, h => absurd h (by omega)
  | 0, h, _ => absurd h (by decide)
  | 1, h, _ => absurd h (by decide)
  | 2, h, _ => absurd h (by decide)
  | 3, h, _ => absurd h (by decide)
  | 4, h, _ => absurd h (by decide)
  | 5, h, _ => absurd h (by decide)
  | 6, h, _ => absurd h (by decide)
  | 7, h, _ => absurd h (by decide)
  | 8, h, _ => absurd h (by decide)
  | 9, h, _ => absurd h (by decide)
  | 10, h, _ => absurd h (by decide)
  | 11, h, _ => absurd h (by decide)
theorem g_aastN {a n : Nat} {cA : ClassId} {E : String} {f : Nat → Option Nat} {i : Int32} (hx : p.tables.exec = Jvm.exec) (hb : c.code = cc) (hc : H[a]? = some (vp_cell cA (n, .inr (.inr (.inr (.inr f)))))) (hA : ArrOfT s cA (.object E)) (hin : okI i n) (hdg : decode cc pc = .ok (.aastore, 1)) (kk : ∀ (H1 : Heap), H1[a]? = some (vp_cell cA (n, .inr (.inr (.inr (.inr (va_up f i.toNatClampNeg none)))))) → H1.size = H.size → (∀ q : Nat, q ≠ a → H1[q]? = H[q]?) → W p l e R s m args below meth c H1 (locs ++ [⟨a, i.toNatClampNeg⟩]) cells slots Q (F0 m (pc + 1) ls rest)) : W p l e R s m args below meth c H locs cells slots Q (F0 m pc ls (.null :: .int i :: .ref a :: rest)) := by
  refine va_WaastN (C := E) hx hb hc (hA n (fun j => va_rf (f j))) (fun h => by cases h) (by show ¬ (i < 0 ∨ (arrV _ _ _).slots.size ≤ _); rw [arrV_size]; exact okI_in hin) rfl rfl hdg fun H1 e1 e2 oq => ?_
  refine kk H1 ?_ e2 oq
  rw [e1, vp_cell_q, vp_cell_q, arrV_store]
  congr 2
  funext q
  by_cases hq : q = i.toNatClampNeg
  · subst hq
    simp [updV, va_up, va_rf]
  · simp [updV, va_up, hq]
/-- the layout with shelf sh set to v, its row's array at qa -/
def laS (la : LC) (sh : Nat) (v : Option Nat) (qa : Nat) (g : Nat → Nat) : LC := (lAd la, lFn la, lPa la, (fun j => if j = 44 then va_up (lQ la 44) sh v else lQ la j), lLw la, va_up (lIa la) sh qa, lIm la, g)
theorem OC.shelfSet {H1 : Heap} {sh qa : Nat} {v : Option Nat} {g : Nat → Nat} (hO : OC D aC A o la z H) (hs : sh < 6)
    (e : H1[lAd la 44]? = some (vp_cell (aC 12) (6, .inr (.inr (.inr (.inr (va_up (lQ la 44) sh v))))))) (oq : ∀ q : Nat, q ≠ lAd la 44 → H1[q]? = H[q]?)
    (hz1 : z'.1 = z.1) (hz2 : ∀ j, j ≠ 140 → j ≠ 141 → z'.2.1 j = z.2.1 j) (h140 : ∀ q, q ≠ sh → z'.2.1 140 q = z.2.1 140 q) (h141 : ∀ q, q ≠ sh → z'.2.1 141 q = z.2.1 141 q) (hz3 : ∀ j, j ≠ 150 + sh → z'.2.2.1 j = z.2.2.1 j) (hz4 : z'.2.2.2 = z.2.2.2)
    (hg1 : ∀ a, a ≠ qa → g a = lTg la a) (hg2 : g qa = lTg la qa ∨ (g qa = 300 + sh ∧ lTg la qa = 0 ∧ lIm la qa = none ∧ A qa))
    (hrow : kRow (kz z') sh → g qa = 300 + sh ∧ H1[qa]? = some (shC aC (kHold (kz z') sh).toNatClampNeg (kA (kz z') 21 sh).toNatClampNeg (z'.2.2.1 (150 + sh))) ∧ shFit (kHold (kz z') sh).toNatClampNeg (kA (kz z') 21 sh).toNatClampNeg (z'.2.2.1 (150 + sh)))
    (hi : (kHold (kz z') sh = -1 ∧ v = none) ∨ (kRow (kz z') sh ∧ okI (kA (kz z') 21 sh) 61 ∧ ∃ a, v = some a ∧ lIm la a = some (20 + (kHold (kz z') sh).toNatClampNeg, fun _ => .ref qa)) ∨ (∃ b, b < kBods (kz z) ∧ kHold (kz z') sh = 10 + nI b ∧ v = lQ la 42 b)) :
    OC D aC A o (laS la sh v qa g) z' H1 := by
  have hkA : ∀ k, k ≠ 20 → k ≠ 21 → kA (kz z') k = kA (kz z) k := fun k k1 k2 => by
    show (if k < 25 then z'.2.1 (120 + k) else fun _ => 0) = (if k < 25 then z.2.1 (120 + k) else fun _ => 0)
    rw [hz2 (120 + k) (by omega) (by omega)]
  have hm : kMany (kz z') = kMany (kz z) := by show (z'.1 1).toNatClampNeg = _; rw [hz1]; rfl
  have hbo : kBods (kz z') = kBods (kz z) := by show (z'.1 43).toNatClampNeg = _; rw [hz1]; rfl
  have hch : kChgs (kz z') = kChgs (kz z) := by show (z'.1 201).toNatClampNeg = _; rw [hz1]; rfl
  have hlw : kLaw (kz z') = kLaw (kz z) := by show z'.1 202 = _; rw [hz1]; rfl
  have hkD : kD (kz z') = kD (kz z) := by show z'.2.2.2.2.2 = z.2.2.2.2.2; rw [hz4]
  have hho : ∀ q, q ≠ sh → kHold (kz z') q = kHold (kz z) q := fun q hq => h140 q hq
  have hsz : ∀ q, q ≠ sh → kA (kz z') 21 q = kA (kz z) 21 q := fun q hq => h141 q hq
  have hD := OC_OD hO.2.2.1
  have htag : ∀ a, lTg la a ≠ 0 → g a = lTg la a := fun a ha => by
    by_cases hq : a = qa
    · subst hq
      rcases hg2 with h | ⟨-, h, -⟩
      · exact h
      · exact absurd h ha
    · exact hg1 a hq
  obtain ⟨h1, ⟨p1, p2, p3, p4⟩, ⟨t1, t2, t3, t4, t5, t6, t7⟩, ⟨i1, i2, i3, i4, i5⟩⟩ := hO
  have t44 : lTg la (lAd la 44) = 144 := t2 44 (by decide) rfl
  refine ⟨⟨(h1.1.kept (oq o (fun q => by rw [← q, t1] at t44; omega))).to (fun j hj => ?_), fun j hj hja => ?_⟩, ⟨?_, fun i hi9 => ?_, fun q hq hr => ?_, fun b e9 hb => ?_⟩, ⟨?_, fun k hk ha => ?_, ?_, fun i hi9 => ?_, fun q hq hr => ?_, fun a e9 he => ?_, fun a ha => ?_⟩, ⟨i1, fun j hj => ?_, fun j hj => ?_, fun q hq => ?_, ?_⟩⟩
  · show oaV kdC (lAd la) (zx la z) j = oaV kdC (lAd la) (zx (laS la sh v qa g) z') j
    simp only [oaV, zx]
    rw [hz1]
    rfl
  · show H1[lAd la j]? = _
    by_cases hj4 : j = 44
    · subst hj4
      rw [e]
      rfl
    · rw [oq _ (fun q => hj4 (hD.1 j 44 hj (by decide) hja rfl q)), h1.2 j hj hja]
      simp only [oaC, zx]
      rw [hz2 j (by omega) (by omega), hz3 j (by omega)]
      simp [lQ, laS, hj4]
  · show H1[lFn la]? = _
    rw [oq _ (fun q => by rw [← q, t3] at t44; omega), hz2 110 (by decide) (by decide)]
    exact p1
  · rw [hm] at hi9
    obtain ⟨g1, g2⟩ := p2 i hi9
    have := t4 i hi9
    exact ⟨g1, (g2.kept (oq _ (fun q => by rw [← q, this] at t44; omega))).to (fun f hf => by rw [hz2 (100 + f) (by omega) (by omega)])⟩
  · by_cases hqs : q = sh
    · subst hqs
      obtain ⟨-, r2, r3⟩ := hrow hr
      show H1[va_up (lIa la) q qa q]? = _ ∧ _
      rw [va_up_self]
      exact ⟨r2, r3⟩
    · have hr' : kRow (kz z) q := by unfold kRow at hr ⊢; rw [hho q hqs] at hr; exact hr
      have := t5 q hq hr'
      show H1[va_up (lIa la) sh qa q]? = _ ∧ _
      rw [va_up_ne _ _ hqs, hho q hqs, hsz q hqs, hz3 (150 + q) (by omega), oq _ (fun w => by rw [← w, this] at t44; omega)]
      exact p3 q hq hr'
  · obtain ⟨r, g1, g2⟩ := p4 b e9 hb
    have := t6 b e9 hb
    exact ⟨r, g1, g2.kept (oq _ (fun q => by rw [← q, this] at t44; omega))⟩
  · show g o = 1
    rw [htag _ (by rw [t1]; decide)]; exact t1
  · show g (lAd la k) = _
    rw [htag _ (by rw [t2 k hk ha]; omega)]; exact t2 k hk ha
  · show g (lFn la) = _
    rw [htag _ (by rw [t3]; decide)]; exact t3
  · rw [hm] at hi9
    show g (lPa la i) = _
    rw [htag _ (by rw [t4 i hi9]; omega)]; exact t4 i hi9
  · show g (va_up (lIa la) sh qa q) = _
    by_cases hqs : q = sh
    · subst hqs
      rw [va_up_self]
      exact (hrow hr).1
    · have hr' : kRow (kz z) q := by unfold kRow at hr ⊢; rw [hho q hqs] at hr; exact hr
      rw [va_up_ne _ _ hqs, htag _ (by rw [t5 q hq hr']; omega)]
      exact t5 q hq hr'
  · show g a = 0
    have ta := t6 a e9 he
    by_cases hq : a = qa
    · subst hq
      rcases hg2 with h | ⟨-, -, h, -⟩
      · rw [h]; exact ta
      · have he9 : lIm la a = some e9 := he
        rw [h] at he9; cases he9
    · rw [hg1 a hq]; exact ta
  · by_cases hq : a = qa
    · subst hq
      rcases hg2 with h | ⟨-, -, -, h⟩
      · have ha' : g a ≠ 0 := ha
        exact t7 a (by rw [← h]; exact ha')
      · exact h
    · have ha' : g a ≠ 0 := ha
      exact t7 a (by rw [← hg1 a hq]; exact ha')
  · rw [hch] at hj
    obtain ⟨a, g1, g2⟩ := i2 j hj
    refine ⟨a, g1, g2.trans ?_⟩
    congr 2
    funext f
    unfold kV
    by_cases hf : f < 4
    · rw [if_pos hf, if_pos hf, hkA f (by omega) (by omega)]
    · rw [if_neg hf, if_neg hf]
  · rw [hbo] at hj
    rw [hkA 10 (by decide) (by decide)]
    exact i3 j hj
  · by_cases hqs : q = sh
    · subst hqs
      have e44 : lQ (laS la q v qa g) 44 q = v := va_up_self (lQ la 44) _ _
      have e42 : lQ (laS la q v qa g) 42 = lQ la 42 := rfl
      have eIa : lIa (laS la q v qa g) q = qa := va_up_self (lIa la) _ _
      rw [e44, e42, eIa, hbo]
      rcases hi with ⟨w1, w2⟩ | ⟨w1, w2, a, w3, w4⟩ | w
      · exact Or.inl ⟨w1, w2⟩
      · exact Or.inr (Or.inl ⟨w1, w2, a, w3, w4⟩)
      · exact Or.inr (Or.inr w)
    · have e44 : lQ (laS la sh v qa g) 44 q = lQ la 44 q := va_up_ne (lQ la 44) _ hqs
      have e42 : lQ (laS la sh v qa g) 42 = lQ la 42 := rfl
      have eIa : lIa (laS la sh v qa g) q = lIa la q := va_up_ne (lIa la) _ hqs
      have := i4 q hq
      rw [e44, e42, eIa, hbo, hsz q hqs]
      unfold kRow at this ⊢
      rw [hho q hqs]
      exact this
  · rw [hlw, hkD]
    exact i5
end KP
def FX0_keepF (x1 x2 : Int32) (z : GS) : Option (Int32 × GS) := if okI x1 6 ∧ (x2 < 0 ∨ (okI x2 50 ∧ okI x2 (gF z 43).toNatClampNeg)) then some (1, sI z 140 x1 (if x2 < 0 then -1 else 10 + x2)) else none
def FX0_keep (x1 x2 : Int32) (z : GS) : Option (Int32 × GS) := if FX0_isShelf x1 = 0 then some (-1, z) else if x2 = -1 then FX0_keepF x1 x2 z else if FX0_isBody x2 z = 0 then some (-1, z) else FX0_keepF x1 x2 z
theorem h10 {x : Int32} (h : okI x 50) : (10 + x).toInt = 10 + x.toInt := by
  obtain ⟨h1, h2⟩ := h
  rw [Int32.toInt_add, show (10 : Int32).toInt = 10 from rfl, Int.bmod]
  split <;> omega
theorem sI140 (z : GS) (x v : Int32) : kHold (kz (sI z 140 x v)) x.toNatClampNeg = v := by
  show (va_up z.2.1 140 (upd (z.2.1 140) x.toNatClampNeg v)) 140 x.toNatClampNeg = v
  rw [va_up_self]
  simp [upd]
theorem sI140n (z : GS) (x v : Int32) : ∀ q, q ≠ x.toNatClampNeg → (sI z 140 x v).2.1 140 q = z.2.1 140 q := by
  intro q hq
  show (va_up z.2.1 140 (upd (z.2.1 140) x.toNatClampNeg v)) 140 q = _
  rw [va_up_self]
  simp [upd, hq]
theorem sI140o (z : GS) (x v : Int32) : ∀ j, j ≠ 140 → (sI z 140 x v).2.1 j = z.2.1 j := fun j hj => va_up_ne z.2.1 _ hj
theorem metX0_keep (l : Launch) (D : va_G) (aC : Nat → ClassId) (A : Nat → Prop) (o : Nat) (la : LC) (x1 x2 : Int32) (z : GS) (r : Int32) (zq : GS) (h : FX0_keep x1 x2 z = some (r, zq)) : Met l yX0_keep (ws_ yX0_keep cX0_keep 3 (some .int)) ({ frames := 2, cells := 0, slots := 0, locals := 60 }) (va_Pc [.ref o, .int x1, .int x2] (PC D aC A o la z)) (QG (some (.int r)) (OCe D aC A o zq) A) 0 0 A := by
  refine g_ofW (cc := cX0_keep) (maxL := 3) (ret := (some .int)) (own := RX0) (by decide) rfl rfl [.ref o, .int x1, .int x2] (PC D aC A o la z) (Nat.le_of_ble_eq_true rfl) ?_
  intro p e s m below meth c ls hx hb hr hml hts hown hlocks hnm hPre hl
  obtain ⟨hO, hK, hA, hZ⟩ := hPre
  have hf : CallFix p m c cX0_keep 3 s _ lw_all RX0 := ⟨hx, hb, hml, hown, hts⟩
  have hl : lv_has ls 3 [(0, .ref o), (1, .int x1), (2, .int x2)] := hl
  refine g_open (A := A) (OC D aC A o la z) hO (fun H locs hO hS => ?_)
  unfold FX0_keep at h
  have hfin : FX0_keepF x1 x2 z = some (r, zq) → W p l e ({ frames := 2, cells := 0, slots := 0, locals := 60 }) s m ([.ref o, .int x1, .int x2] : List Value).toArray below meth c H locs 0 0 (MQ below (QG (some (.int r)) (OCe D aC A o zq) A) ([.ref o, .int x1, .int x2] : List Value).toArray s 0 0 A) (F0 m 22 ls []) := by
    intro h
    unfold FX0_keepF at h
    obtain ⟨⟨hin, hcase⟩, h⟩ := grd h
    have hsh := okI6 hin
    obtain ⟨e8, rfl⟩ := Prod.mk.inj (Option.some.inj h)
    have hc44 : H[lAd la 44]? = some (vp_cell (aC 12) (6, .inr (.inr (.inr (.inr (lQ la 44)))))) := oa_cell hO.1 (k := 44) (by decide) (d := 12) (n := 6) rfl rfl rfl
    have hA44 : A (lAd la 44) := hO.2.2.1.2.2.2.2.2.2 _ (by rw [hO.2.2.1.2.1 44 (by decide) rfl]; decide)
    refine lv_aload_n hx hb dX0_keep_22 rfl (lv_at hl 0 rfl) ?_
    refine X0_getA hx hb hts hown hK hO 44 (by decide) (Or.inl rfl) (hts _ q210) dX0_keep_23 ?_
    refine lv_iload_n hx hb dX0_keep_26 rfl (lv_at hl 1 rfl) ?_
    refine lv_iload_n hx hb dX0_keep_27 rfl (lv_at hl 2 rfl) ?_
    refine lv_if_ge (tgt := 35) hx hb dX0_keep_28 (by decide) (fun c1 => ?_) (fun c1 => ?_)
    · have c1 : ¬ x2 < 0 := Int32.not_lt.mpr c1
      rcases hcase with hneg | ⟨hi50, hib⟩
      · exact absurd hneg c1
      rw [if_neg c1]
      have hc42 : H[lAd la 42]? = some (vp_cell (aC 11) (50, .inr (.inr (.inr (.inr (lQ la 42)))))) := oa_cell hO.1 (k := 42) (by decide) (d := 11) (n := 50) rfl rfl rfl
      have hlt : x2.toNatClampNeg < kBods (kz z) := by
        have h1 : kBods (kz z) = (z.1 43).toNatClampNeg := rfl
        have h2 : gF z 43 = z.1 43 := rfl
        have h3 : x2.toNatClampNeg = x2.toInt.toNat := rfl
        have := hib.1
        have := hib.2
        rw [h2] at this
        omega
      obtain ⟨g0, b, g1, g2⟩ := hO.2.2.2.2.2.1 _ hlt
      have hci := bCi_lt (kA (kz z) 10 x2.toNatClampNeg).toNatClampNeg
      obtain ⟨rc, v1, v2⟩ := held_cast _ hci.1 (by have := hci.2; omega)
      refine lv_aload_n hx hb dX0_keep_35 rfl (lv_at hl 0 rfl) ?_
      refine X0_getA hx hb hts hown hK hO 42 (by decide) (Or.inl rfl) (hts _ q208) dX0_keep_36 ?_
      refine lv_iload_n hx hb dX0_keep_39 rfl (lv_at hl 2 rfl) ?_
      refine g_aald hx hb hc42 (hK.1.2 8 _ rfl).1 rfl hi50 (v := .ref b) (by rw [g1]; rfl) dX0_keep_40 ?_
      refine g_aast hx hb hK hc44 (hK.1.2 9 _ rfl).2 (hO.imm g2 v1) v1 (fun comp h => Vm.classAt_of_findClass h) (hK.castAsg v1 v2) hin dX0_keep_41 (fun H1 hc1 hz1 hq1 => ?_)
      have hS := hS.put (k := x1.toNatClampNeg) hz1 hq1 hA44
      have hx2 : nI x2.toNatClampNeg = x2 := by
        obtain ⟨n, hn, en⟩ := nI_of (x := x2) c1
        rw [en, nI_clamp hn]
      have hO1 := hO.shelfSet (z' := sI z 140 x1 (10 + x2)) (qa := lIa la x1.toNatClampNeg) (g := lTg la) hsh hc1 hq1 rfl (fun j h1 _ => sI140o z x1 _ j h1) (sI140n z x1 _) (fun q _ => congrFun (sI140o z x1 _ 141 (by decide)) q) (fun _ _ => rfl) rfl (fun _ _ => rfl) (Or.inl rfl)
        (fun hr9 => by
          exfalso
          unfold kRow at hr9
          rw [sI140, h10 hi50] at hr9
          have := hi50.1
          omega)
        (Or.inr (Or.inr ⟨x2.toNatClampNeg, hlt, by rw [sI140, hx2], g1.symm⟩))
      refine lv_iconst (v := 1) hx hb dX0_keep_42 (by decide) ?_
      exact g_retG hx hb hr hlocks e8 (P := OCe D aC A o _) ⟨_, hO1⟩ hS dX0_keep_43
    · have hneg : x2 < 0 := Int32.not_le.mp c1
      rw [if_pos hneg]
      refine lv_null hx hb dX0_keep_31 ?_
      refine lv_goto (tgt := 41) hx hb dX0_keep_32 (by decide) ?_
      refine g_aastN hx hb hc44 (hK.1.2 9 _ rfl).1 hin dX0_keep_41 (fun H1 hc1 hz1 hq1 => ?_)
      have hS := hS.put (k := x1.toNatClampNeg) hz1 hq1 hA44
      have hO1 := hO.shelfSet (z' := sI z 140 x1 (-1)) (qa := lIa la x1.toNatClampNeg) (g := lTg la) hsh hc1 hq1 rfl (fun j h1 _ => sI140o z x1 _ j h1) (sI140n z x1 _) (fun q _ => congrFun (sI140o z x1 _ 141 (by decide)) q) (fun _ _ => rfl) rfl (fun _ _ => rfl) (Or.inl rfl)
        (fun hr9 => by
          exfalso
          unfold kRow at hr9
          rw [sI140] at hr9
          exact absurd hr9.1 (by decide))
        (Or.inl ⟨sI140 z x1 _, rfl⟩)
      refine lv_iconst (v := 1) hx hb dX0_keep_42 (by decide) ?_
      exact g_retG hx hb hr hlocks e8 (P := OCe D aC A o _) ⟨_, hO1⟩ hS dX0_keep_43
  refine lv_iload_n hx hb dX0_keep_0 rfl (lv_at hl 1 rfl) ?_
  refine clX0_isShelf hf (metX0_isShelf l x1 _ rfl) q474 hl.1 (Nat.le_of_ble_eq_true rfl) ⟨Nat.le_of_ble_eq_true rfl, Nat.le_of_ble_eq_true rfl⟩ ⟨Nat.le_of_ble_eq_true rfl, Nat.le_of_ble_eq_true rfl⟩ dX0_keep_1 ?_
  refine lv_if_eq (tgt := 20) hx hb dX0_keep_4 (by decide) (fun c1 => ?_) (fun c1 => ?_)
  · have h := it_t c1 h
    obtain ⟨e8, rfl⟩ := Prod.mk.inj (Option.some.inj h)
    refine lv_iconst (v := (-1)) hx hb dX0_keep_20 (by decide) ?_
    exact g_retG hx hb hr hlocks e8 (P := OCe D aC A o _) ⟨_, hO⟩ hS dX0_keep_21
  have h := it_f c1 h
  refine lv_iload_n hx hb dX0_keep_7 rfl (lv_at hl 2 rfl) ?_
  refine lv_iconst (v := (-1)) hx hb dX0_keep_8 (by decide) ?_
  refine lv_icmp_eq (tgt := 22) hx hb dX0_keep_9 (by decide) (fun c2 => ?_) (fun c2 => ?_)
  · exact hfin (it_t c2 h)
  have h := it_f c2 h
  refine lv_aload_n hx hb dX0_keep_12 rfl (lv_at hl 0 rfl) ?_
  refine lv_iload_n hx hb dX0_keep_13 rfl (lv_at hl 2 rfl) ?_
  refine clX0_isBody hf hK hO hA hZ hS (metX0_isBody l D aC A o la x2 z _ rfl) q1163 hl.1 (Nat.le_of_ble_eq_true rfl) ⟨Nat.le_of_ble_eq_true rfl, Nat.le_of_ble_eq_true rfl⟩ ⟨Nat.le_of_ble_eq_true rfl, Nat.le_of_ble_eq_true rfl⟩ dX0_keep_14 ?_
  refine lv_if_ne (tgt := 22) hx hb dX0_keep_17 (by decide) (fun c3 => ?_) (fun c3 => ?_)
  · exact hfin (it_f c3 h)
  · have h := it_t c3 h
    obtain ⟨e8, rfl⟩ := Prod.mk.inj (Option.some.inj h)
    refine lv_iconst (v := (-1)) hx hb dX0_keep_20 (by decide) ?_
    exact g_retG hx hb hr hlocks e8 (P := OCe D aC A o _) ⟨_, hO⟩ hS dX0_keep_21
