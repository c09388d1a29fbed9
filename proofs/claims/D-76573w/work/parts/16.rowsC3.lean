set_option maxRecDepth 100000
section RD
variable {p : Program} {l : Launch} {e : Env} {R : Room} {s : State} {m : MethodId} {args : Array Value} {below : List Frame} {meth : Method} {c : Code} {H H0 : Heap} {locs : List Loc} {cells slots : Nat} {Q : State → Prop}
variable {cc : ByteArray} {pc index n : Nat} {ls : Array Slot} {rest : List Value} {D : va_G} {A : Nat → Prop} {aC : Nat → ClassId} {o : Nat} {la : LC} {z : GS}
theorem clamp_toInt {z : Int32} (hz : ¬ z < 0) : z.toInt = (z.toNatClampNeg : Int) := by
  have hz0 : (0 : Int) ≤ z.toInt := by
    have := Int32.not_lt.mp hz
    simpa using Int32.le_iff_toInt_le.mp this
  show z.toInt = ((z.toInt.toNat : Nat) : Int)
  omega
/-- System.arraycopy of an int-like array (after va_copyi's proof), all other cells kept -/
theorem g_copyi {own : String} {a a0 n0 n1 : Nat} {c0 c1 : ClassId} {f g : Nat → Int32} {ty : FieldType} {sp dp k : Int32} (hx : p.tables.exec = Jvm.exec) (hb : c.code = cc) (hml : c.maxLocals = ls.size) (hown : s.vm.findClass own = some m.cls) (hlink : (Cond.methodLink own index arraycopyName).before args s = true) (hnat : (Cond.native arraycopyName).before args s = true) (hstat : (Cond.static arraycopyName).before args s = true) (hini : (Cond.initialized "java/lang/System").before args s = true)
    (hc0 : H[a0]? = some (vp_cell c0 (n0, .inl f))) (hc1 : H[a]? = some (vp_cell c1 (n1, .inl g))) (ht0 : ArrOfT s c0 ty) (ht1 : ArrOfT s c1 ty) (hprim : refKind ty = false)
    (h1 : ¬ sp < 0) (h2 : ¬ dp < 0) (h3 : ¬ k < 0) (h4 : sp.toNatClampNeg + k.toNatClampNeg ≤ n0) (h5 : dp.toNatClampNeg + k.toNatClampNeg ≤ n1) (hfit : ∀ i, i < k.toNatClampNeg → fits ty (.int (f (sp.toNatClampNeg + i))) = true)
    (hframes : 1 ≤ R.frames) (hlocals : (rest.map fun v => v.category).sum + (nativeFrameWords "java/lang/System" "arraycopy" 5 + 11) ≤ R.locals) (hdg : decode cc pc = .ok (.invokestatic index, 3))
    (kk : ∀ (H1 : Heap) (L : List Loc), (∀ q ∈ L, q.base = a) → H1[a]? = some (vp_cell c1 (n1, .inl (va_cpy f g sp.toNatClampNeg dp.toNatClampNeg k.toNatClampNeg))) → H1.size = H.size → (∀ q : Nat, q ≠ a → H1[q]? = H[q]?) → W p l e R s m args below meth c H1 (locs ++ L) cells slots Q (F0 m (pc + 3) ls rest)) : W p l e R s m args below meth c H locs cells slots Q (F0 m pc ls (.int k :: .int dp :: .ref a :: .int sp :: .ref a0 :: rest)) := by
  intro T hT X
  obtain ⟨-, k0, hk0, cm0, hkk0⟩ := ht0 n0 (fun j => .int (f j))
  obtain ⟨-, k1, hk1, cm1, hkk1⟩ := ht1 n1 (fun j => .int (g j))
  obtain ⟨vm', X', step⟩ := X.arraycopy hx hown hlink hnat hstat hini (src := a0) (dst := a) (cs := vp_cell c0 (n0, .inl f)) (cd := vp_cell c1 (n1, .inl g)) (srcPos := sp) (destPos := dp) (n := k) (by rw [hT]; exact hc0) (by rw [hT]; exact hc1)
    (fun _ h => by cases h) (fun _ h => by cases h) (fun h => by cases h) (fun h => by cases h) hk0 hk1 hkk0 hkk1 (by simp [hprim]) h1 h2 h3
    (by rw [clamp_toInt h1, clamp_toInt h3]; show ¬ _ > ((arrV c0 n0 (fun j => .int (f j))).slots.size : Int); rw [arrV_size]; omega)
    (by rw [clamp_toInt h2, clamp_toInt h3]; show ¬ _ > ((arrV c1 n1 (fun j => .int (g j))).slots.size : Int); rw [arrV_size]; omega)
    (fun vm₁ _ i hi => by
      have e : (vp_cell c0 (n0, .inl f)).slots.getD (sp.toNatClampNeg + i) .null = .int (f (sp.toNatClampNeg + i)) := by
        show (arrV c0 n0 (fun j => .int (f j))).slots.getD _ _ = _
        rw [Array.getD_eq_getD_getElem?, arrV_read _ _ (by omega)]
        rfl
      refine ⟨?_, ?_⟩
      · rw [e]
        exact hfit i hi
      · rw [e]
        exact trivial)
    (g := F0 m pc ls (.int k :: .int dp :: .ref a :: .int sp :: .ref a0 :: rest)) rfl (by rw [hml]) (rest := rest) rfl (by rw [hb]; exact hdg) hframes (by show 2 * 0 + _ + _ ≤ _; omega)
  have e1 : copied (vp_cell c0 (n0, .inl f)) (vp_cell c1 (n1, .inl g)) sp dp k = vp_cell c1 (n1, .inl (va_cpy f g sp.toNatClampNeg dp.toNatClampNeg k.toNatClampNeg)) := va_copied (fun z => .int z) c0 c1 f g h4
  rw [e1] at X' step
  have hl : a < H.size := (Array.getElem?_eq_some_iff.mp hc1).1
  have hheap : ((T.setVm vm').setCell a (vp_cell c1 (n1, .inl (va_cpy f g sp.toNatClampNeg dp.toNatClampNeg k.toNatClampNeg)))).heap = H.setIfInBounds a (vp_cell c1 (n1, .inl (va_cpy f g sp.toNatClampNeg dp.toNatClampNeg k.toNatClampNeg))) := by rw [← hT]; rfl
  obtain ⟨t, a1, b1⟩ := kk _ _ (fun q h => by
      obtain ⟨z, -, hz⟩ := List.mem_map.mp h
      rw [← hz]) (show (H.setIfInBounds a _)[a]? = some _ by simp [Array.getElem?_setIfInBounds, hl]) (by simp) (fun q hq => by simp [Array.getElem?_setIfInBounds, Ne.symm hq]) _ hheap X'
  exact ⟨t, step t a1, b1⟩
abbrev okC (n : Int32) : Prop := 0 ≤ n.toInt ∧ n.toInt ≤ 8
theorem va_S.putL {A : Nat → Prop} {H0 H H1 : Heap} {locs L : List Loc} {a : Nat} (h : va_S A H0 H locs) (z : H1.size = H.size) (oq : ∀ q : Nat, q ≠ a → H1[q]? = H[q]?) (ha : A a) (hL : ∀ q ∈ L, q.base = a) : va_S A H0 H1 (locs ++ L) := by
  refine ⟨by rw [z]; exact h.1, fun q h1 h2 => ?_, fun q hq => ?_⟩
  · rw [oq q (fun w => h2 (by rw [w]; exact ha))]
    exact h.2.1 q h1 h2
  · rcases List.mem_append.mp hq with w | w
    · exact h.2.2 q w
    · rw [hL q w]
      exact ha
theorem X0_copy (hx : p.tables.exec = Jvm.exec) (hb : c.code = cc) (hml : c.maxLocals = ls.size) (hts : ∀ w ∈ lw_all, w.before args s = true) (hown : s.vm.findClass RX0 = some m.cls) (hK : KC D aC s) (hO : OC D aC A o la z H) (hS : va_S A H0 H locs) (ks kd : Nat) (hks : ks < 45) (hkd : kd < 45) (h1 : kdC ks = 1) (h2 : kdC kd = 1) (l1 : lnC ks = 8) (l2 : lnC kd = 8) {k : Int32} (hk : okC k) (hlink : (Cond.methodLink RX0 index arraycopyName).before args s = true) (hframes : 1 ≤ R.frames) (hlocals : (rest.map fun v => v.category).sum + (nativeFrameWords "java/lang/System" "arraycopy" 5 + 11) ≤ R.locals) (hdg : decode cc pc = .ok (.invokestatic index, 3))
    (kk : ∀ (H1 : Heap) (locs1 : List Loc) (z1 : GS), z1 = sC z ks kd k → OC D aC A o la z1 H1 → va_S A H0 H1 locs1 → W p l e R s m args below meth c H1 locs1 cells slots Q (F0 m (pc + 3) ls rest)) : W p l e R s m args below meth c H locs cells slots Q (F0 m pc ls (.int k :: .int 0 :: .ref (lAd la kd) :: .int 0 :: .ref (lAd la ks) :: rest)) := by
  have a2 : oaA (kdC kd) = true := by rw [h2]; rfl
  have hc0 : H[lAd la ks]? = some (vp_cell (aC 1) (8, .inl (z.2.1 ks))) := (oa_cell hO.1 hks h1 l1 rfl).trans (by rw [oaC_i (by decide) (by decide)]; rfl)
  have hc1 : H[lAd la kd]? = some (vp_cell (aC 1) (8, .inl (z.2.1 kd))) := (oa_cell hO.1 hkd h2 l2 rfl).trans (by rw [oaC_i (by decide) (by decide)]; rfl)
  have hk0 : ¬ k < 0 := by
    rw [Int32.lt_iff_toInt_lt]
    have := hk.1
    show ¬ k.toInt < 0
    omega
  have hk8 : k.toNatClampNeg ≤ 8 := by
    show k.toInt.toNat ≤ 8
    have := hk.2
    omega
  refine g_copyi hx hb hml hown hlink (hts _ q925) (hts _ q924) (hts _ q117) hc0 hc1 (hK.1.2 0 _ rfl).1 (hK.1.2 0 _ rfl).1 rfl (by decide) (by decide) hk0 (by show 0 + _ ≤ 8; omega) (by show 0 + _ ≤ 8; omega) (fun _ _ => rfl) hframes hlocals hdg fun H1 L hL e1 z1 oq => ?_
  refine kk H1 _ _ rfl (hO.setI hkd a2 (kz_sC (by omega)) (fun j hj => by simp [sC, va_up, hj]) rfl ?_ oq) (hS.putL z1 oq (hO.2.2.1.2.2.2.2.2.2 _ (by rw [hO.2.2.1.2.1 kd hkd a2]; omega)) hL)
  have hD := OC_OD hO.2.2.1
  refine ⟨(hO.1.1.kept (oq o (Ne.symm (hD.2.1 kd hkd a2)))).to (fun j _ => by simp [oaV, zx, sC]), fun j hj hja => ?_⟩
  by_cases hjk : j = kd
  · subst hjk
    rw [e1, h2, oaC_i (by decide) (by decide), l2]
    simp [zx, sC, va_up]
  · rw [oq _ (fun q => hjk (hD.1 j kd hj hkd hja a2 q)), hO.1.2 j hj hja]
    simp [oaC, zx, sC, va_up, hjk]
end RD
/-! the facts are laid clear: ShieldLine$Facts.clear -/
def FX1_clear (z : GS) : GS := (z.1, va_up z.2.1 110 (fun _ => 0), z.2.2)
theorem OC.ext110 {D : va_G} {aC : Nat → ClassId} {A : Nat → Prop} {o : Nat} {la : LC} {z : GS} {H : Heap} {g g' : Nat → Int32} (hO : OC D aC A o la (z.1, va_up z.2.1 110 g, z.2.2) H) (h : ∀ j, j < 128 → g j = g' j) : OC D aC A o la (z.1, va_up z.2.1 110 g', z.2.2) H := by
  have e : (z.1, va_up z.2.1 110 g', z.2.2) = (((z.1, va_up z.2.1 110 g, z.2.2) : GS).1, va_up ((z.1, va_up z.2.1 110 g, z.2.2) : GS).2.1 110 g', ((z.1, va_up z.2.1 110 g, z.2.2) : GS).2.2) := by
    show _ = (z.1, va_up (va_up z.2.1 110 g) 110 g', z.2.2)
    congr 2
    funext k
    by_cases hk : k = 110 <;> simp [va_up, hk]
  rw [e]
  refine hO.setN ?_ (fun _ _ => rfl)
  rw [hO.2.1.1]
  simp only [vp_cell_i, va_up_self]
  have : ∀ (n : Nat) (f1 f2 : Nat → Value), (∀ j, j < n → f1 j = f2 j) → arrV (aC 1) n f1 = arrV (aC 1) n f2 := by
    intro n f1 f2 h
    simp only [arrV]
    congr 2
    funext j
    exact h j.val j.isLt
  rw [this 128 _ (fun j => .int (g' j)) (fun j hj => by rw [h j hj])]
theorem nfw_le : (([] : List Value).map fun v => v.category).sum + (nativeFrameWords "java/lang/System" "arraycopy" 5 + 11) ≤ 60 := by decide
