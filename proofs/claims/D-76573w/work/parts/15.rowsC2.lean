set_option maxRecDepth 100000
abbrev okG (i : Int32) (z : GS) : Prop := 0 ≤ i.toInt ∧ i.toInt < (z.1 201).toInt ∧ i.toInt < 40
def lCa (la : LC) (j : Nat) : Nat := (lQ la 4 j).getD 0
def sC (z : GS) (ks kd : Nat) (n : Int32) : GS := (z.1, va_up z.2.1 kd (va_cpy (z.2.1 ks) (z.2.1 kd) 0 0 n.toNatClampNeg), z.2.2)
theorem kz_sC {z : GS} {ks kd : Nat} {n : Int32} (h : kd < 120) : kz (sC z ks kd n) = kz z := by
  have : ∀ q, (120 + q = kd) = False := fun q => by simp; omega
  simp [kz, sC, va_up, this]
section RC
variable {p : Program} {l : Launch} {e : Env} {R : Room} {s : State} {m : MethodId} {args : Array Value} {below : List Frame} {meth : Method} {c : Code} {H H0 : Heap} {locs : List Loc} {cells slots : Nat} {Q : State → Prop}
variable {cc : ByteArray} {pc index n : Nat} {ls : Array Slot} {rest : List Value} {D : va_G} {A : Nat → Prop} {aC : Nat → ClassId} {o : Nat} {la : LC} {z : GS}
/-- arrays by their cell, any length -/
theorem g_aald {a n : Nat} {cA : ClassId} {ty : FieldType} {f : Nat → Option Nat} {i : Int32} {v : Value} (hx : p.tables.exec = Jvm.exec) (hb : c.code = cc) (hc : H[a]? = some (vp_cell cA (n, .inr (.inr (.inr (.inr f)))))) (harr : ArrOfT s cA ty) (href : ty.isReference = true) (hin : okI i n) (hv : va_rf (f i.toNatClampNeg) = v) (hdg : decode cc pc = .ok (.aaload, 1)) (kk : W p l e R s m args below meth c H locs cells slots Q (F0 m (pc + 1) ls (v :: rest))) : W p l e R s m args below meth c H locs cells slots Q (F0 m pc ls (.int i :: .ref a :: rest)) := by
  have hlt : i.toNatClampNeg < n := by
    show i.toInt.toNat < n
    have := hin.1; have := hin.2; omega
  refine W.aald (ty := ty) hx hb hc (harr n (fun j => va_rf (f j))) href (fun q => by cases q) (by show ¬ (i < 0 ∨ (arrV _ _ _).slots.size ≤ _); rw [arrV_size]; exact okI_in hin) (v := v) ?_ rfl rfl hdg kk
  show (arrV _ _ _).slots[_]? = _
  rw [arrV_read _ _ hlt, hv]
theorem g_iast {a n : Nat} {cA : ClassId} {f : Nat → Int32} {i x : Int32} (hx : p.tables.exec = Jvm.exec) (hb : c.code = cc) (hc : H[a]? = some (vp_cell cA (n, .inl f))) (harr : ArrOfT s cA .int) (hin : okI i n) (hdg : decode cc pc = .ok (.iastore, 1)) (kk : ∀ (H1 : Heap), H1[a]? = some (vp_cell cA (n, .inl (upd f i.toNatClampNeg x))) → H1.size = H.size → (∀ q : Nat, q ≠ a → H1[q]? = H[q]?) → W p l e R s m args below meth c H1 (locs ++ [⟨a, i.toNatClampNeg⟩]) cells slots Q (F0 m (pc + 1) ls rest)) : W p l e R s m args below meth c H locs cells slots Q (F0 m pc ls (.int x :: .int i :: .ref a :: rest)) := by
  refine W.iast hx hb hc (harr n (fun j => .int (f j))) (fun q => by cases q) (by show ¬ (i < 0 ∨ (arrV _ _ _).slots.size ≤ _); rw [arrV_size]; exact okI_in hin) rfl rfl hdg fun H1 e1 e2 oq => ?_
  refine kk H1 ?_ e2 oq
  rw [e1, vp_cell_i, vp_cell_i, arrV_store]
  congr 2
  funext q
  by_cases hq : q = i.toNatClampNeg <;> simp [updV, upd, hq]
theorem X0_same (k : Nat) : ∀ x, s.fieldFound? (TX0 k).1 (TX0 k).2.1 (TX0 k).2.2.1 = some x → s.fieldFound? RX0 (TX0 k).2.1 (TX0 k).2.2.1 = some x := by
  intro x h
  rw [TX0_own] at h
  exact h
theorem X3_same (k : Nat) : ∀ x, s.fieldFound? (TX3 k).1 (TX3 k).2.1 (TX3 k).2.2.1 = some x → s.fieldFound? RX3 (TX3 k).2.1 (TX3 k).2.2.1 = some x := by
  intro x h
  rw [TX3_own] at h
  exact h
theorem TX4_own (k : Nat) : (TX4 k).1 = RX4 := by unfold TX4; split <;> rfl
theorem X4_same (k : Nat) : ∀ x, s.fieldFound? (TX4 k).1 (TX4 k).2.1 (TX4 k).2.2.1 = some x → s.fieldFound? RX4 (TX4 k).2.1 (TX4 k).2.2.1 = some x := by
  intro x h
  rw [TX4_own] at h
  exact h
theorem X0_getV (hx : p.tables.exec = Jvm.exec) (hb : c.code = cc) (hts : ∀ w ∈ lw_all, w.before args s = true) (hown : s.vm.findClass RX0 = some m.cls) (hK : KC D aC s) (hO : OC D aC A o la z H) (k : Nat) (hk : k < 45) {v : Value} (hv : oaV kdC (lAd la) (zx la z) k = v) (hlink : (Cond.fieldLink RX0 index RX0 (TX0 k).2.1 (TX0 k).2.2.1).before args s = true) (hdg : decode cc pc = .ok (.getfield index, 3)) (kk : W p l e R s m args below meth c H locs cells slots Q (F0 m (pc + 3) ls (v :: rest))) : W p l e R s m args below meth c H locs cells slots Q (F0 m pc ls (.ref o :: rest)) :=
  oa_get hx hb hts in_X0 hown hK.1 hO.1 rfl k hk hlink (X0_same k) hv hdg kk
theorem X0_getF (hx : p.tables.exec = Jvm.exec) (hb : c.code = cc) (hts : ∀ w ∈ lw_all, w.before args s = true) (hown : s.vm.findClass RX0 = some m.cls) (hK : KC D aC s) (hO : OC D aC A o la z H) (k : Nat) (hk : k < 45) (h0 : kdC k = 0) (hlink : (Cond.fieldLink RX0 index RX0 (TX0 k).2.1 (TX0 k).2.2.1).before args s = true) (hdg : decode cc pc = .ok (.getfield index, 3)) (kk : W p l e R s m args below meth c H locs cells slots Q (F0 m (pc + 3) ls (.int (gF z k) :: rest))) : W p l e R s m args below meth c H locs cells slots Q (F0 m pc ls (.ref o :: rest)) :=
  X0_getV hx hb hts hown hK hO k hk (by unfold oaV; rw [if_pos h0]; rfl) hlink hdg kk
theorem X0_getA (hx : p.tables.exec = Jvm.exec) (hb : c.code = cc) (hts : ∀ w ∈ lw_all, w.before args s = true) (hown : s.vm.findClass RX0 = some m.cls) (hK : KC D aC s) (hO : OC D aC A o la z H) (k : Nat) (hk : k < 45) (h0 : oaA (kdC k) = true ∨ k = 10) (hlink : (Cond.fieldLink RX0 index RX0 (TX0 k).2.1 (TX0 k).2.2.1).before args s = true) (hdg : decode cc pc = .ok (.getfield index, 3)) (kk : W p l e R s m args below meth c H locs cells slots Q (F0 m (pc + 3) ls (.ref (lAd la k) :: rest))) : W p l e R s m args below meth c H locs cells slots Q (F0 m pc ls (.ref o :: rest)) := by
  refine X0_getV hx hb hts hown hK hO k hk ?_ hlink hdg kk
  rcases h0 with h0 | h0
  · simp [oaA] at h0
    simp [oaV, h0]
  · subst h0
    rfl
theorem X0_getLaw (hx : p.tables.exec = Jvm.exec) (hb : c.code = cc) (hts : ∀ w ∈ lw_all, w.before args s = true) (hown : s.vm.findClass RX0 = some m.cls) (hK : KC D aC s) (hO : OC D aC A o la z H) (hlink : (Cond.fieldLink RX0 index RX0 (TX0 9).2.1 (TX0 9).2.2.1).before args s = true) (hdg : decode cc pc = .ok (.getfield index, 3)) (kk : W p l e R s m args below meth c H locs cells slots Q (F0 m (pc + 3) ls (va_rf (lLw la) :: rest))) : W p l e R s m args below meth c H locs cells slots Q (F0 m pc ls (.ref o :: rest)) :=
  X0_getV hx hb hts hown hK hO 9 (by decide) rfl hlink hdg kk
theorem X0_ifnull (hx : p.tables.exec = Jvm.exec) (hb : c.code = cc) (hO : OC D aC A o la z H) {off : Int} {tgt : Nat} (hdg : decode cc pc = .ok (.ifnull off, 3)) (ht : (pc : Int) + off = (tgt : Int)) (kt : gF z 202 = 0 → W p l e R s m args below meth c H locs cells slots Q (F0 m tgt ls rest)) (kf : ¬ gF z 202 = 0 → W p l e R s m args below meth c H locs cells slots Q (F0 m (pc + 3) ls rest)) : W p l e R s m args below meth c H locs cells slots Q (F0 m pc ls (va_rf (lLw la) :: rest)) := by
  rcases hO.2.2.2.2.2.2.2 with ⟨h1, h2⟩ | ⟨h1, a, h2, -⟩
  · rw [h2]
    exact lv_ifnullN hx hb hdg ht (kt h1)
  · rw [h2]
    exact lv_ifnull hx hb hdg (kf h1)
theorem OC.putF {H1 : Heap} {k : Nat} {v : Int32} (hO : OC D aC A o la z H) (h1 : k ≠ 1) (h43 : k ≠ 43) (hk : k < 45) (hOA : OA D aC 0 45 kdC lnC o (lAd la) (sF (zx la z) k v) H1) (oq : ∀ q : Nat, q ≠ o → H1[q]? = H[q]?) : OC D aC A o la (sF z k v) H1 := by
  have hkz : kz (sF z k v) = kz z := kz_sF h1 h43 (by omega) (by omega)
  refine ⟨hOA, hO.2.1.kept hO.2.2.1 hkz rfl (fun _ _ => rfl) (fun _ _ => rfl) (Or.inl hO.2.2.1.1) oq, ?_, ?_⟩
  · rw [hkz]; exact hO.2.2.1
  · rw [hkz]; exact hO.2.2.2
theorem X0_putF (hx : p.tables.exec = Jvm.exec) (hb : c.code = cc) (hts : ∀ w ∈ lw_all, w.before args s = true) (hown : s.vm.findClass RX0 = some m.cls) (hK : KC D aC s) (hO : OC D aC A o la z H) (hS : va_S A H0 H locs) (k : Nat) (hk : k < 45) (h0 : kdC k = 0) (h1 : k ≠ 1) (h43 : k ≠ 43) (hlink : (Cond.fieldLink RX0 index RX0 (TX0 k).2.1 (TX0 k).2.2.1).before args s = true) (hfin : (TX0 k).2.2.2 = false) {ty : FieldType} {v : Int32} (hd : parseFieldDescriptor (TX0 k).2.2.1 = some ty) (hn : narrow ty (.int v) = .int v) (hfit : fits ty (.int v) = true) (hdg : decode cc pc = .ok (.putfield index, 3)) (kk : ∀ (H1 : Heap) (locs1 : List Loc) (z1 : GS), z1 = sF z k v → OC D aC A o la z1 H1 → va_S A H0 H1 locs1 → W p l e R s m args below meth c H1 locs1 cells slots Q (F0 m (pc + 3) ls rest)) : W p l e R s m args below meth c H locs cells slots Q (F0 m pc ls (.int v :: .ref o :: rest)) :=
  oa_putF hx hb hts in_X0 tyX0 tyX0_ok nmX0 hown hK.1 hO.1 (OC_OD hO.2.2.1) hS rfl k hk h0 hlink (X0_same k) hfin hd hn hfit hdg (fun H1 l1 z1 e1 g1 g2 _ g4 => kk H1 l1 _ rfl (hO.putF h1 h43 hk (by rw [e1] at g1; exact g1) g4) g2)
theorem X0_iaload (hx : p.tables.exec = Jvm.exec) (hb : c.code = cc) (hK : KC D aC s) (hO : OC D aC A o la z H) (k : Nat) (hk : k < 45) (h1 : kdC k = 1) (hn : lnC k = n) {i : Int32} (hin : okI i n) (hdg : decode cc pc = .ok (.iaload, 1)) (kk : W p l e R s m args below meth c H locs cells slots Q (F0 m (pc + 1) ls (.int (gI z k i) :: rest))) : W p l e R s m args below meth c H locs cells slots Q (F0 m pc ls (.int i :: .ref (lAd la k) :: rest)) :=
  oa_iald hx hb hK.1 hO.1 k hk h1 hn 0 rfl hin hdg kk
theorem X0_baload (hx : p.tables.exec = Jvm.exec) (hb : c.code = cc) (hK : KC D aC s) (hO : OC D aC A o la z H) (k : Nat) (hk : k < 45) (h1 : kdC k = 2) (hn : lnC k = n) {i : Int32} (hin : okI i n) (hdg : decode cc pc = .ok (.baload, 1)) (kk : W p l e R s m args below meth c H locs cells slots Q (F0 m (pc + 1) ls (.int (gI z k i) :: rest))) : W p l e R s m args below meth c H locs cells slots Q (F0 m pc ls (.int i :: .ref (lAd la k) :: rest)) :=
  oa_bald hx hb hK.1 hO.1 k hk h1 hn 1 rfl hin hdg kk
theorem OC.setI {H1 : Heap} {k : Nat} {z1 : GS} (hO : OC D aC A o la z H) (hk : k < 45) (ha : oaA (kdC k) = true) (hkz : kz z1 = kz z) (h2 : ∀ j, j ≠ k → z1.2.1 j = z.2.1 j) (h3 : z1.2.2 = z.2.2) (hOA : OA D aC 0 45 kdC lnC o (lAd la) (zx la z1) H1) (oq : ∀ q : Nat, q ≠ lAd la k → H1[q]? = H[q]?) : OC D aC A o la z1 H1 := by
  refine ⟨hOA, hO.2.1.kept hO.2.2.1 hkz (h2 _ (by omega)) (fun f _ => h2 _ (by omega)) (fun _ _ => by rw [h3]) (a := lAd la k) (Or.inr ?_) oq, ?_, ?_⟩
  · rw [hO.2.2.1.2.1 k hk ha]; omega
  · rw [hkz]; exact hO.2.2.1
  · rw [hkz]; exact hO.2.2.2
theorem X0_iastore (hx : p.tables.exec = Jvm.exec) (hb : c.code = cc) (hK : KC D aC s) (hO : OC D aC A o la z H) (hS : va_S A H0 H locs) (k : Nat) (hk : k < 45) (h1 : kdC k = 1) (hn : lnC k = n) {i x : Int32} (hin : okI i n) (hdg : decode cc pc = .ok (.iastore, 1)) (kk : ∀ (H1 : Heap) (locs1 : List Loc) (z1 : GS), z1 = sI z k i x → OC D aC A o la z1 H1 → va_S A H0 H1 locs1 → W p l e R s m args below meth c H1 locs1 cells slots Q (F0 m (pc + 1) ls rest)) : W p l e R s m args below meth c H locs cells slots Q (F0 m pc ls (.int x :: .int i :: .ref (lAd la k) :: rest)) :=
  oa_iast hx hb hK.1 hO.1 (OC_OD hO.2.2.1) hS k hk h1 hn 0 rfl hin hdg (fun H1 l1 z1 e1 g1 g2 _ g4 => kk H1 l1 _ rfl (hO.setI hk (by rw [h1]; rfl) (kz_sI (by omega)) (fun j hj => by simp [sI, va_up, hj]) rfl (by rw [e1] at g1; exact g1) g4) g2)
theorem X0_bastore (hx : p.tables.exec = Jvm.exec) (hb : c.code = cc) (hK : KC D aC s) (hO : OC D aC A o la z H) (hS : va_S A H0 H locs) (k : Nat) (hk : k < 45) (h1 : kdC k = 2) (hn : lnC k = n) {i x : Int32} (hin : okI i n) (hdg : decode cc pc = .ok (.bastore, 1)) (kk : ∀ (H1 : Heap) (locs1 : List Loc) (z1 : GS), z1 = sI z k i x.toInt8.toInt32 → OC D aC A o la z1 H1 → va_S A H0 H1 locs1 → W p l e R s m args below meth c H1 locs1 cells slots Q (F0 m (pc + 1) ls rest)) : W p l e R s m args below meth c H locs cells slots Q (F0 m pc ls (.int x :: .int i :: .ref (lAd la k) :: rest)) :=
  oa_bast hx hb hK.1 hO.1 (OC_OD hO.2.2.1) hS k hk h1 hn 1 rfl hin hdg (fun H1 l1 z1 e1 g1 g2 _ g4 => kk H1 l1 _ rfl (hO.setI hk (by rw [h1]; rfl) (kz_sI (by omega)) (fun j hj => by simp [sI, va_up, hj]) rfl (by rw [e1] at g1; exact g1) g4) g2)
/-- one of the people -/
theorem X0_paald (hx : p.tables.exec = Jvm.exec) (hb : c.code = cc) (hK : KC D aC s) (hO : OC D aC A o la z H) {i : Int32} (hin : okP i z) (hdg : decode cc pc = .ok (.aaload, 1)) (kk : W p l e R s m args below meth c H locs cells slots Q (F0 m (pc + 1) ls (.ref (lPa la i.toNatClampNeg) :: rest))) : W p l e R s m args below meth c H locs cells slots Q (F0 m pc ls (.int i :: .ref (lAd la 0) :: rest)) := by
  have hc : H[lAd la 0]? = some (vp_cell (aC 9) (8, .inr (.inr (.inr (.inr (lQ la 0)))))) := oa_cell hO.1 (k := 0) (by decide) (d := 9) (n := 8) rfl rfl rfl
  have hi : okI i 8 := ⟨hin.1, by have := hin.2; omega⟩
  exact g_aald hx hb hc (hK.1.2 6 _ rfl).1 rfl hi (by rw [(hO.2.1.2.1 _ (okP_lt hin)).1]; rfl) hdg kk
theorem X0_getP (hx : p.tables.exec = Jvm.exec) (hb : c.code = cc) (hts : ∀ w ∈ lw_all, w.before args s = true) (hown : s.vm.findClass RX0 = some m.cls) (hK : KC D aC s) (hO : OC D aC A o la z H) {i : Int32} (hin : okP i z) (f : Nat) (hf : f < 5) {host : String} (hlink : (Cond.fieldLinkNest RX0 index RX3 (TX3 f).2.1 (TX3 f).2.2.1 host).before args s = true) (hdg : decode cc pc = .ok (.getfield index, 3)) (kk : W p l e R s m args below meth c H locs cells slots Q (F0 m (pc + 3) ls (.int (gI z (100 + f) i) :: rest))) : W p l e R s m args below meth c H locs cells slots Q (F0 m pc ls (.ref (lPa la i.toNatClampNeg) :: rest)) := by
  obtain ⟨-, cell, q1, q2, q3, q4⟩ := hO.2.1.2.1 _ (okP_lt hin)
  obtain ⟨hS, hfc, kC, hkC, hkind⟩ := hK.1.1 3 _ rfl
  obtain ⟨cf, kf, fi, fd, hi, hsl⟩ := hS f hf
  refine va_Wgetf hx hb hown hlink (X3_same f _ hi) (u_facts hfc hkC (u_lays hts in_X3 hf) hi).1 q1 (by rw [q3]; exact fun h => by cases h) (v := .int (gI z (100 + f) i)) ?_ rfl rfl hdg kk
  rw [hsl, q4 f hf]
  rfl
theorem X0_putP (hx : p.tables.exec = Jvm.exec) (hb : c.code = cc) (hts : ∀ w ∈ lw_all, w.before args s = true) (hown : s.vm.findClass RX0 = some m.cls) (hK : KC D aC s) (hO : OC D aC A o la z H) (hS0 : va_S A H0 H locs) {i : Int32} (hin : okP i z) (f : Nat) (hf : f < 5) {v : Int32} {host : String} (hlink : (Cond.fieldLinkNest RX0 index RX3 (TX3 f).2.1 (TX3 f).2.2.1 host).before args s = true) (hfin : (TX3 f).2.2.2 = false) (hd : parseFieldDescriptor (TX3 f).2.2.1 = some .int) (hdg : decode cc pc = .ok (.putfield index, 3)) (kk : ∀ (H1 : Heap) (locs1 : List Loc) (z1 : GS), z1 = sI z (100 + f) i v → OC D aC A o la z1 H1 → va_S A H0 H1 locs1 → W p l e R s m args below meth c H1 locs1 cells slots Q (F0 m (pc + 3) ls rest)) : W p l e R s m args below meth c H locs cells slots Q (F0 m pc ls (.int v :: .ref (lPa la i.toNatClampNeg) :: rest)) := by
  have hap := va_apart (own := RX0) hts in_X3 tyX3 tyX3_ok nmX3 hK.1 (ci := 3) rfl
  have hlt := okP_lt hin
  obtain ⟨-, cell, q1, q2, q3, q4⟩ := hO.2.1.2.1 _ hlt
  obtain ⟨hS, hfc, kC, hkC, hkind⟩ := hK.1.1 3 _ rfl
  obtain ⟨cf, kf, fi, fd, hi, hsl⟩ := hS f hf
  have hlay := hts _ (in_X3 _ (u_in_lay hf))
  unfold u_lay at hlay
  rw [if_neg (by rw [hfin]; decide)] at hlay
  have hst := (u_facts hfc hkC (u_lays hts in_X3 hf) hi).1
  have h6 := u_store (v := .int v) hfc hkC hkind hlay hi hd rfl rfl
  obtain ⟨t1, t2, t3, t4, t5, t6, t7⟩ := hO.2.2.1
  have ta := t4 _ hlt
  have hi8 : i.toNatClampNeg < 8 := by
    show i.toInt.toNat < 8
    have := hin.2; omega
  refine va_WputK hx hb (f := fd) hown hlink (X3_same f _ hi) hst (by rw [q2]; exact h6) q1 q3 (by rw [hsl]; exact k2_hasslot (q4 f hf)) rfl rfl hdg fun H' e1 e2 e3 => ?_
  rw [hsl] at e1 ⊢
  have hkz : kz (sI z (100 + f) i v) = kz z := kz_sI (by omega)
  refine kk H' _ _ rfl ⟨?_, ⟨?_, fun j hj => ?_, fun sh hs hr => ?_, fun b e9 hb9 => ?_⟩, by rw [hkz]; exact hO.2.2.1, by rw [hkz]; exact hO.2.2.2⟩ (hS0.put e2 e3 (t7 _ (by rw [ta]; omega)))
  · have h0 := hO.1.kept (H1 := H') (e3 _ (fun q => by rw [← q] at ta; omega)) (fun k hk ha => e3 _ (fun q => by have := t2 k hk ha; rw [q] at this; omega))
    refine ⟨h0.1, fun k hk ha => ?_⟩
    rw [h0.2 k hk ha]
    have : k ≠ 100 + f := by omega
    simp [oaC, zx, sI, va_up, this]
  · rw [e3 _ (fun q => by rw [← q] at ta; omega), hO.2.1.1]
    have : (110 : Nat) ≠ 100 + f := by omega
    simp [sI, va_up, this]
  · rw [hkz] at hj
    obtain ⟨g1, g2⟩ := hO.2.1.2.1 j hj
    refine ⟨g1, ?_⟩
    by_cases hji : j = i.toNatClampNeg
    · subst hji
      refine t_OB.to (V := updV (fun f => .int (z.2.1 (100 + f) i.toNatClampNeg)) f (.int v)) ⟨_, e1, q2, q3, t_set q4 hap hf _⟩ (fun g hg => ?_)
      by_cases hgf : g = f
      · subst hgf
        simp [updV, sI, va_up, upd]
      · have : (100 + g = 100 + f) = False := by simp; omega
        simp [updV, sI, va_up, hgf]
    · have hne : lPa la j ≠ lPa la i.toNatClampNeg := fun q => by have := t4 j hj; rw [q, ta] at this; omega
      refine (g2.kept (e3 _ hne)).to (fun g hg => ?_)
      by_cases hgf : g = f
      · subst hgf
        simp [sI, va_up, upd, hji]
      · simp [sI, va_up, hgf]
  · rw [hkz] at hr ⊢
    have := t5 sh hs hr
    rw [e3 _ (fun q => by rw [q] at this; omega)]
    exact hO.2.1.2.2.1 sh hs hr
  · obtain ⟨r, g1, g2⟩ := hO.2.1.2.2.2 b e9 hb9
    have := t6 b e9 hb9
    exact ⟨r, g1, g2.kept (e3 _ (fun q => by rw [q] at this; omega))⟩
/-- an object that doesn't change -/
theorem OC.imm {a ci : Nat} {F : Nat → Value} {C : String} {T : u_T} {N : Nat} (hO : OC D aC A o la z H) (h : lIm la a = some (ci, F)) (hc : vwCl[ci]? = some (C, T, N)) : t_OB a (D.1 ci) N (D.2 ci) H F := by
  obtain ⟨r, g1, g2⟩ := hO.2.1.2.2.2 a _ h
  cases hc.symm.trans g1
  exact g2
theorem X0_getNamed (hx : p.tables.exec = Jvm.exec) (hb : c.code = cc) (hts : ∀ w ∈ lw_all, w.before args s = true) (hown : s.vm.findClass RX0 = some m.cls) (hK : KC D aC s) (hO : OC D aC A o la z H) {host : String} (hlink : (Cond.fieldLinkNest RX0 index RX1 (TX1 0).2.1 (TX1 0).2.2.1 host).before args s = true) (hdg : decode cc pc = .ok (.getfield index, 3)) (kk : W p l e R s m args below meth c H locs cells slots Q (F0 m (pc + 3) ls (.ref (lFn la) :: rest))) : W p l e R s m args below meth c H locs cells slots Q (F0 m pc ls (.ref (lAd la 10) :: rest)) := by
  obtain ⟨cell, q1, q2, q3, q4⟩ := hO.imm hO.2.2.2.1 (ci := 1) rfl
  obtain ⟨hS, hfc, kC, hkC, hkind⟩ := hK.1.1 1 _ rfl
  obtain ⟨cf, kf, fi, fd, hi, hsl⟩ := hS 0 (by decide)
  refine va_Wgetf hx hb hown hlink hi (u_facts hfc hkC (u_lays hts in_X1 (k := 0) (by decide)) hi).1 q1 (by rw [q3]; exact fun h => by cases h) (v := .ref (lFn la)) ?_ rfl rfl hdg kk
  rw [hsl, q4 0 (by decide)]
theorem OC.setN {H1 : Heap} {g : Nat → Int32} (hO : OC D aC A o la z H) (e : H1[lFn la]? = some (vp_cell (aC 1) (128, .inl g))) (oq : ∀ q : Nat, q ≠ lFn la → H1[q]? = H[q]?) : OC D aC A o la (z.1, va_up z.2.1 110 g, z.2.2) H1 := by
  obtain ⟨t1, t2, t3, t4, t5, t6, t7⟩ := hO.2.2.1
  have hkz : kz (z.1, va_up z.2.1 110 g, z.2.2) = kz z := by
    have : ∀ q, (120 + q = 110) = False := fun q => by simp; omega
    simp [kz, va_up, this]
  have ne : ∀ b, lTg la b ≠ 2 → b ≠ lFn la := fun b hb q => hb (by rw [q]; exact t3)
  refine ⟨?_, ⟨?_, fun j hj => ?_, fun sh hs hr => ?_, fun b e9 hb9 => ?_⟩, by rw [hkz]; exact hO.2.2.1, by rw [hkz]; exact hO.2.2.2⟩
  · have h0 := hO.1.kept (H1 := H1) (oq _ (ne _ (by rw [t1]; decide))) (fun k hk ha => oq _ (ne _ (by rw [t2 k hk ha]; omega)))
    refine ⟨h0.1, fun k hk ha => ?_⟩
    rw [h0.2 k hk ha]
    have : k ≠ 110 := by omega
    simp [oaC, zx, va_up, this]
  · rw [e]
    simp [va_up]
  · rw [hkz] at hj
    obtain ⟨g1, g2⟩ := hO.2.1.2.1 j hj
    refine ⟨g1, (g2.kept (oq _ (ne _ (by rw [t4 j hj]; omega)))).to (fun f hf => ?_)⟩
    have : (100 + f = 110) = False := by simp; omega
    simp [va_up, this]
  · rw [hkz] at hr ⊢
    rw [oq _ (ne _ (by rw [t5 sh hs hr]; omega))]
    exact hO.2.1.2.2.1 sh hs hr
  · obtain ⟨r, g1, g2⟩ := hO.2.1.2.2.2 b e9 hb9
    exact ⟨r, g1, g2.kept (oq _ (ne _ (by rw [t6 b e9 hb9]; decide)))⟩
theorem X0_nastore (hx : p.tables.exec = Jvm.exec) (hb : c.code = cc) (hK : KC D aC s) (hO : OC D aC A o la z H) (hS : va_S A H0 H locs) {i x : Int32} (hin : okI i 128) (hdg : decode cc pc = .ok (.iastore, 1)) (kk : ∀ (H1 : Heap) (locs1 : List Loc) (z1 : GS), z1 = sI z 110 i x → OC D aC A o la z1 H1 → va_S A H0 H1 locs1 → W p l e R s m args below meth c H1 locs1 cells slots Q (F0 m (pc + 1) ls rest)) : W p l e R s m args below meth c H locs cells slots Q (F0 m pc ls (.int x :: .int i :: .ref (lFn la) :: rest)) := by
  exact g_iast hx hb hO.2.1.1 (hK.1.2 0 _ rfl).1 hin hdg (fun H1 e1 e2 oq => kk H1 _ _ rfl (hO.setN e1 oq) (hS.put e2 oq (hO.2.2.1.2.2.2.2.2.2 _ (by rw [hO.2.2.1.2.2.1]; decide))))
/-- changes -/
theorem okG_lt {i : Int32} (h : okG i z) : i.toNatClampNeg < kChgs (kz z) := by
  obtain ⟨h1, h2, -⟩ := h
  show i.toInt.toNat < (z.1 201).toInt.toNat
  omega
theorem X0_caald (hx : p.tables.exec = Jvm.exec) (hb : c.code = cc) (hK : KC D aC s) (hO : OC D aC A o la z H) {i : Int32} (hin : okG i z) (hdg : decode cc pc = .ok (.aaload, 1)) (kk : W p l e R s m args below meth c H locs cells slots Q (F0 m (pc + 1) ls (.ref (lCa la i.toNatClampNeg) :: rest))) : W p l e R s m args below meth c H locs cells slots Q (F0 m pc ls (.int i :: .ref (lAd la 4) :: rest)) := by
  have hc : H[lAd la 4]? = some (vp_cell (aC 10) (40, .inr (.inr (.inr (.inr (lQ la 4)))))) := oa_cell hO.1 (k := 4) (by decide) (d := 10) (n := 40) rfl rfl rfl
  have hi : okI i 40 := ⟨hin.1, hin.2.2⟩
  obtain ⟨a, h1, -⟩ := hO.2.2.2.2.1 _ (okG_lt hin)
  exact g_aald hx hb hc (hK.1.2 7 _ rfl).1 rfl hi (by simp [lCa, h1, va_rf]) hdg kk
theorem X0_getC (hx : p.tables.exec = Jvm.exec) (hb : c.code = cc) (hts : ∀ w ∈ lw_all, w.before args s = true) (hown : s.vm.findClass RX0 = some m.cls) (hK : KC D aC s) (hO : OC D aC A o la z H) {i : Int32} (hin : okG i z) (f : Nat) (hf : f < 4) {host : String} (hlink : (Cond.fieldLinkNest RX0 index RX4 (TX4 f).2.1 (TX4 f).2.2.1 host).before args s = true) (hdg : decode cc pc = .ok (.getfield index, 3)) (kk : W p l e R s m args below meth c H locs cells slots Q (F0 m (pc + 3) ls (.int (gI z (120 + f) i) :: rest))) : W p l e R s m args below meth c H locs cells slots Q (F0 m pc ls (.ref (lCa la i.toNatClampNeg) :: rest)) := by
  obtain ⟨a, h1, h2⟩ := hO.2.2.2.2.1 _ (okG_lt hin)
  have ha : lCa la i.toNatClampNeg = a := by simp [lCa, h1]
  rw [ha]
  obtain ⟨cell, q1, q2, q3, q4⟩ := hO.imm h2 (ci := 4) rfl
  obtain ⟨hS, hfc, kC, hkC, hkind⟩ := hK.1.1 4 _ rfl
  obtain ⟨cf, kf, fi, fd, hi, hsl⟩ := hS f hf
  refine va_Wgetf hx hb hown hlink (X4_same f _ hi) (u_facts hfc hkC (u_lays hts in_X4 hf) hi).1 q1 (by rw [q3]; exact fun h => by cases h) (v := .int (gI z (120 + f) i)) ?_ rfl rfl hdg kk
  rw [hsl, q4 f hf]
  have : f < 25 := by omega
  simp [kV, kA, kz, gI, this, hf]
end RC
