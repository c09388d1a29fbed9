set_option maxRecDepth 100000
/-! ===== the abstract store of an object: int-like fields, int-like arrays, long arrays, nullable reference fields, arrays of references (all by the field's number), a law's meaning ===== -/
abbrev GS : Type := (Nat → Int32) × (Nat → Nat → Int32) × (Nat → Nat → Int64) × (Nat → Option Nat) × (Nat → Nat → Option Nat) × ((Nat → Int32) → Int32)
def gF (z : GS) (k : Nat) : Int32 := z.1 k
def gI (z : GS) (k : Nat) (j : Int32) : Int32 := z.2.1 k j.toNatClampNeg
def gJ (z : GS) (k : Nat) (j : Int32) : Int64 := z.2.2.1 k j.toNatClampNeg
def sF (z : GS) (k : Nat) (v : Int32) : GS := (va_up z.1 k v, z.2)
def sI (z : GS) (k : Nat) (j v : Int32) : GS := (z.1, va_up z.2.1 k (upd (z.2.1 k) j.toNatClampNeg v), z.2.2)
def sJ (z : GS) (k : Nat) (j : Int32) (v : Int64) : GS := (z.1, z.2.1, va_up z.2.2.1 k (vp_updL (z.2.2.1 k) j.toNatClampNeg v), z.2.2.2)
abbrev okI (j : Int32) (n : Nat) : Prop := 0 ≤ j.toInt ∧ j.toInt < (n : Int)
abbrev okZ (v : Int32) : Prop := v = 0 ∨ v = 1
theorem okI_in {j : Int32} {n : Nat} (h : okI j n) : vp_in j n := vp_in_iff.mpr h
/-! the forms of the printed functions -/
def pin {α β : Type} (x : α) (k : α → β) : β := k x
def bnd {α β γ : Type} (x : Option (α × β)) (k : α → β → Option γ) : Option γ := match x with
  | none => none
  | some q => k q.1 q.2
def bn1 {α γ : Type} (x : Option α) (k : α → Option γ) : Option γ := match x with
  | none => none
  | some q => k q
theorem pin_nm {α β : Type} {x : α} {k : α → β} {r : β} (h : pin x k = r) : ∃ y, y = x ∧ k y = r := ⟨x, rfl, h⟩
theorem pin_to {α β : Type} {x y : α} {k : α → β} {r : β} (e : y = x) (h : pin x k = r) : k y = r := by rw [e]; exact h
theorem grd {c : Prop} [Decidable c] {β : Type} {x : Option β} {r : β} (h : (if c then x else none) = some r) : c ∧ x = some r := by
  by_cases hc : c
  · rw [if_pos hc] at h; exact ⟨hc, h⟩
  · rw [if_neg hc] at h; cases h
theorem it_t {c : Prop} [Decidable c] {β : Type} {a b r : β} (hc : c) (h : (if c then a else b) = r) : a = r := by rw [if_pos hc] at h; exact h
theorem it_f {c : Prop} [Decidable c] {β : Type} {a b r : β} (hc : ¬ c) (h : (if c then a else b) = r) : b = r := by rw [if_neg hc] at h; exact h
theorem pt_t {c : Prop} [Decidable c] {α β : Type} {a b : α} {k : α → β} {r : β} (hc : c) (h : k (if c then a else b) = r) : k a = r := by rw [if_pos hc] at h; exact h
theorem pt_f {c : Prop} [Decidable c] {α β : Type} {a b : α} {k : α → β} {r : β} (hc : ¬ c) (h : k (if c then a else b) = r) : k b = r := by rw [if_neg hc] at h; exact h
theorem bnd_e {α β γ : Type} {x : Option (α × β)} {k : α → β → Option γ} {r : γ} (h : bnd x k = some r) : ∃ a b, x = some (a, b) ∧ k a b = some r := by
  cases x with
  | none => cases h
  | some q => exact ⟨q.1, q.2, rfl, h⟩
theorem bn1_e {α γ : Type} {x : Option α} {k : α → Option γ} {r : γ} (h : bn1 x k = some r) : ∃ a, x = some a ∧ k a = some r := by
  cases x with
  | none => cases h
  | some q => exact ⟨q, rfl, h⟩
def FU : Nat := 100000
/-! ===== an object of a class by its number ci, with its arrays ===== -/
/-- kinds of fields: 0 an int, 1 int[], 2 byte[], 3 long[], 4 char[], 5 boolean[], 6 short[], 7 a fixed reference, 8 a reference or null, 9.. an array of references -/
def oaA (d : Nat) : Bool := !(d == 0 || d == 7 || d == 8)
def oaV (kd : Nat → Nat) (ad : Nat → Nat) (z : GS) (k : Nat) : Value := if kd k = 0 then .int (z.1 k) else if kd k = 8 then va_rf (z.2.2.2.1 k) else .ref (ad k)
def oaC (aC : Nat → ClassId) (n d : Nat) (z : GS) (k : Nat) : Cell := if d = 3 then vp_cell (aC 3) (n, .inr (.inl (z.2.2.1 k))) else if 9 ≤ d then vp_cell (aC d) (n, .inr (.inr (.inr (.inr (z.2.2.2.2.1 k))))) else vp_cell (aC d) (n, .inl (z.2.1 k))
def OA (D : va_G) (aC : Nat → ClassId) (ci N : Nat) (kd ln : Nat → Nat) (o : Nat) (ad : Nat → Nat) (z : GS) (H : Heap) : Prop :=
  t_OB o (D.1 ci) N (D.2 ci) H (oaV kd ad z) ∧ ∀ k, k < N → oaA (kd k) = true → H[ad k]? = some (oaC aC (ln k) (kd k) z k)
def OD (A : Nat → Prop) (N : Nat) (kd : Nat → Nat) (o : Nat) (ad : Nat → Nat) : Prop :=
  (∀ i j, i < N → j < N → oaA (kd i) = true → oaA (kd j) = true → ad i = ad j → i = j) ∧ (∀ i, i < N → oaA (kd i) = true → ad i ≠ o) ∧ A o ∧ ∀ i, i < N → oaA (kd i) = true → A (ad i)
theorem OA.kept {D : va_G} {aC : Nat → ClassId} {ci N : Nat} {kd ln : Nat → Nat} {o : Nat} {ad : Nat → Nat} {z : GS} {H H1 : Heap} (h : OA D aC ci N kd ln o ad z H) (h0 : H1[o]? = H[o]?) (h1 : ∀ k, k < N → oaA (kd k) = true → H1[ad k]? = H[ad k]?) : OA D aC ci N kd ln o ad z H1 :=
  ⟨h.1.kept h0, fun k hk ha => by rw [h1 k hk ha]; exact h.2 k hk ha⟩
theorem OA.recv {D : va_G} {aC : Nat → ClassId} {ci N : Nat} {kd ln : Nat → Nat} {o : Nat} {ad : Nat → Nat} {z : GS} {H : Heap} {cl : List vw_C} {tys : List (ClassId × FieldType)} {s : State} (hK : va_K D cl tys s) (h : OA D aC ci N kd ln o ad z H) {q : vw_C} (hc : cl[ci]? = some q) : ∃ cell : Cell, H[o]? = some cell ∧ cell.vm.isStatics = false ∧ s.vm.findClass q.1 = some cell.cls := by
  obtain ⟨⟨cell, g1, g2, g3, -⟩, -⟩ := h
  exact ⟨cell, g1, by rw [g3]; rfl, by rw [g2]; exact (hK.1 ci q hc).2.1⟩
/-- a method's ends: read-only, and with a new picture of the heap -/
def QR (ov : Option Value) : Array Value → State → Outcome → State → Prop := fun _ st oc t => oc = .returned ov ∧ t.heap = st.heap
def QG (ov : Option Value) (P : Heap → Prop) (A : Nat → Prop) : Array Value → State → Outcome → State → Prop := fun _ st oc t => oc = .returned ov ∧ P t.heap ∧ va_F A st t
section GR
variable {p : Program} {l : Launch} {e : Env} {R : Room} {s : State} {m : MethodId} {args : Array Value} {below : List Frame} {meth : Method} {c : Code} {H : Heap} {locs : List Loc} {cells slots : Nat} {Q : State → Prop}
variable {cc : ByteArray} {pc : Nat} {ls : Array Slot} {rest : List Value} {D : va_G} {cl : List vw_C} {A : Nat → Prop} {tys : List (ClassId × FieldType)} {H0 : Heap}
variable {aC : Nat → ClassId} {ci N : Nat} {kd ln : Nat → Nat} {o : Nat} {ad : Nat → Nat} {z : GS}
theorem oa_get (hexec : p.tables.exec = Jvm.exec) (hb : c.code = cc) {own ref C : String} {T : u_T} {index : Nat} {Ts : List Cond} (hts : ∀ w ∈ Ts, w.before args s = true) (hin : ∀ w ∈ u_ws C T N, w ∈ Ts) (hown : s.vm.findClass own = some m.cls) (hK : va_K D cl tys s) (hO : OA D aC ci N kd ln o ad z H) (hc : cl[ci]? = some (C, T, N)) (k : Nat) (hk : k < N) (hlink : (Cond.fieldLink own index ref (T k).2.1 (T k).2.2.1).before args s = true) (hsame : ∀ x, s.fieldFound? (T k).1 (T k).2.1 (T k).2.2.1 = some x → s.fieldFound? ref (T k).2.1 (T k).2.2.1 = some x) {v : Value} (hv : oaV kd ad z k = v) (hdg : decode cc pc = .ok (.getfield index, 3))
    (kk : W p l e R s m args below meth c H locs cells slots Q (F0 m (pc + 3) ls (v :: rest))) : W p l e R s m args below meth c H locs cells slots Q (F0 m pc ls (.ref o :: rest)) := by
  obtain ⟨⟨cell, q1, q2, q3, q4⟩, -⟩ := hO
  obtain ⟨hS, hfc, kC, hkC, hkind⟩ := hK.1 ci _ hc
  obtain ⟨cf, kf, fi, f, hi, hsl⟩ := hS k hk
  refine W.getf hexec hb hown hlink (hsame _ hi) (u_facts hfc hkC (u_lays hts hin hk) hi).1 q1 (by rw [q3]; exact fun h => by cases h) (v := v) ?_ rfl rfl hdg kk
  rw [hsl, q4 k hk, hv]
theorem oa_putF (hexec : p.tables.exec = Jvm.exec) (hb : c.code = cc) {own ref C : String} {T : u_T} {index : Nat} {Ts : List Cond} (hts : ∀ w ∈ Ts, w.before args s = true) (hin : ∀ w ∈ u_ws C T N, w ∈ Ts) (ty0 : Nat → FieldType) (hty : ∀ k, k < N → parseFieldDescriptor (T k).2.2.1 = some (ty0 k)) (hnm : ∀ a, a < N → ∀ b, b < N → a ≠ b → (T a).2.1 ≠ (T b).2.1) (hown : s.vm.findClass own = some m.cls) (hK : va_K D cl tys s) (hO : OA D aC ci N kd ln o ad z H) (hD : OD A N kd o ad) (hS0 : va_S A H0 H locs) (hc : cl[ci]? = some (C, T, N)) (k : Nat) (hk : k < N) (hkd : kd k = 0) (hlink : (Cond.fieldLink own index ref (T k).2.1 (T k).2.2.1).before args s = true) (hsame : ∀ x, s.fieldFound? (T k).1 (T k).2.1 (T k).2.2.1 = some x → s.fieldFound? ref (T k).2.1 (T k).2.2.1 = some x) (hfin : (T k).2.2.2 = false) {ty : FieldType} {v : Int32} (hd : parseFieldDescriptor (T k).2.2.1 = some ty) (hn : narrow ty (.int v) = .int v) (hfit : fits ty (.int v) = true)
    (hdg : decode cc pc = .ok (.putfield index, 3)) (kk : ∀ (H1 : Heap) (locs1 : List Loc) (z1 : GS), z1 = sF z k v → OA D aC ci N kd ln o ad z1 H1 → va_S A H0 H1 locs1 → H1.size = H.size → (∀ q, q ≠ o → H1[q]? = H[q]?) → W p l e R s m args below meth c H1 locs1 cells slots Q (F0 m (pc + 3) ls rest)) : W p l e R s m args below meth c H locs cells slots Q (F0 m pc ls (.int v :: .ref o :: rest)) := by
  have hap := va_apart (own := own) hts hin ty0 hty hnm hK hc
  obtain ⟨⟨cell, q1, q2, q3, q4⟩, hA⟩ := hO
  obtain ⟨hS, hfc, kC, hkC, hkind⟩ := hK.1 ci _ hc
  obtain ⟨cf, kf, fi, f, hi, hsl⟩ := hS k hk
  have hlay := hts _ (hin _ (u_in_lay hk))
  unfold u_lay at hlay
  rw [if_neg (by rw [hfin]; decide)] at hlay
  have hst := (u_facts hfc hkC (u_lays hts hin hk) hi).1
  have h6 := u_store hfc hkC hkind hlay hi hd hn hfit
  refine W.putK hexec hb (f := f) ⟨hown, hlink, ⟨_, _, _, hsame _ hi⟩, hst⟩ (by rw [q2]; exact h6) q1 q3 (by rw [hsl]; exact k2_hasslot (q4 k hk)) rfl rfl hdg fun H' e1 e2 e3 => ?_
  rw [hsl] at e1 ⊢
  refine kk H' _ _ rfl ⟨t_OB.to (V := updV (oaV kd ad z) k (.int v)) ⟨_, e1, q2, q3, t_set q4 hap hk (.int v)⟩ (fun j _ => ?_), fun j hj ha => ?_⟩ (hS0.put e2 e3 hD.2.2.1) e2 e3
  · by_cases hjk : j = k
    · subst hjk
      simp [updV, oaV, hkd, sF, va_up]
    · simp [updV, oaV, hjk, sF, va_up]
  · rw [e3 _ (hD.2.1 j hj ha)]
    exact hA j hj ha
/-- an array of the object, read -/
theorem oa_cell {k : Nat} (hO : OA D aC ci N kd ln o ad z H) (hk : k < N) {d n : Nat} (hd : kd k = d) (hl : ln k = n) (ha : oaA d = true) : H[ad k]? = some (oaC aC n d z k) := by
  subst hd; subst hl
  exact hO.2 k hk ha
theorem oaC_i {n d k : Nat} (h3 : d ≠ 3) (h9 : d < 9) : oaC aC n d z k = vp_cell (aC d) (n, .inl (z.2.1 k)) := by
  unfold oaC
  rw [if_neg h3, if_neg (by omega)]
theorem oa_setI {k : Nat} {H1 : Heap} (hO : OA D aC ci N kd ln o ad z H) (hD : OD A N kd o ad) (hk : k < N) {d n : Nat} (hd : kd k = d) (hl : ln k = n) (h3 : d ≠ 3) (h9 : d < 9) (ha : oaA d = true) (i x : Int32) (e : H1[ad k]? = some (vp_cell (aC d) (n, .inl (upd (z.2.1 k) i.toNatClampNeg x)))) (oq : ∀ q : Nat, q ≠ ad k → H1[q]? = H[q]?) : OA D aC ci N kd ln o ad (sI z k i x) H1 := by
  subst hd; subst hl
  refine ⟨(hO.1.kept (oq o (Ne.symm (hD.2.1 k hk ha)))).to (fun j _ => by simp [oaV, sI]), fun j hj hja => ?_⟩
  by_cases hjk : j = k
  · subst hjk
    rw [e, oaC_i h3 h9]
    simp [sI, va_up]
  · rw [oq _ (fun q => hjk (hD.1 j k hj hk hja ha q)), hO.2 j hj hja]
    simp [oaC, sI, va_up, hjk]
theorem oa_iald (hexec : p.tables.exec = Jvm.exec) (hb : c.code = cc) (hK : va_K D cl tys s) (hO : OA D aC ci N kd ln o ad z H) (k : Nat) (hk : k < N) {n : Nat} (hd : kd k = 1) (hl : ln k = n) (t0 : Nat) (ht : tys[t0]? = some (aC 1, .int)) {i : Int32} (hin : okI i n) (hdg : decode cc pc = .ok (.iaload, 1))
    (kk : W p l e R s m args below meth c H locs cells slots Q (F0 m (pc + 1) ls (.int (gI z k i) :: rest))) : W p l e R s m args below meth c H locs cells slots Q (F0 m pc ls (.int i :: .ref (ad k) :: rest)) :=
  va_iald (ws := [(ad k, .inl (aC 1, n, .inl (z.2.1 k)))]) hexec hb hK (fun j q hj => by
    cases j with
    | zero => cases hj; exact (oa_cell hO hk hd hl rfl).trans (by rw [oaC_i (by decide) (by decide)])
    | succ j => simp at hj) 0 t0 rfl ht (okI_in hin) hdg kk
theorem oa_bald (hexec : p.tables.exec = Jvm.exec) (hb : c.code = cc) (hK : va_K D cl tys s) (hO : OA D aC ci N kd ln o ad z H) (k : Nat) (hk : k < N) {n : Nat} (hd : kd k = 2) (hl : ln k = n) (t0 : Nat) (ht : tys[t0]? = some (aC 2, .byte)) {i : Int32} (hin : okI i n) (hdg : decode cc pc = .ok (.baload, 1))
    (kk : W p l e R s m args below meth c H locs cells slots Q (F0 m (pc + 1) ls (.int (gI z k i) :: rest))) : W p l e R s m args below meth c H locs cells slots Q (F0 m pc ls (.int i :: .ref (ad k) :: rest)) :=
  va_bald (ws := [(ad k, .inl (aC 2, n, .inl (z.2.1 k)))]) hexec hb hK (fun j q hj => by
    cases j with
    | zero => cases hj; exact (oa_cell hO hk hd hl rfl).trans (by rw [oaC_i (by decide) (by decide)])
    | succ j => simp at hj) 0 t0 rfl ht (okI_in hin) hdg kk
theorem oa_cald (hexec : p.tables.exec = Jvm.exec) (hb : c.code = cc) (hK : va_K D cl tys s) (hO : OA D aC ci N kd ln o ad z H) (k : Nat) (hk : k < N) {n : Nat} (hd : kd k = 4) (hl : ln k = n) (t0 : Nat) (ht : tys[t0]? = some (aC 4, .char)) {i : Int32} (hin : okI i n) (hdg : decode cc pc = .ok (.caload, 1))
    (kk : W p l e R s m args below meth c H locs cells slots Q (F0 m (pc + 1) ls (.int (gI z k i) :: rest))) : W p l e R s m args below meth c H locs cells slots Q (F0 m pc ls (.int i :: .ref (ad k) :: rest)) :=
  va_cald (ws := [(ad k, .inl (aC 4, n, .inl (z.2.1 k)))]) hexec hb hK (fun j q hj => by
    cases j with
    | zero => cases hj; exact (oa_cell hO hk hd hl rfl).trans (by rw [oaC_i (by decide) (by decide)])
    | succ j => simp at hj) 0 t0 rfl ht (okI_in hin) hdg kk
theorem oa_lald (hexec : p.tables.exec = Jvm.exec) (hb : c.code = cc) (hK : va_K D cl tys s) (hO : OA D aC ci N kd ln o ad z H) (k : Nat) (hk : k < N) {n : Nat} (hd : kd k = 3) (hl : ln k = n) (t0 : Nat) (ht : tys[t0]? = some (aC 3, .long)) {i : Int32} (hin : okI i n) (hdg : decode cc pc = .ok (.laload, 1))
    (kk : W p l e R s m args below meth c H locs cells slots Q (F0 m (pc + 1) ls (.long (gJ z k i) :: rest))) : W p l e R s m args below meth c H locs cells slots Q (F0 m pc ls (.int i :: .ref (ad k) :: rest)) :=
  va_lald (ws := [(ad k, .inl (aC 3, n, .inr (.inl (z.2.2.1 k))))]) hexec hb hK (fun j q hj => by
    cases j with
    | zero => cases hj; exact (oa_cell hO hk hd hl rfl)
    | succ j => simp at hj) 0 t0 rfl ht (okI_in hin) hdg kk
theorem oa_iast (hexec : p.tables.exec = Jvm.exec) (hb : c.code = cc) (hK : va_K D cl tys s) (hO : OA D aC ci N kd ln o ad z H) (hD : OD A N kd o ad) (hS : va_S A H0 H locs) (k : Nat) (hk : k < N) {n : Nat} (hd : kd k = 1) (hl : ln k = n) (t0 : Nat) (ht : tys[t0]? = some (aC 1, .int)) {i x : Int32} (hin : okI i n) (hdg : decode cc pc = .ok (.iastore, 1))
    (kk : ∀ (H1 : Heap) (locs1 : List Loc) (z1 : GS), z1 = sI z k i x → OA D aC ci N kd ln o ad z1 H1 → va_S A H0 H1 locs1 → H1.size = H.size → (∀ q, q ≠ ad k → H1[q]? = H[q]?) → W p l e R s m args below meth c H1 locs1 cells slots Q (F0 m (pc + 1) ls rest)) : W p l e R s m args below meth c H locs cells slots Q (F0 m pc ls (.int x :: .int i :: .ref (ad k) :: rest)) := by
  have hc : H[ad k]? = some (vp_cell (aC 1) (n, .inl (z.2.1 k))) := (oa_cell hO hk hd hl rfl).trans (by rw [oaC_i (by decide) (by decide)])
  refine W.iast hexec hb hc ((hK.2 t0 _ ht).1 n (fun j => .int (z.2.1 k j))) (fun q => by cases q) (by show ¬ (i < 0 ∨ (arrV _ _ _).slots.size ≤ _); rw [arrV_size]; exact okI_in hin) rfl rfl hdg fun H1 e1 e2 oq => ?_
  refine kk H1 _ _ rfl (oa_setI hO hD hk hd hl (by decide) (by decide) rfl i x ?_ oq) (hS.put e2 oq (hD.2.2.2 k hk (by rw [hd]; rfl))) e2 oq
  rw [e1, vp_cell_i, vp_cell_i, arrV_store]
  congr 2
  funext q
  by_cases hq : q = i.toNatClampNeg <;> simp [updV, upd, hq]
theorem oa_bast (hexec : p.tables.exec = Jvm.exec) (hb : c.code = cc) (hK : va_K D cl tys s) (hO : OA D aC ci N kd ln o ad z H) (hD : OD A N kd o ad) (hS : va_S A H0 H locs) (k : Nat) (hk : k < N) {n : Nat} (hd : kd k = 2) (hl : ln k = n) (t0 : Nat) (ht : tys[t0]? = some (aC 2, .byte)) {i x : Int32} (hin : okI i n) (hdg : decode cc pc = .ok (.bastore, 1))
    (kk : ∀ (H1 : Heap) (locs1 : List Loc) (z1 : GS), z1 = sI z k i x.toInt8.toInt32 → OA D aC ci N kd ln o ad z1 H1 → va_S A H0 H1 locs1 → H1.size = H.size → (∀ q, q ≠ ad k → H1[q]? = H[q]?) → W p l e R s m args below meth c H1 locs1 cells slots Q (F0 m (pc + 1) ls rest)) : W p l e R s m args below meth c H locs cells slots Q (F0 m pc ls (.int x :: .int i :: .ref (ad k) :: rest)) := by
  have hc : H[ad k]? = some (vp_cell (aC 2) (n, .inl (z.2.1 k))) := (oa_cell hO hk hd hl rfl).trans (by rw [oaC_i (by decide) (by decide)])
  refine W.bast hexec hb hc ((hK.2 t0 _ ht).1 n (fun j => .int (z.2.1 k j))) (fun q => by cases q) (by show ¬ (i < 0 ∨ (arrV _ _ _).slots.size ≤ _); rw [arrV_size]; exact okI_in hin) rfl rfl hdg fun H1 e1 e2 oq => ?_
  refine kk H1 _ _ rfl (oa_setI hO hD hk hd hl (by decide) (by decide) rfl i _ ?_ oq) (hS.put e2 oq (hD.2.2.2 k hk (by rw [hd]; rfl))) e2 oq
  rw [e1, vp_cell_i, vp_cell_i, arrV_store]
  congr 2
  funext q
  by_cases hq : q = i.toNatClampNeg <;> simp [updV, upd, hq, narrow]
theorem oa_last (hexec : p.tables.exec = Jvm.exec) (hb : c.code = cc) (hK : va_K D cl tys s) (hO : OA D aC ci N kd ln o ad z H) (hD : OD A N kd o ad) (hS : va_S A H0 H locs) (k : Nat) (hk : k < N) {n : Nat} (hd : kd k = 3) (hl : ln k = n) (t0 : Nat) (ht : tys[t0]? = some (aC 3, .long)) {i : Int32} {x : Int64} (hin : okI i n) (hdg : decode cc pc = .ok (.lastore, 1))
    (kk : ∀ (H1 : Heap) (locs1 : List Loc) (z1 : GS), z1 = sJ z k i x → OA D aC ci N kd ln o ad z1 H1 → va_S A H0 H1 locs1 → H1.size = H.size → (∀ q, q ≠ ad k → H1[q]? = H[q]?) → W p l e R s m args below meth c H1 locs1 cells slots Q (F0 m (pc + 1) ls rest)) : W p l e R s m args below meth c H locs cells slots Q (F0 m pc ls (.long x :: .int i :: .ref (ad k) :: rest)) := by
  have hc : H[ad k]? = some (vp_cell (aC 3) (n, .inr (.inl (z.2.2.1 k)))) := oa_cell hO hk hd hl rfl
  have ha : oaA (kd k) = true := by rw [hd]; rfl
  refine W.last hexec hb hc ((hK.2 t0 _ ht).1 n (fun j => .long (z.2.2.1 k j))) (fun q => by cases q) (by show ¬ (i < 0 ∨ (arrV _ _ _).slots.size ≤ _); rw [arrV_size]; exact okI_in hin) rfl rfl hdg fun H1 e1 e2 oq => ?_
  refine kk H1 _ _ rfl ⟨(hO.1.kept (oq o (Ne.symm (hD.2.1 k hk ha)))).to (fun j _ => by simp [oaV, sJ]), fun j hj hja => ?_⟩ (hS.put e2 oq (hD.2.2.2 k hk ha)) e2 oq
  by_cases hjk : j = k
  · subst hjk
    rw [e1, vp_cell_l, arrV_store]
    simp only [oaC, hd, hl, sJ, va_up, if_true, vp_cell_l]
    congr 2
    funext q
    by_cases hq : q = i.toNatClampNeg <;> simp [updV, vp_updL, hq]
  · rw [oq _ (fun q => hjk (hD.1 j k hj hk hja ha q)), hO.2 j hj hja]
    simp [oaC, sJ, va_up, hjk]
/-! calls -/
variable {mc ms : Nat} {g : JFrame} {ov : Option Value} {P : Heap → Prop} {a : Array Value} {free : Addr → Prop}
theorem g_callR (hr : CallRun p l e R s m args below meth c H locs cells slots 0 0 g rest (QR ov a) (fun _ => False)) (kk : W p l e R s m args below meth c H locs cells slots Q { g with pc := g.pc + 3, stack := ov.toList ++ rest }) : W p l e R s m args below meth c H locs cells slots Q g := by
  intro T hT X
  obtain ⟨v, st₀, t, T', L, h0, X', hL, e1, ⟨hv, hh⟩, st⟩ := hr T hT X
  cases hv
  obtain ⟨t2, a1, b1⟩ := kk T' (by rw [e1, hh, h0]) (Stand.forget X' (fun q h => (hL q h).elim))
  exact ⟨t2, st t2 a1, b1⟩
theorem g_callG (hr : CallRun p l e R s m args below meth c H locs cells slots mc ms g rest (QG ov P A a) A) (hS : va_S A H0 H locs) (kk : ∀ (H1 : Heap) (locs1 : List Loc), P H1 → va_S A H0 H1 locs1 → H.size ≤ H1.size → (∀ q : Nat, q < H.size → ¬ A q → H1[q]? = H[q]?) → W p l e R s m args below meth c H1 locs1 (cells + mc) (slots + ms) Q { g with pc := g.pc + 3, stack := ov.toList ++ rest }) : W p l e R s m args below meth c H locs cells slots Q g := by
  intro T hT X
  obtain ⟨v, st₀, t, T', L, h0, X', hL, e1, ⟨hv, hP, hz, hk⟩, st⟩ := hr T hT X
  cases hv
  rw [h0] at hz hk
  obtain ⟨t2, a1, b1⟩ := kk t.heap (locs ++ L) hP ⟨Nat.le_trans hS.1 hz, fun q h1 h2 => by rw [hk q (Nat.lt_of_lt_of_le h1 hS.1) h2]; exact hS.2.1 q h1 h2, fun q hq => by
      rcases List.mem_append.mp hq with h | h
      · exact hS.2.2 q h
      · exact hL q h⟩ hz hk T' e1 X'
  exact ⟨t2, st t2 a1, b1⟩
end GR
/-- a method's start -/
theorem g_ofW {l : Launch} {y : MethodName} {ws : List Cond} {rm : Room} {Qc : Array Value → State → Outcome → State → Prop} {mc ms : Nat} {free : Addr → Prop} {cc : ByteArray} {maxL : Nat} {ret : Option FieldType} {own : String}
    (hy : plainName y.cls = true) (ho : y.cls = own) (hw : ws = Cond.code y cc maxL ret :: lw_all) (As : List Value) (PRE : State → Prop) (hlen : (lg_sl As).length ≤ maxL)
    (body : ∀ (p : Program) (e : Env) (s : State) (m : MethodId) (below : List Frame) (meth : Method) (c : Code) (ls : Array Slot), p.tables.exec = Jvm.exec → c.code = cc → meth.sig.returnType = ret → c.maxLocals = maxL → (∀ w ∈ lw_all, w.before As.toArray s = true) → s.vm.findClass own = some m.cls → meth.locks = false → meth.name = y.name → PRE s → lv_has ls maxL (lv_args 0 As) →
      W p l e rm s m As.toArray below meth c s.heap [] 0 0 (MQ below Qc As.toArray s mc ms free) (F0 m 0 ls [])) : Met l y ws rm (va_Pc As PRE) Qc mc ms free := by
  subst ho
  refine Met.ofW (cc := cc) (maxL := maxL) (ret := ret) hy hw ?_
  intro p e s m args below meth c s₁ B hml hv
  obtain ⟨rfl, hP⟩ := hv
  have hts := atoms_spec (ws := ws) B.pre
  have hl := lv_entry As (n := maxL) hlen
  rw [lg_entry_eq]
  exact body p e s m below meth c _ B.exec B.bytes B.returns hml (fun w h => hts w (by rw [hw]; exact List.mem_cons_of_mem _ h)) (findClass_of_methodNamed B.named) B.notSynchronized (name_of_methodNamed B.named B.method).1 hP hl
section GE
variable {p : Program} {l : Launch} {e : Env} {R : Room} {s : State} {m : MethodId} {args : Array Value} {below : List Frame} {meth : Method} {c : Code} {H : Heap} {locs : List Loc}
variable {cc : ByteArray} {pc : Nat} {ls : Array Slot} {A : Nat → Prop}
theorem okZ_n {v : Int32} (h : okZ v) : narrow .boolean (.int v) = .int v ∧ fits .boolean (.int v) = true := by
  rcases h with rfl | rfl
  · exact ⟨rfl, rfl⟩
  · exact ⟨rfl, rfl⟩
/-- ends of a read-only method -/
theorem g_retR {v r : Int32} (hx : p.tables.exec = Jvm.exec) (hb : c.code = cc) (hr : meth.sig.returnType = some .int) (hlocks : meth.locks = false) (h : v = r) (d : decode cc pc = .ok (.ireturn, 1)) : W p l e R s m args below meth c s.heap [] 0 0 (MQ below (QR (some (.int r))) args s 0 0 (fun _ => False)) (F0 m pc ls [.int v]) := by
  subst h
  exact W.iret hx hb hr (fun t ht _ => ⟨rfl, ht⟩) (fun _ h => by cases h) d hlocks
theorem g_retRz {v r : Int32} (hx : p.tables.exec = Jvm.exec) (hb : c.code = cc) (hr : meth.sig.returnType = some .boolean) (hlocks : meth.locks = false) (hz : okZ v) (h : v = r) (d : decode cc pc = .ok (.ireturn, 1)) : W p l e R s m args below meth c s.heap [] 0 0 (MQ below (QR (some (.int r))) args s 0 0 (fun _ => False)) (F0 m pc ls [.int v]) := by
  subst h
  exact W.zret hx hb hr (okZ_n hz).1 (fun t ht _ => ⟨rfl, ht⟩) (fun _ h => by cases h) d
theorem g_retRl {v r : Int64} (hx : p.tables.exec = Jvm.exec) (hb : c.code = cc) (hr : meth.sig.returnType = some .long) (hlocks : meth.locks = false) (h : v = r) (d : decode cc pc = .ok (.lreturn, 1)) : W p l e R s m args below meth c s.heap [] 0 0 (MQ below (QR (some (.long r))) args s 0 0 (fun _ => False)) (F0 m pc ls [.long v]) := by
  subst h
  exact W.lret hx hb hr (fun t ht _ => ⟨rfl, ht⟩) (fun _ h => by cases h) d
/-- ends of a method that changes the heap -/
theorem g_retG {P : Heap → Prop} {cells slots : Nat} {v r : Int32} (hx : p.tables.exec = Jvm.exec) (hb : c.code = cc) (hr : meth.sig.returnType = some .int) (hlocks : meth.locks = false) (h : v = r) (hP : P H) (hS : va_S A s.heap H locs) (d : decode cc pc = .ok (.ireturn, 1)) : W p l e R s m args below meth c H locs cells slots (MQ below (QG (some (.int r)) P A) args s cells slots A) (F0 m pc ls [.int v]) := by
  subst h
  exact W.iret hx hb hr (fun t ht _ => ⟨rfl, by rw [ht]; exact hP, hS.F ht⟩) hS.2.2 d hlocks
theorem g_retGz {P : Heap → Prop} {cells slots : Nat} {v r : Int32} (hx : p.tables.exec = Jvm.exec) (hb : c.code = cc) (hr : meth.sig.returnType = some .boolean) (hlocks : meth.locks = false) (hz : okZ v) (h : v = r) (hP : P H) (hS : va_S A s.heap H locs) (d : decode cc pc = .ok (.ireturn, 1)) : W p l e R s m args below meth c H locs cells slots (MQ below (QG (some (.int r)) P A) args s cells slots A) (F0 m pc ls [.int v]) := by
  subst h
  exact W.zret hx hb hr (okZ_n hz).1 (fun t ht _ => ⟨rfl, by rw [ht]; exact hP, hS.F ht⟩) hS.2.2 d
theorem g_retGl {P : Heap → Prop} {cells slots : Nat} {v r : Int64} (hx : p.tables.exec = Jvm.exec) (hb : c.code = cc) (hr : meth.sig.returnType = some .long) (hlocks : meth.locks = false) (h : v = r) (hP : P H) (hS : va_S A s.heap H locs) (d : decode cc pc = .ok (.lreturn, 1)) : W p l e R s m args below meth c H locs cells slots (MQ below (QG (some (.long r)) P A) args s cells slots A) (F0 m pc ls [.long v]) := by
  subst h
  exact W.lret hx hb hr (fun t ht _ => ⟨rfl, by rw [ht]; exact hP, hS.F ht⟩) hS.2.2 d
theorem g_retGv {P : Heap → Prop} {cells slots : Nat} (hx : p.tables.exec = Jvm.exec) (hb : c.code = cc) (hr : meth.sig.returnType = none) (hlocks : meth.locks = false) (hP : P H) (hS : va_S A s.heap H locs) (d : decode cc pc = .ok (.return_, 1)) : W p l e R s m args below meth c H locs cells slots (MQ below (QG none P A) args s cells slots A) (F0 m pc ls []) :=
  W.vret hx hb hr (fun t ht _ => ⟨rfl, by rw [ht]; exact hP, hS.F ht⟩) hS.2.2 d
end GE
theorem pin_nm2 {α β : Type} {x : α} {k : α → β} {r : β} (h : pin x k = r) : ∃ y, y = k ∧ y x = r := ⟨k, rfl, h⟩
theorem g_open {p : Program} {l : Launch} {e : Env} {R : Room} {s : State} {m : MethodId} {args : Array Value} {below : List Frame} {meth : Method} {c : Code} {cells slots : Nat} {Q : State → Prop} {g : JFrame} {A : Nat → Prop} (Pic : Heap → Prop) (hO : Pic s.heap) (k : ∀ (H : Heap) (locs : List Loc), Pic H → va_S A s.heap H locs → W p l e R s m args below meth c H locs cells slots Q g) : W p l e R s m args below meth c s.heap [] cells slots Q g := k s.heap [] hO va_S.rf
/-! ints: the names that the printed functions use -/
def jrem (x y : Int32) : Int32 := x - x / y * y
def jlrem (x y : Int64) : Int64 := x - x / y * y
def jshl (x y : Int32) : Int32 := x <<< (y &&& 31)
def jshr (x y : Int32) : Int32 := x >>> (y &&& 31)
def jushr (x y : Int32) : Int32 := (x.toUInt32 >>> (y.toUInt32 &&& Int32.toUInt32 31)).toInt32
def jlshl (x : Int64) (y : Int32) : Int64 := x <<< (y.toInt64 &&& 63)
def jmax (x y : Int32) : Int32 := if x < y then y else x
def jmin (x y : Int32) : Int32 := if y < x then y else x
def jabs (x : Int32) : Int32 := if 0 ≤ x then x else 0 - x
section GI
variable {p : Program} {l : Launch} {e : Env} {R : Room} {s : State} {m : MethodId} {args : Array Value} {below : List Frame} {meth : Method} {c : Code} {H : Heap} {locs : List Loc} {cells slots : Nat} {Q : State → Prop}
variable {cc : ByteArray} {pc : Nat} {ls : Array Slot} {rest : List Value}
theorem g_irem (hx : p.tables.exec = Jvm.exec) (hb : c.code = cc) {x y : Int32} (d : decode cc pc = .ok (.irem, 1)) (hne : ¬ y = 0) (k : W p l e R s m args below meth c H locs cells slots Q (F0 m (pc + 1) ls (.int (jrem x y) :: rest))) : W p l e R s m args below meth c H locs cells slots Q (F0 m pc ls (.int y :: .int x :: rest)) := lv_irem hx hb d hne k
theorem g_lrem (hx : p.tables.exec = Jvm.exec) (hb : c.code = cc) {x y : Int64} (d : decode cc pc = .ok (.lrem, 1)) (hne : ¬ y = 0) (k : W p l e R s m args below meth c H locs cells slots Q (F0 m (pc + 1) ls (.long (jlrem x y) :: rest))) : W p l e R s m args below meth c H locs cells slots Q (F0 m pc ls (.long y :: .long x :: rest)) := lv_lrem hx hb d hne k
theorem g_ishl (hx : p.tables.exec = Jvm.exec) (hb : c.code = cc) {x y : Int32} (d : decode cc pc = .ok (.ishl, 1)) (k : W p l e R s m args below meth c H locs cells slots Q (F0 m (pc + 1) ls (.int (jshl x y) :: rest))) : W p l e R s m args below meth c H locs cells slots Q (F0 m pc ls (.int y :: .int x :: rest)) := lv_ishl hx hb d k
theorem g_ishr (hx : p.tables.exec = Jvm.exec) (hb : c.code = cc) {x y : Int32} (d : decode cc pc = .ok (.ishr, 1)) (k : W p l e R s m args below meth c H locs cells slots Q (F0 m (pc + 1) ls (.int (jshr x y) :: rest))) : W p l e R s m args below meth c H locs cells slots Q (F0 m pc ls (.int y :: .int x :: rest)) := lv_ishr hx hb d k
theorem g_iushr (hx : p.tables.exec = Jvm.exec) (hb : c.code = cc) {x y : Int32} (d : decode cc pc = .ok (.iushr, 1)) (k : W p l e R s m args below meth c H locs cells slots Q (F0 m (pc + 1) ls (.int (jushr x y) :: rest))) : W p l e R s m args below meth c H locs cells slots Q (F0 m pc ls (.int y :: .int x :: rest)) := lv_iushr hx hb d rfl k
theorem g_lshl (hx : p.tables.exec = Jvm.exec) (hb : c.code = cc) {x : Int64} {y : Int32} (d : decode cc pc = .ok (.lshl, 1)) (k : W p l e R s m args below meth c H locs cells slots Q (F0 m (pc + 1) ls (.long (jlshl x y) :: rest))) : W p l e R s m args below meth c H locs cells slots Q (F0 m pc ls (.int y :: .long x :: rest)) := lv_lshl hx hb d rfl k
theorem g_mmax (hx : p.tables.exec = Jvm.exec) (hb : c.code = cc) (hml : c.maxLocals = ls.size) {own : String} {index : Nat} (hown : s.vm.findClass own = some m.cls) (hlink : (Cond.methodLink own index Lib.Math.max.name).before args s = true) (hstat : (Cond.static Lib.Math.max.name).before args s = true) (hini : (Cond.initialized "java/lang/Math").before args s = true) (hcode : (Cond.code Lib.Math.max.name Lib.Math.max.code 2 (some .int)).before args s = true)
    (hframes : 1 ≤ R.frames) (hlocals : (rest.map fun v => v.category).sum + 13 ≤ R.locals) (hc : cells ≤ R.cells) (hs : slots ≤ R.slots) {x y : Int32} (hdg : decode cc pc = .ok (.invokestatic index, 3))
    (kk : W p l e R s m args below meth c H locs cells slots Q (F0 m (pc + 3) ls (.int (jmax x y) :: rest))) : W p l e R s m args below meth c H locs cells slots Q (F0 m pc ls (.int y :: .int x :: rest)) := va_mmax hx hb hml hown hlink hstat hini hcode hframes hlocals hc hs hdg kk
theorem g_mmin (hx : p.tables.exec = Jvm.exec) (hb : c.code = cc) (hml : c.maxLocals = ls.size) {own : String} {index : Nat} (hown : s.vm.findClass own = some m.cls) (hlink : (Cond.methodLink own index Lib.Math.min.name).before args s = true) (hstat : (Cond.static Lib.Math.min.name).before args s = true) (hini : (Cond.initialized "java/lang/Math").before args s = true) (hcode : (Cond.code Lib.Math.min.name Lib.Math.min.code 2 (some .int)).before args s = true)
    (hframes : 1 ≤ R.frames) (hlocals : (rest.map fun v => v.category).sum + 13 ≤ R.locals) (hc : cells ≤ R.cells) (hs : slots ≤ R.slots) {x y : Int32} (hdg : decode cc pc = .ok (.invokestatic index, 3))
    (kk : W p l e R s m args below meth c H locs cells slots Q (F0 m (pc + 3) ls (.int (jmin x y) :: rest))) : W p l e R s m args below meth c H locs cells slots Q (F0 m pc ls (.int y :: .int x :: rest)) := va_mmin hx hb hml hown hlink hstat hini hcode hframes hlocals hc hs hdg kk
theorem g_mabs (hx : p.tables.exec = Jvm.exec) (hb : c.code = cc) (hml : c.maxLocals = ls.size) {own : String} {index : Nat} (hown : s.vm.findClass own = some m.cls) (hlink : (Cond.methodLink own index Lib.Math.abs.name).before args s = true) (hstat : (Cond.static Lib.Math.abs.name).before args s = true) (hini : (Cond.initialized "java/lang/Math").before args s = true) (hcode : (Cond.code Lib.Math.abs.name Lib.Math.abs.code 1 (some .int)).before args s = true)
    (hframes : 1 ≤ R.frames) (hlocals : (rest.map fun v => v.category).sum + 13 ≤ R.locals) (hc : cells ≤ R.cells) (hs : slots ≤ R.slots) {x : Int32} (hdg : decode cc pc = .ok (.invokestatic index, 3))
    (kk : W p l e R s m args below meth c H locs cells slots Q (F0 m (pc + 3) ls (.int (jabs x) :: rest))) : W p l e R s m args below meth c H locs cells slots Q (F0 m pc ls (.int x :: rest)) := va_mabs hx hb hml hown hlink hstat hini hcode hframes hlocals hc hs hdg kk
end GI
