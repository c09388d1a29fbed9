set_option maxRecDepth 100000
section RF
variable {p : Program} {l : Launch} {e : Env} {R : Room} {s : State} {m : MethodId} {args : Array Value} {below : List Frame} {meth : Method} {c : Code} {H H0 : Heap} {locs : List Loc} {cells slots : Nat} {Q : State → Prop}
variable {cc : ByteArray} {pc index n : Nat} {ls : Array Slot} {rest : List Value} {D : va_G} {A : Nat → Prop} {aC : Nat → ClassId} {o : Nat} {la : LC} {z : GS}
theorem g_alen {a n : Nat} {cA : ClassId} {ty : FieldType} {x : (Nat → Int32) ⊕ (Nat → Int64) ⊕ (Nat → UInt32) ⊕ (Nat → UInt64) ⊕ (Nat → Option Nat)} {v : Int32} (hx : p.tables.exec = Jvm.exec) (hb : c.code = cc) (hc : H[a]? = some (vp_cell cA (n, x))) (harr : ArrOfT s cA ty) (hv : nI n = v) (hdg : decode cc pc = .ok (.arraylength, 1)) (kk : W p l e R s m args below meth c H locs cells slots Q (F0 m (pc + 1) ls (.int v :: rest))) : W p l e R s m args below meth c H locs cells slots Q (F0 m pc ls (.ref a :: rest)) := by
  have key : ∀ f : Nat → Value, vp_cell cA (n, x) = arrV cA n f → W p l e R s m args below meth c H locs cells slots Q (F0 m pc ls (.ref a :: rest)) := by
    intro f e
    rw [e] at hc
    refine W.alen (ty := ty) (n := v) hx hb hc (harr n f) ?_ rfl rfl hdg kk
    rw [arrV_size, ← hv]
    rfl
  rcases x with x | x | x | x | x
  · exact key (fun j => .int (x j)) rfl
  · exact key (fun j => .long (x j)) rfl
  · exact key (fun j => .float (x j)) rfl
  · exact key (fun j => .double (x j)) rfl
  · exact key (fun j => va_rf (x j)) rfl
theorem X1_getNamed (hx : p.tables.exec = Jvm.exec) (hb : c.code = cc) (hts : ∀ w ∈ lw_all, w.before args s = true) (hown : s.vm.findClass RX1 = some m.cls) (hK : KC D aC s) (hO : OC D aC A o la z H) (hlink : (Cond.fieldLink RX1 index RX1 (TX1 0).2.1 (TX1 0).2.2.1).before args s = true) (hdg : decode cc pc = .ok (.getfield index, 3)) (kk : W p l e R s m args below meth c H locs cells slots Q (F0 m (pc + 3) ls (.ref (lFn la) :: rest))) : W p l e R s m args below meth c H locs cells slots Q (F0 m pc ls (.ref (lAd la 10) :: rest)) := by
  obtain ⟨cell, q1, q2, q3, q4⟩ := hO.imm hO.2.2.2.1 (ci := 1) rfl
  obtain ⟨hS, hfc, kC, hkC, hkind⟩ := hK.1.1 1 _ rfl
  obtain ⟨cf, kf, fi, fd, hi, hsl⟩ := hS 0 (by decide)
  refine W.getf hx hb hown hlink hi (u_facts hfc hkC (u_lays hts in_X1 (k := 0) (by decide)) hi).1 q1 (by rw [q3]; exact fun h => by cases h) (v := .ref (lFn la)) ?_ rfl rfl hdg kk
  rw [hsl, q4 0 (by decide)]
end RF
def FX1_at (z : GS) (k : Nat) : GS := (z.1, va_up z.2.1 110 (fun j => if j < k then 0 else z.2.1 110 j), z.2.2)
theorem metX1_clear (l : Launch) (D : va_G) (aC : Nat → ClassId) (A : Nat → Prop) (o : Nat) (la : LC) (z : GS) : Met l yX1_clear (ws_ yX1_clear cX1_clear 2 none) ({ frames := 0, cells := 0, slots := 0, locals := 0 }) (va_Pc [.ref (lAd la 10)] (PC D aC A o la z)) (QG none (OC D aC A o la (FX1_clear z)) A) 0 0 A := by
  refine g_ofW (cc := cX1_clear) (maxL := 2) (ret := none) (own := RX1) (by decide) rfl rfl [.ref (lAd la 10)] (PC D aC A o la z) (Nat.le_of_ble_eq_true rfl) ?_
  intro p e s m below meth c ls hx hb hr hml hts hown hlocks hnm hPre hl
  obtain ⟨hO, hK, hA, hZ⟩ := hPre
  have hl : lv_has ls 2 [(0, .ref (lAd la 10))] := hl
  have hO : OC D aC A o la (FX1_at z 0) s.heap := by
    have : FX1_at z 0 = z := by
      show (z.1, va_up z.2.1 110 (fun j => if j < 0 then 0 else z.2.1 110 j), z.2.2) = z
      have : va_up z.2.1 110 (fun j => if j < 0 then 0 else z.2.1 110 j) = z.2.1 := by
        funext k
        by_cases hk : k = 110
        · subst hk
          simp [va_up]
        · simp [va_up, hk]
      rw [this]
    rw [this]
    exact hO
  refine g_open (A := A) (OC D aC A o la (FX1_at z 0)) hO (fun H locs hO hS => ?_)
  refine lv_iconst (v := 0) hx hb dX1_clear_0 (by decide) ?_
  refine lv_istore_n (lv' := [(1, .int 0), (0, .ref (lAd la 10))]) hx hb dX1_clear_1 rfl hl (by decide) rfl (fun ls hl => ?_)
  have key : ∀ (k i : Nat) (H : Heap) (locs : List Loc) (ls : Array Slot), i + k = 128 → OC D aC A o la (FX1_at z i) H → va_S A s.heap H locs → lv_has ls 2 [(0, .ref (lAd la 10)), (1, .int (nI i))] → W p l e ({ frames := 0, cells := 0, slots := 0, locals := 0 }) s m ([.ref (lAd la 10)] : List Value).toArray below meth c H locs 0 0 (MQ below (QG none (OC D aC A o la (FX1_clear z)) A) ([.ref (lAd la 10)] : List Value).toArray s 0 0 A) (F0 m 2 ls []) := by
    intro k
    induction k with
    | zero =>
      intro i H locs ls hi hO hS hl
      have hi : i = 128 := by omega
      subst hi
      refine lv_iload_n hx hb dX1_clear_2 rfl (lv_at hl 1 rfl) ?_
      refine lv_aload_n hx hb dX1_clear_3 rfl (lv_at hl 0 rfl) ?_
      refine X1_getNamed hx hb hts hown hK hO (hts _ q152) dX1_clear_4 ?_
      refine g_alen (v := nI 128) hx hb hO.2.1.1 (hK.1.2 0 _ rfl).1 rfl dX1_clear_7 ?_
      refine lv_icmp_ge (tgt := 24) hx hb dX1_clear_8 (by decide) (fun c1 => ?_) (fun c1 => ?_)
      · exact g_retGv hx hb hr hlocks (hO.ext110 (g' := fun _ => 0) (fun j hj => by simp [hj])) hS dX1_clear_24
      · exact absurd (nI_le (Nat.le_refl _) (by decide)) c1
    | succ k ih =>
      intro i H locs ls hi hO hS hl
      have hlt : i < 128 := by omega
      refine lv_iload_n hx hb dX1_clear_2 rfl (lv_at hl 1 rfl) ?_
      refine lv_aload_n hx hb dX1_clear_3 rfl (lv_at hl 0 rfl) ?_
      refine X1_getNamed hx hb hts hown hK hO (hts _ q152) dX1_clear_4 ?_
      refine g_alen (v := nI 128) hx hb hO.2.1.1 (hK.1.2 0 _ rfl).1 rfl dX1_clear_7 ?_
      refine lv_icmp_ge (tgt := 24) hx hb dX1_clear_8 (by decide) (fun c1 => ?_) (fun c1 => ?_)
      · exact absurd c1 (nI_ge hlt (by decide))
      · refine lv_aload_n hx hb dX1_clear_11 rfl (lv_at hl 0 rfl) ?_
        refine X1_getNamed hx hb hts hown hK hO (hts _ q152) dX1_clear_12 ?_
        refine lv_iload_n hx hb dX1_clear_15 rfl (lv_at hl 1 rfl) ?_
        refine lv_iconst (v := 0) hx hb dX1_clear_16 (by decide) ?_
        have hti : (nI i).toInt = (i : Int) := nI_toInt (by omega)
        refine X0_nastore hx hb hK hO hS (i := nI i) ⟨by rw [hti]; omega, by rw [hti]; omega⟩ dX1_clear_17 (fun H locs z1 e1 hO hS => ?_)
        refine lv_iinc (v := nI (i + 1)) (lv' := [(1, .int (nI (i + 1))), (0, .ref (lAd la 10))]) hx hb dX1_clear_18 hl (k := 1) rfl (nI_1 i) (by decide) rfl (fun ls hl => ?_)
        refine lv_goto (tgt := 2) hx hb dX1_clear_21 (by decide) ?_
        refine ih (i + 1) H locs ls (by omega) ?_ hS (lv_sub hl [1, 0] rfl)
        have : z1 = FX1_at z (i + 1) := by
          rw [e1]
          refine Prod.ext rfl (Prod.ext ?_ rfl)
          show va_up (FX1_at z i).2.1 110 _ = (FX1_at z (i + 1)).2.1
          funext q
          by_cases hq : q = 110
          · subst hq
            simp only [FX1_at, va_up_self]
            funext j
            have hc : (nI i).toNatClampNeg = i := nI_clamp (by omega)
            by_cases hj : j = i
            · subst hj
              simp [upd, hc]
            · have : (j < i + 1) = (j < i) := by simp; omega
              simp [upd, hc, hj, this]
          · simp [FX1_at, va_up, hq]
        rw [← this]
        exact hO
  exact key 128 0 H locs ls (by omega) hO hS (lv_sub hl [1, 0] rfl)
theorem clX1_clear {p : Program} {l : Launch} {e : Env} {R : Room} {s : State} {m : MethodId} {args : Array Value} {below : List Frame} {meth : Method} {c : Code} {H : Heap} {locs : List Loc} {cells slots : Nat} {Q : State → Prop} {cc : ByteArray} {pc nL idx fr lo : Nat} {ls : Array Slot} {rest : List Value} {own : String} {D : va_G} {aC : Nat → ClassId} {A : Nat → Prop} {o : Nat} {la : LC} {z zq : GS}
    (hf : CallFix p m c cc nL s args lw_all own) (hK : KC D aC s) (hO : OC D aC A o la z H) (hA : ∀ q : Nat, s.heap.size ≤ q → A q) (hZ : ZX A s s.heap) (hS : va_S A s.heap H locs)
    (hM : Met l yX1_clear (ws_ yX1_clear cX1_clear 2 none) ({ frames := fr, cells := 0, slots := 0, locals := lo }) (va_Pc [.ref (lAd la 10)] (PC D aC A o la z)) (QG none (OC D aC A o la zq) A) 0 0 A)
    (hq : Cond.methodLink own idx yX1_clear ∈ lw_all) (hs : ls.size = nL) (hr : (rest.map fun v => v.category).sum ≤ 8) (hR : fr + 1 ≤ R.frames ∧ 8 + (2 + 11) + lo ≤ R.locals) (hcs : cells + 0 ≤ R.cells ∧ slots + 0 ≤ R.slots) (hd : decode cc pc = .ok (.invokevirtual idx, 3)) (kk : ∀ (H1 : Heap) (locs1 : List Loc), OC D aC A o la zq H1 → va_S A s.heap H1 locs1 → W p l e R s m args below meth c H1 locs1 cells slots Q (F0 m (pc + 3) ls rest)) : W p l e R s m args below meth c H locs cells slots Q (F0 m pc ls (.ref (lAd la 10) :: rest)) := by
  have hrec : ∃ cell : Cell, H[lAd la 10]? = some cell ∧ cell.vm.isStatics = false ∧ s.vm.findClass RX1 = some cell.cls := by
    obtain ⟨cell, g1, g2, g3, -⟩ := hO.imm hO.2.2.2.1 (ci := 1) rfl
    exact ⟨cell, g1, by rw [g3]; rfl, by rw [g2]; exact (hK.1.1 1 _ rfl).2.1⟩
  exact g_callG (W.runV (As := []) (rest := rest) hf hM (cwV 0 hf.2.2.2.2 (lw_V hq q824 q825 q91 q826) rfl rfl rfl (by decide +kernel) hR) ⟨PC.blind, hrec, fun U hU hW => ⟨rfl, PC.at hO hK hA hZ hS hU hW⟩⟩ rfl rfl hs rfl (lv_room hr) hd hcs) hS (fun H1 locs1 hP hS _ _ => kk H1 locs1 hP hS)
