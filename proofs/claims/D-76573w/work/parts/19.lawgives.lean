set_option maxRecDepth 100000
def FX0_lawGives (z : GS) : Int32 := if gF z 202 = 0 then 0 else z.2.2.2.2.2 (z.2.1 110)
theorem metX0_lawGives (l : Launch) (D : va_G) (aC : Nat → ClassId) (A : Nat → Prop) (o : Nat) (la : LC) (z : GS) (r : Int32) (h : FX0_lawGives z = r) : Met l yX0_lawGives (ws_ yX0_lawGives cX0_lawGives 2 (some .int)) ({ frames := 200, cells := 0, slots := 0, locals := 20000 }) (va_Pc [.ref o] (PC D aC A o la z)) (QR (some (.int r))) 0 0 (fun _ => False) := by
  refine g_ofW (cc := cX0_lawGives) (maxL := 2) (ret := (some .int)) (own := RX0) (by decide) rfl rfl [.ref o] (PC D aC A o la z) (Nat.le_of_ble_eq_true rfl) ?_
  intro p e s m below meth c ls hx hb hr hml hts hown hlocks hnm hPre hl
  obtain ⟨hO, hK, hA, hZ⟩ := hPre
  have hS : va_S A s.heap s.heap [] := va_S.rf
  have hf : CallFix p m c cX0_lawGives 2 s _ lw_all RX0 := ⟨hx, hb, hml, hown, hts⟩
  have hl : lv_has ls 2 [(0, .ref o)] := hl
  have hend : ∀ (ls : Array Slot), r = 0 → lv_has ls 2 [(0, .ref o)] → W p l e ({ frames := 200, cells := 0, slots := 0, locals := 20000 }) s m ([.ref o] : List Value).toArray below meth c s.heap [] 0 0 (MQ below (QR (some (.int r))) ([.ref o] : List Value).toArray s 0 0 (fun _ => False)) (F0 m 50 ls []) := by
    intro ls h0 hl
    refine lv_iconst (v := 0) hx hb dX0_lawGives_50 (by decide) ?_
    exact g_retR hx hb hr hlocks h0.symm dX0_lawGives_51
  have key : ∀ (n a : Nat) (d : (Nat → Int32) → Int32) (ls : Array Slot), LineAt (lIm la) LDEP n a d → d (z.2.1 110) = r → lv_has ls 2 [(0, .ref o), (1, .ref a)] → W p l e ({ frames := 200, cells := 0, slots := 0, locals := 20000 }) s m ([.ref o] : List Value).toArray below meth c s.heap [] 0 0 (MQ below (QR (some (.int r))) ([.ref o] : List Value).toArray s 0 0 (fun _ => False)) (F0 m 5 ls []) := by
    intro n
    induction n with
    | zero => intro a d ls h; exact h.elim
    | succ n ih =>
      intro a d ls hd hans hl
      obtain ⟨F, t, nx, g, dt, dg, dn, hi, h0, h1, h2, hg, ht, hn, rfl⟩ := hd
      have hnext : ∀ (ls : Array Slot), dn (z.2.1 110) = r → lv_has ls 2 [(0, .ref o), (1, .ref a)] → W p l e ({ frames := 200, cells := 0, slots := 0, locals := 20000 }) s m ([.ref o] : List Value).toArray below meth c s.heap [] 0 0 (MQ below (QR (some (.int r))) ([.ref o] : List Value).toArray s 0 0 (fun _ => False)) (F0 m 42 ls []) := by
        intro ls hans hl
        refine lv_aload_n hx hb dX0_lawGives_42 rfl (lv_at hl 1 rfl) ?_
        refine nd_getN hx hb hts in_X6 tyX6_own hown hK hO (ci := 6) rfl hi 2 (by decide) h2 (hK.nw q596 rfl) dX0_lawGives_43 ?_
        cases nx with
        | none =>
          simp only at hn
          subst hn
          refine lv_astore_nN (lv' := [(1, .null), (0, .ref o)]) hx hb dX0_lawGives_46 rfl hl (by decide) rfl (fun ls hl => ?_)
          refine lv_goto (tgt := 5) hx hb dX0_lawGives_47 (by decide) ?_
          refine lv_aload_nN hx hb dX0_lawGives_5 rfl (lv_at hl 0 rfl) ?_
          refine lv_ifnullN (tgt := 50) hx hb dX0_lawGives_6 (by decide) ?_
          exact hend ls hans.symm (lv_sub hl [1] rfl)
        | some b =>
          simp only at hn
          refine lv_astore_n (lv' := [(1, .ref b), (0, .ref o)]) hx hb dX0_lawGives_46 rfl hl (by decide) rfl (fun ls hl => ?_)
          refine lv_goto (tgt := 5) hx hb dX0_lawGives_47 (by decide) ?_
          exact ih b dn ls hn hans (lv_sub hl [1, 0] rfl)
      refine lv_aload_n hx hb dX0_lawGives_5 rfl (lv_at hl 1 rfl) ?_
      refine lv_ifnull hx hb dX0_lawGives_6 ?_
      refine lv_aload_n hx hb dX0_lawGives_9 rfl (lv_at hl 1 rfl) ?_
      refine nd_getN hx hb hts in_X6 tyX6_own hown hK hO (ci := 6) rfl hi 0 (by decide) h0 (hK.nw q592 rfl) dX0_lawGives_10 ?_
      cases t with
      | none =>
        simp only at ht
        subst ht
        have hans : dg (z.2.1 110) = r := by rw [← hans]; rfl
        refine lv_ifnullN (tgt := 30) hx hb dX0_lawGives_13 (by decide) ?_
        refine lv_aload_n hx hb dX0_lawGives_30 rfl (lv_at hl 1 rfl) ?_
        refine nd_getN hx hb hts in_X6 tyX6_own hown hK hO (ci := 6) rfl hi 1 (by decide) h1 (hK.nw q594 rfl) dX0_lawGives_31 ?_
        refine lv_aload_n hx hb dX0_lawGives_34 rfl (lv_at hl 0 rfl) ?_
        refine X0_getA hx hb hts hown hK hO 10 (by decide) (Or.inr rfl) (hts _ q176) dX0_lawGives_35 ?_
        refine node_call l D aC A o la z _ _ _ hg _ _ _ _ _ _ _ _ _ _ _ _ _ _ _ _ _ _ _ _ _ hf hK hO hA hZ hS q831 hl.1 (Nat.le_of_ble_eq_true rfl) ⟨Nat.le_of_ble_eq_true rfl, Nat.le_of_ble_eq_true rfl⟩ ⟨Nat.le_refl _, Nat.le_refl _⟩ dX0_lawGives_38 ?_
        exact g_retR hx hb hr hlocks (by rw [hans]) dX0_lawGives_41
      | some b =>
        simp only at ht
        refine lv_ifnull hx hb dX0_lawGives_13 ?_
        refine lv_aload_n hx hb dX0_lawGives_16 rfl (lv_at hl 1 rfl) ?_
        refine nd_getN hx hb hts in_X6 tyX6_own hown hK hO (ci := 6) rfl hi 0 (by decide) h0 (hK.nw q592 rfl) dX0_lawGives_17 ?_
        refine lv_aload_n hx hb dX0_lawGives_20 rfl (lv_at hl 0 rfl) ?_
        refine X0_getA hx hb hts hown hK hO 10 (by decide) (Or.inr rfl) (hts _ q176) dX0_lawGives_21 ?_
        refine node_call l D aC A o la z _ _ _ ht _ _ _ _ _ _ _ _ _ _ _ _ _ _ _ _ _ _ _ _ _ hf hK hO hA hZ hS q831 hl.1 (Nat.le_of_ble_eq_true rfl) ⟨Nat.le_of_ble_eq_true rfl, Nat.le_of_ble_eq_true rfl⟩ ⟨Nat.le_refl _, Nat.le_refl _⟩ dX0_lawGives_24 ?_
        refine lv_if_eq (tgt := 42) hx hb dX0_lawGives_27 (by decide) (fun c1 => ?_) (fun c1 => ?_)
        · exact hnext ls (by rw [← hans]; simp [c1]) hl
        · have hans : dg (z.2.1 110) = r := by rw [← hans]; simp [c1]
          refine lv_aload_n hx hb dX0_lawGives_30 rfl (lv_at hl 1 rfl) ?_
          refine nd_getN hx hb hts in_X6 tyX6_own hown hK hO (ci := 6) rfl hi 1 (by decide) h1 (hK.nw q594 rfl) dX0_lawGives_31 ?_
          refine lv_aload_n hx hb dX0_lawGives_34 rfl (lv_at hl 0 rfl) ?_
          refine X0_getA hx hb hts hown hK hO 10 (by decide) (Or.inr rfl) (hts _ q176) dX0_lawGives_35 ?_
          refine node_call l D aC A o la z _ _ _ hg _ _ _ _ _ _ _ _ _ _ _ _ _ _ _ _ _ _ _ _ _ hf hK hO hA hZ hS q831 hl.1 (Nat.le_of_ble_eq_true rfl) ⟨Nat.le_of_ble_eq_true rfl, Nat.le_of_ble_eq_true rfl⟩ ⟨Nat.le_refl _, Nat.le_refl _⟩ dX0_lawGives_38 ?_
          exact g_retR hx hb hr hlocks (by rw [hans]) dX0_lawGives_41
  unfold FX0_lawGives at h
  refine lv_aload_n hx hb dX0_lawGives_0 rfl (lv_at hl 0 rfl) ?_
  refine X0_getLaw hx hb hts hown hK hO (hts _ q175) dX0_lawGives_1 ?_
  rcases hO.2.2.2.2.2.2.2 with ⟨g1, g2⟩ | ⟨g1, a, g2, g3⟩
  · rw [g2]
    refine lv_astore_nN (lv' := [(1, .null), (0, .ref o)]) hx hb dX0_lawGives_4 rfl hl (by decide) rfl (fun ls hl => ?_)
    refine lv_aload_nN hx hb dX0_lawGives_5 rfl (lv_at hl 0 rfl) ?_
    refine lv_ifnullN (tgt := 50) hx hb dX0_lawGives_6 (by decide) ?_
    exact hend ls (by rw [← h, if_pos (show gF z 202 = 0 from g1)]) (lv_sub hl [1] rfl)
  · rw [g2]
    refine lv_astore_n (lv' := [(1, .ref a), (0, .ref o)]) hx hb dX0_lawGives_4 rfl hl (by decide) rfl (fun ls hl => ?_)
    exact key LLEN a _ ls g3 (by rw [← h, if_neg (show ¬ gF z 202 = 0 from g1)]; rfl) (lv_sub hl [1, 0] rfl)
theorem clX0_lawGives {p : Program} {l : Launch} {e : Env} {R : Room} {s : State} {m : MethodId} {args : Array Value} {below : List Frame} {meth : Method} {c : Code} {H : Heap} {locs : List Loc} {cells slots : Nat} {Q : State → Prop} {cc : ByteArray} {pc nL idx fr lo : Nat} {ls : Array Slot} {rest : List Value} {own : String} {D : va_G} {aC : Nat → ClassId} {A : Nat → Prop} {o : Nat} {la : LC} {z : GS}  {r : Int32} (hf : CallFix p m c cc nL s args lw_all own) (hK : KC D aC s) (hO : OC D aC A o la z H) (hA : ∀ q : Nat, s.heap.size ≤ q → A q) (hZ : ZX A s s.heap) (hS : va_S A s.heap H locs) (hM : Met l yX0_lawGives (ws_ yX0_lawGives cX0_lawGives 2 (some .int)) ({ frames := fr, cells := 0, slots := 0, locals := lo }) (va_Pc [.ref o] (PC D aC A o la z)) (QR (some (.int r))) 0 0 (fun _ => False)) (hq : Cond.methodLink own idx yX0_lawGives ∈ lw_all) (hs : ls.size = nL) (hr : (rest.map fun v => v.category).sum ≤ 8) (hR : fr + 1 ≤ R.frames ∧ 8 + (2 + 11) + lo ≤ R.locals) (hcs : cells + 0 ≤ R.cells ∧ slots + 0 ≤ R.slots) (hd : decode cc pc = .ok (.invokevirtual idx, 3)) (kk : W p l e R s m args below meth c H locs cells slots Q (F0 m (pc + 3) ls (.int r :: rest))) : W p l e R s m args below meth c H locs cells slots Q (F0 m pc ls (.ref o :: rest)) :=
  g_callR (W.runV (As := []) (rest := rest) hf hM (cwV 0 hf.2.2.2.2 (lw_V hq q829 qs25 q90 q830) rfl rfl rfl (by decide +kernel) hR) ⟨PC.blind, OC.recv hK hO, fun U hU hW => ⟨rfl, PC.at hO hK hA hZ hS hU hW⟩⟩ rfl rfl hs rfl (lv_room hr) hd hcs) kk
