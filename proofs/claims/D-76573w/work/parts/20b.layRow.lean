set_option maxRecDepth 100000
/-! what layRow computes -/
def zTold (z : GS) (s : Nat) : GS := (va_up z.1 23 (z.2.1 141 s), va_up z.2.1 22 (fun k => if k < (z.2.1 141 s).toNatClampNeg then (z.2.2.1 (150 + s) k).toInt32 else z.2.1 22 k), z.2.2)
def FX0_layRow (x1 : Int32) (z : GS) : Option (Int32 × GS) := if okI x1 6 then (if gI z 140 x1 = 0 then some (0, zTold z x1.toNatClampNeg) else if gI z 140 x1 = -1 then some (-11, sF z 23 0) else some (-12, sF z 23 0)) else none
section GRW
variable {D : va_G} {aC : Nat → ClassId} {A : Nat → Prop} {o : Nat} {la : LC} {z : GS} {H : Heap}
/-- the world's cells are all old ones -/
theorem OC.grow {H1 : Heap} (h : OC D aC A o la z H) (hq : ∀ x : Nat, x < H.size → H1[x]? = H[x]?) : OC D aC A o la z H1 := by
  have lt : ∀ {x : Nat} {cell : Cell}, H[x]? = some cell → x < H.size := fun h => (Array.getElem?_eq_some_iff.mp h).1
  obtain ⟨h1, ⟨h2, h3, h4, h5⟩, h6, h7⟩ := h
  refine ⟨h1.kept (hq _ (lt h1.1.choose_spec.1)) (fun k hk ha => hq _ (lt (h1.2 k hk ha))), ⟨by rw [hq _ (lt h2)]; exact h2, fun i hi => ⟨(h3 i hi).1, (h3 i hi).2.kept (hq _ (lt (h3 i hi).2.choose_spec.1))⟩, fun sh hs hr => ⟨by rw [hq _ (lt (h4 sh hs hr).1)]; exact (h4 sh hs hr).1, (h4 sh hs hr).2⟩, fun a e9 he => ?_⟩, h6, h7⟩
  obtain ⟨r, g1, g2⟩ := h5 a e9 he
  exact ⟨r, g1, g2.kept (hq _ (lt g2.choose_spec.1))⟩
end GRW
def zTk (z : GS) (s k : Nat) : GS := (va_up z.1 23 (nI k), va_up z.2.1 22 (fun j => if j < k then (z.2.2.1 (150 + s) j).toInt32 else z.2.1 22 j), z.2.2)
theorem zTk_0 (z : GS) (s : Nat) : zTk z s 0 = sF z 23 0 := by
  have : va_up z.2.1 22 (fun j => if j < 0 then (z.2.2.1 (150 + s) j).toInt32 else z.2.1 22 j) = z.2.1 := by
    funext k
    by_cases h : k = 22
    · subst h
      rw [va_up_self]
      funext j
      simp
    · rw [va_up_ne _ _ h]
  unfold zTk
  rw [this]
  rfl
theorem zTk_step (z : GS) (s k : Nat) (hk : k < 60) : sF (sI (zTk z s k) 22 (nI k) ((z.2.2.1 (150 + s) k).toInt32)) 23 (nI (k + 1)) = zTk z s (k + 1) := by
  have h1 : (nI k).toNatClampNeg = k := nI_clamp (by omega)
  have e1 : va_up (va_up z.1 23 (nI k)) 23 (nI (k + 1)) = va_up z.1 23 (nI (k + 1)) := by
    funext j
    by_cases h : j = 23
    · subst h; rw [va_up_self, va_up_self]
    · rw [va_up_ne _ _ h, va_up_ne _ _ h, va_up_ne _ _ h]
  have e2 : (sI (zTk z s k) 22 (nI k) ((z.2.2.1 (150 + s) k).toInt32)).2.1 = (zTk z s (k + 1)).2.1 := by
    funext q
    by_cases h : q = 22
    · subst h
      have e0 : (sI (zTk z s k) 22 (nI k) ((z.2.2.1 (150 + s) k).toInt32)).2.1 22 = upd ((zTk z s k).2.1 22) (nI k).toNatClampNeg ((z.2.2.1 (150 + s) k).toInt32) := by
        show va_up (zTk z s k).2.1 22 (upd ((zTk z s k).2.1 22) (nI k).toNatClampNeg ((z.2.2.1 (150 + s) k).toInt32)) 22 = _
        rw [va_up_self]
      have e9 : (zTk z s (k + 1)).2.1 22 = fun j => if j < k + 1 then (z.2.2.1 (150 + s) j).toInt32 else z.2.1 22 j := by
        show va_up z.2.1 22 (fun j => if j < k + 1 then (z.2.2.1 (150 + s) j).toInt32 else z.2.1 22 j) 22 = _
        rw [va_up_self]
      have e3 : (zTk z s k).2.1 22 = fun j => if j < k then (z.2.2.1 (150 + s) j).toInt32 else z.2.1 22 j := by
        show va_up z.2.1 22 (fun j => if j < k then (z.2.2.1 (150 + s) j).toInt32 else z.2.1 22 j) 22 = _
        rw [va_up_self]
      rw [e0, e9, h1, e3]
      funext j
      unfold upd
      by_cases hj : j = k
      · subst hj; simp
      · have : (j < k + 1) = (j < k) := by simp; omega
        simp [hj, this]
    · have e0 : (sI (zTk z s k) 22 (nI k) ((z.2.2.1 (150 + s) k).toInt32)).2.1 q = (zTk z s k).2.1 q := by
        show va_up (zTk z s k).2.1 22 (upd ((zTk z s k).2.1 22) (nI k).toNatClampNeg ((z.2.2.1 (150 + s) k).toInt32)) q = _
        rw [va_up_ne _ _ h]
      have e9 : (zTk z s (k + 1)).2.1 q = z.2.1 q := by
        show va_up z.2.1 22 (fun j => if j < k + 1 then (z.2.2.1 (150 + s) j).toInt32 else z.2.1 22 j) q = _
        rw [va_up_ne _ _ h]
      have e3 : (zTk z s k).2.1 q = z.2.1 q := by
        show va_up z.2.1 22 (fun j => if j < k then (z.2.2.1 (150 + s) j).toInt32 else z.2.1 22 j) q = _
        rw [va_up_ne _ _ h]
      rw [e0, e9, e3]
  show (va_up (va_up z.1 23 (nI k)) 23 (nI (k + 1)), (sI (zTk z s k) 22 (nI k) ((z.2.2.1 (150 + s) k).toInt32)).2.1, z.2.2) = _
  rw [e1, e2]
  rfl
theorem zTk_told (z : GS) (s n : Nat) (hn : n < 61) (h : z.2.1 141 s = nI n) : zTk z s n = zTold z s := by
  unfold zTold
  rw [h, nI_clamp (by omega)]
  rfl
theorem nc_byte : ∀ ci, 12 ≤ ci → ci < 25 → ci ≠ 20 → ∃ r, vwCl[ci]? = some r ∧ (r.1, "ShieldLine$ByteRow") ∈ ncTab ∧ packageOf r.1 = "" ∧ castOk r.1 "ShieldLine$ByteRow" = true
  | 12, _, _, _ => ⟨_, rfl, by decide +kernel, by decide +kernel, by decide +kernel⟩
  | 13, _, _, _ => ⟨_, rfl, by decide +kernel, by decide +kernel, by decide +kernel⟩
  | 14, _, _, _ => ⟨_, rfl, by decide +kernel, by decide +kernel, by decide +kernel⟩
  | 15, _, _, _ => ⟨_, rfl, by decide +kernel, by decide +kernel, by decide +kernel⟩
  | 16, _, _, _ => ⟨_, rfl, by decide +kernel, by decide +kernel, by decide +kernel⟩
  | 17, _, _, _ => ⟨_, rfl, by decide +kernel, by decide +kernel, by decide +kernel⟩
  | 18, _, _, _ => ⟨_, rfl, by decide +kernel, by decide +kernel, by decide +kernel⟩
  | 19, _, _, _ => ⟨_, rfl, by decide +kernel, by decide +kernel, by decide +kernel⟩
  | 21, _, _, _ => ⟨_, rfl, by decide +kernel, by decide +kernel, by decide +kernel⟩
  | 22, _, _, _ => ⟨_, rfl, by decide +kernel, by decide +kernel, by decide +kernel⟩
  | 23, _, _, _ => ⟨_, rfl, by decide +kernel, by decide +kernel, by decide +kernel⟩
  | 24, _, _, _ => ⟨_, rfl, by decide +kernel, by decide +kernel, by decide +kernel⟩
  | 20, _, _, h => absurd rfl h
  | n + 25, _, h, _ => absurd h (by omega)
  | 0, h, _, _ => absurd h (by decide)
  | 1, h, _, _ => absurd h (by decide)
  | 2, h, _, _ => absurd h (by decide)
  | 3, h, _, _ => absurd h (by decide)
  | 4, h, _, _ => absurd h (by decide)
  | 5, h, _, _ => absurd h (by decide)
  | 6, h, _, _ => absurd h (by decide)
  | 7, h, _, _ => absurd h (by decide)
  | 8, h, _, _ => absurd h (by decide)
  | 9, h, _, _ => absurd h (by decide)
  | 10, h, _, _ => absurd h (by decide)
  | 11, h, _, _ => absurd h (by decide)
theorem bCi_lt (k : Nat) : 12 ≤ bCi k ∧ bCi k < 20 := by
  unfold bCi
  repeat' split
  all_goals omega
/-- what a shelf holds: nothing, a row of bytes, or what isn't one -/
theorem OC.shelf {D : va_G} {aC : Nat → ClassId} {A : Nat → Prop} {o : Nat} {la : LC} {z : GS} {H : Heap} (hO : OC D aC A o la z H) {sh : Nat} (hs : sh < 6) : (kHold (kz z) sh = -1 ∧ lQ la 44 sh = none) ∨ (kHold (kz z) sh = 0 ∧ ∃ a, lQ la 44 sh = some a ∧ lIm la a = some (20, fun _ => .ref (lIa la sh))) ∨ (kHold (kz z) sh ≠ 0 ∧ kHold (kz z) sh ≠ -1 ∧ ∃ a ci F, lQ la 44 sh = some a ∧ lIm la a = some (ci, F) ∧ 12 ≤ ci ∧ ci < 25 ∧ ci ≠ 20) := by
  rcases hO.2.2.2.2.2.2.1 sh hs with ⟨g1, g2⟩ | ⟨g1, g2, a, g3, g4⟩ | ⟨b, g1, g2, g3⟩
  · exact Or.inl ⟨g1, g2⟩
  · right
    by_cases h0 : kHold (kz z) sh = 0
    · left
      rw [h0] at g4
      exact ⟨h0, a, g3, g4⟩
    · right
      have h5 : (kHold (kz z) sh).toNatClampNeg = (kHold (kz z) sh).toInt.toNat := rfl
      have h6 : (kHold (kz z) sh).toInt ≠ 0 := fun h => h0 (Int32.toInt_inj.mp h)
      have h7 := g1.1
      have h8 := g1.2
      refine ⟨h0, fun h => ?_, a, _, _, g3, g4, by omega, by omega, by omega⟩
      rw [h] at h7
      exact absurd h7 (by decide)
  · right; right
    have hb : (b : Int) < 2147483648 := by
      have h1 : kBods (kz z) = (z.1 43).toInt.toNat := rfl
      have h2 := Int32.toInt_lt (z.1 43)
      omega
    have h3 : ((10 : Int32) + nI b).toInt = Int.bmod (10 + b) 4294967296 := by
      rw [Int32.toInt_add, nI_toInt (by omega)]
      rfl
    have hne : ∀ q : Int, -1 ≤ q → q ≤ 0 → Int.bmod (10 + b) 4294967296 ≠ q := fun q h1 h2 => by
      rw [Int.bmod]
      split <;> omega
    obtain ⟨-, a, i1, i2⟩ := hO.2.2.2.2.2.1 b g1
    have h9 := bCi_lt (kA (kz z) 10 b).toNatClampNeg
    refine ⟨fun h => ?_, fun h => ?_, a, _, _, g3.trans i1, i2, h9.1, by omega, by omega⟩
    · rw [g2] at h; rw [h] at h3; exact hne _ (by decide) (by decide) h3.symm
    · rw [g2] at h; rw [h] at h3; exact hne _ (by decide) (by decide) h3.symm
theorem metX0_layRow (l : Launch) (hst : l.stackTraces = false) (D : va_G) (aC : Nat → ClassId) (A : Nat → Prop) (o : Nat) (la : LC) (x1 : Int32) (z : GS) (r : Int32) (zq : GS) (h : FX0_layRow x1 z = some (r, zq)) : Met l yX0_layRow (wsW_ yX0_layRow cX0_layRow 4 (some .int) [(5, 53, 56, 114), (5, 53, 60, 116)]) ({ frames := 12, cells := 3, slots := 1010, locals := 11000 }) (va_Pc [.ref o, .int x1] (PC D aC A o la z)) (QG (some (.int r)) (OC D aC A o la zq) A) 3 1010 A := by
  refine g_ofWH (cc := cX0_layRow) (maxL := 4) (ret := (some .int)) (hh := [(5, 53, 56, 114), (5, 53, 60, 116)]) (own := RX0) (by decide) rfl rfl [.ref o, .int x1] (PC D aC A o la z) (Nat.le_of_ble_eq_true rfl) ?_
  intro p e s m below meth c ls hx hb hr hml hts hown hlocks htab hPre hl
  obtain ⟨hO, hK, hA, hZ⟩ := hPre
  have hf : CallFix p m c cX0_layRow 4 s _ lw_all RX0 := ⟨hx, hb, hml, hown, hts⟩
  have hl : lv_has ls 4 [(0, .ref o), (1, .int x1)] := hl
  refine g_open (A := A) (OC D aC A o la z) hO (fun H locs hO hS => ?_)
  unfold FX0_layRow at h
  obtain ⟨hin, h⟩ := grd h
  have hsh : x1.toNatClampNeg < 6 := by
    have h1 : x1.toNatClampNeg = x1.toInt.toNat := rfl
    have := hin.1; have := hin.2
    omega
  refine lv_aload_n hx hb dX0_layRow_0 rfl (lv_at hl 0 rfl) ?_
  refine lv_iconst (v := 0) hx hb dX0_layRow_1 (by decide) ?_
  refine X0_putF hx hb hts hown hK hO hS 23 (by decide) rfl (by decide) (by decide) (hts _ q189) rfl (ty := .int) rfl rfl rfl dX0_layRow_2 (fun H locs z1 e1 hO hS => ?_)
  subst e1
  refine lv_aload_n hx hb dX0_layRow_5 rfl (lv_at hl 0 rfl) ?_
  refine X0_getA hx hb hts hown hK hO 44 (by decide) (Or.inl rfl) (hts _ q210) dX0_layRow_6 ?_
  refine lv_iload_n hx hb dX0_layRow_9 rfl (lv_at hl 1 rfl) ?_
  have hc44 : H[lAd la 44]? = some (vp_cell (aC 12) (6, .inr (.inr (.inr (.inr (lQ la 44)))))) := oa_cell hO.1 (k := 44) (by decide) (d := 12) (n := 6) rfl rfl rfl
  have hho : kHold (kz (sF z 23 0)) x1.toNatClampNeg = gI z 140 x1 := rfl
  rcases hO.shelf hsh with ⟨k1, k2⟩ | ⟨k1, a, k2, k3⟩ | ⟨k1, k1', a, ci, F, k2, k3, k4, k5, k6⟩
  · refine g_aald hx hb hc44 (hK.1.2 9 _ rfl).1 rfl hin (v := .null) (by rw [k2]; rfl) dX0_layRow_10 ?_
    refine g_castN hx hb dX0_layRow_11 ?_
    refine lv_astore_nN (lv' := [(2, .null), (0, .ref o), (1, .int x1)]) hx hb dX0_layRow_14 rfl hl (by decide) rfl (fun ls hl => ?_)
    refine lv_iconst (v := 0) hx hb dX0_layRow_15 (by decide) ?_
    refine lv_istore_n (lv' := [(3, .int 0), (2, .null), (0, .ref o), (1, .int x1)]) hx hb dX0_layRow_16 rfl hl (by decide) rfl (fun ls hl => ?_)
    refine lv_iload_n hx hb dX0_layRow_17 rfl (lv_at hl 0 rfl) ?_
    refine lv_aload_nN hx hb dX0_layRow_18 rfl (lv_at hl 1 rfl) ?_
    refine vx_invokeN (As := []) hx hb hown (hts _ q960) (hts _ q961) (hts _ q963) (hts _ q962) (by decide +kernel) (by decide +kernel) dX0_layRow_19 ?_ rfl
    refine g_vmN hx hst hts hK hZ hS (hl.1.trans hml.symm) (Nat.le_of_ble_eq_true rfl) (Nat.le_of_ble_eq_true rfl) ⟨Nat.le_of_ble_eq_true rfl, Nat.le_of_ble_eq_true rfl⟩ hlocks (fun H1 q9 ce hz1 hq1 hS hce hv hcl => ?_)
    refine g_catch0 (T := "java/lang/NullPointerException") hown hK htab 1 rfl (fun w hw => ?_) rfl (by decide) (hts _ q430) q452 hce hv hcl ?_
    · rw [show (tableOf [(5, 53, 56, 114), (5, 53, 60, 116)]).take 1 = [⟨5, 53, 56, 114⟩] from rfl] at hw
      cases List.mem_singleton.mp hw
      exact Or.inr ⟨by decide, "java/lang/ClassCastException", hts _ q346, hK.nc (by decide +kernel)⟩
    have hO := hO.grow hq1
    rw [hho] at k1
    rw [if_neg (by rw [k1]; decide), if_pos k1] at h
    refine lv_astore_n (lv' := [(2, .ref q9), (3, .int 0), (0, .ref o), (1, .int x1)]) hx hb dX0_layRow_60 rfl hl (by decide) rfl (fun ls hl => ?_)
    refine lv_bipush (v := -11) hx hb dX0_layRow_61 (by decide) ?_
    obtain ⟨e8, rfl⟩ := Prod.mk.inj (Option.some.inj h)
    refine W.widen (k := 3) (n := 1010) (Nat.le_of_ble_eq_true rfl) (Nat.le_of_ble_eq_true rfl) ?_
    exact g_retG hx hb hr hlocks e8 hO hS dX0_layRow_63
  · refine g_aald hx hb hc44 (hK.1.2 9 _ rfl).1 rfl hin (v := .ref a) (by rw [k2]; rfl) dX0_layRow_10 ?_
    refine g_castI hx hb hown (hts _ q477) hK hO (ci := 20) rfl k3 (Or.inl rfl) dX0_layRow_11 ?_
    obtain ⟨a', r1, -, r2, r3, r4, r5⟩ := hO.row (h := 0) hsh k1 (by decide)
    rw [hho] at k1
    rw [if_pos k1] at h
    obtain ⟨n, hn, en⟩ := nI_of (x := kA (kz (sF z 23 0)) 21 x1.toNatClampNeg) (by rw [Int32.lt_iff_toInt_lt]; show ¬ (kA (kz (sF z 23 0)) 21 x1.toNatClampNeg).toInt < 0; have := r2.1; omega)
    have hn60 : n < 61 := by
      have := r2.2
      rw [en, nI_toInt hn] at this
      omega
    have en' : z.2.1 141 x1.toNatClampNeg = nI n := en
    refine lv_astore_n (lv' := [(2, .ref a), (0, .ref o), (1, .int x1)]) hx hb dX0_layRow_14 rfl hl (by decide) rfl (fun ls hl => ?_)
    refine lv_iconst (v := nI 0) hx hb dX0_layRow_15 (by decide) ?_
    refine lv_istore_n (lv' := [(3, .int (nI 0)), (2, .ref a), (0, .ref o), (1, .int x1)]) hx hb dX0_layRow_16 rfl hl (by decide) rfl (fun ls hl => ?_)
    rw [← zTk_0 z x1.toNatClampNeg] at hO
    have hloop : ∀ (d k : Nat) (H : Heap) (locs : List Loc) (ls : Array Slot), k + d = n → OC D aC A o la (zTk z x1.toNatClampNeg k) H → va_S A s.heap H locs → lv_has ls 4 [(3, .int (nI k)), (2, .ref a), (0, .ref o), (1, .int x1)] → W p l e ({ frames := 12, cells := 3, slots := 1010, locals := 11000 }) s m ([.ref o, .int x1] : List Value).toArray below meth c H locs 0 0 (MQ below (QG (some (.int r)) (OC D aC A o la zq) A) ([.ref o, .int x1] : List Value).toArray s 3 1010 A) (F0 m 17 ls []) := by
      intro d
      induction d with
      | zero =>
        intro k H locs ls hk hO hS hl
        have hk : k = n := by omega
        subst hk
        refine lv_iload_n hx hb dX0_layRow_17 rfl (lv_at hl 0 rfl) ?_
        refine lv_aload_n hx hb dX0_layRow_18 rfl (lv_at hl 1 rfl) ?_
        refine clX23_size hf hK hO hA hZ hS hsh k1 k2 (metX23_size l D aC A o la _ _ a hsh k1 k2) q960 hl.1 (Nat.le_of_ble_eq_true rfl) ⟨Nat.le_of_ble_eq_true rfl, Nat.le_of_ble_eq_true rfl⟩ ⟨Nat.le_of_ble_eq_true rfl, Nat.le_of_ble_eq_true rfl⟩ dX0_layRow_19 ?_
        rw [show kA (kz (zTk z x1.toNatClampNeg k)) 21 x1.toNatClampNeg = nI k from en]
        refine lv_icmp_ge (tgt := 53) hx hb dX0_layRow_22 (by decide) (fun c3 => ?_) (fun c3 => ?_)
        · refine lv_goto (tgt := 64) hx hb dX0_layRow_53 (by decide) ?_
          refine lv_iconst (v := 0) hx hb dX0_layRow_64 (by decide) ?_
          obtain ⟨e8, rfl⟩ := Prod.mk.inj (Option.some.inj h)
          rw [zTk_told z _ k hn60 en'] at hO
          refine W.widen (k := 3) (n := 1010) (Nat.le_of_ble_eq_true rfl) (Nat.le_of_ble_eq_true rfl) ?_
          exact g_retG hx hb hr hlocks e8 hO hS dX0_layRow_65
        · exact absurd (nI_le (Nat.le_refl _) hn) c3
      | succ d ih =>
        intro k H locs ls hk hO hS hl
        have hlt : k < n := by omega
        have hki : (nI k).toInt = (k : Int) := nI_toInt (by omega)
        have hkc : (nI k).toNatClampNeg = k := nI_clamp (by omega)
        refine lv_iload_n hx hb dX0_layRow_17 rfl (lv_at hl 0 rfl) ?_
        refine lv_aload_n hx hb dX0_layRow_18 rfl (lv_at hl 1 rfl) ?_
        refine clX23_size hf hK hO hA hZ hS hsh k1 k2 (metX23_size l D aC A o la _ _ a hsh k1 k2) q960 hl.1 (Nat.le_of_ble_eq_true rfl) ⟨Nat.le_of_ble_eq_true rfl, Nat.le_of_ble_eq_true rfl⟩ ⟨Nat.le_of_ble_eq_true rfl, Nat.le_of_ble_eq_true rfl⟩ dX0_layRow_19 ?_
        rw [show kA (kz (zTk z x1.toNatClampNeg k)) 21 x1.toNatClampNeg = nI n from en]
        refine lv_icmp_ge (tgt := 53) hx hb dX0_layRow_22 (by decide) (fun c3 => ?_) (fun c3 => ?_)
        · exact absurd c3 (nI_ge hlt hn)
        · refine lv_aload_n hx hb dX0_layRow_25 rfl (lv_at hl 2 rfl) ?_
          refine X0_getA hx hb hts hown hK hO 22 (by decide) (Or.inl rfl) (hts _ q188) dX0_layRow_26 ?_
          refine lv_iload_n hx hb dX0_layRow_29 rfl (lv_at hl 0 rfl) ?_
          refine lv_aload_n hx hb dX0_layRow_30 rfl (lv_at hl 1 rfl) ?_
          refine lv_iload_n hx hb dX0_layRow_31 rfl (lv_at hl 0 rfl) ?_
          refine clX23_at hf hK hO hA hZ hS hsh k1 k2 (metX23_at l D aC A o la _ _ a (nI k) hsh k1 k2 ⟨by rw [hki]; omega, by rw [hki, show kA (kz (zTk z x1.toNatClampNeg k)) 21 x1.toNatClampNeg = nI n from en, nI_toInt hn]; omega⟩) q478 hl.1 (Nat.le_of_ble_eq_true rfl) ⟨Nat.le_of_ble_eq_true rfl, Nat.le_of_ble_eq_true rfl⟩ ⟨Nat.le_of_ble_eq_true rfl, Nat.le_of_ble_eq_true rfl⟩ dX0_layRow_32 ?_
          refine lv_l2i hx hb dX0_layRow_35 rfl ?_
          refine X0_iastore (n := 60) hx hb hK hO hS 22 (by decide) rfl rfl ⟨by rw [hki]; omega, by rw [hki]; omega⟩ dX0_layRow_36 (fun H locs z2 e2 hO hS => ?_)
          refine lv_aload_n hx hb dX0_layRow_37 rfl (lv_at hl 2 rfl) ?_
          refine lv_dup hx hb dX0_layRow_38 rfl ?_
          refine X0_getF hx hb hts hown hK hO 23 (by decide) rfl (hts _ q189) dX0_layRow_39 ?_
          have e23 : gF z2 23 = nI k := by rw [e2]; exact va_up_self z.1 23 _
          rw [e23]
          refine lv_iconst (v := 1) hx hb dX0_layRow_42 (by decide) ?_
          refine lv_iadd hx hb dX0_layRow_43 ?_
          rw [nI_1]
          refine X0_putF hx hb hts hown hK hO hS 23 (by decide) rfl (by decide) (by decide) (hts _ q189) rfl (ty := .int) rfl rfl rfl dX0_layRow_44 (fun H locs z3 e3 hO hS => ?_)
          have e4 : z3 = zTk z x1.toNatClampNeg (k + 1) := by
            rw [e3, e2, ← zTk_step z _ k (by omega), hkc]
            have : ((z.2.2.1 (150 + x1.toNatClampNeg) k).toInt32.toInt64).toInt32 = (z.2.2.1 (150 + x1.toNatClampNeg) k).toInt32 := by simp
            exact congrArg (fun v => sF (sI (zTk z x1.toNatClampNeg k) 22 (nI k) v) 23 (nI (k + 1))) this
          rw [e4] at hO
          refine lv_iinc (v := nI (k + 1)) (lv' := [(3, .int (nI (k + 1))), (2, .ref a), (0, .ref o), (1, .int x1)]) hx hb dX0_layRow_47 hl (k := 0) rfl (nI_1 k) (by decide) rfl (fun ls hl => ?_)
          refine lv_goto (tgt := 17) hx hb dX0_layRow_50 (by decide) ?_
          exact ih (k + 1) H _ ls (by omega) hO hS hl
    exact hloop n 0 H locs ls (by omega) hO hS hl
  · obtain ⟨rc, v1, v2, v3, v4⟩ := nc_byte ci k4 k5 k6
    refine g_aald hx hb hc44 (hK.1.2 9 _ rfl).1 rfl hin (v := .ref a) (by rw [k2]; rfl) dX0_layRow_10 ?_
    refine g_castNo hx hb hown (hts _ q477) (hK.nc v2) hK.2.2.2 v3 (by decide +kernel) (nd_recv hK hO v1 k3) dX0_layRow_11 (fun q => ?_)
    refine g_vmC hx hst hts hK hZ hS (hl.1.trans hml.symm) (castOk_use v4 q) (Nat.le_of_ble_eq_true rfl) (Nat.le_of_ble_eq_true rfl) ⟨Nat.le_of_ble_eq_true rfl, Nat.le_of_ble_eq_true rfl⟩ hlocks (fun H1 q9 ce hz1 hq1 hS hce hv hcl => ?_)
    refine g_catch0 (T := "java/lang/ClassCastException") hown hK htab 0 rfl (fun w hw => absurd hw List.not_mem_nil) rfl (by decide) (hts _ q346) q408 hce hv hcl ?_
    have hO := hO.grow hq1
    rw [hho] at k1 k1'
    rw [if_neg k1, if_neg k1'] at h
    refine lv_astore_n (lv' := [(2, .ref q9), (0, .ref o), (1, .int x1)]) hx hb dX0_layRow_56 rfl hl (by decide) rfl (fun ls hl => ?_)
    refine lv_bipush (v := -12) hx hb dX0_layRow_57 (by decide) ?_
    obtain ⟨e8, rfl⟩ := Prod.mk.inj (Option.some.inj h)
    refine W.widen (k := 3) (n := 1010) (Nat.le_of_ble_eq_true rfl) (Nat.le_of_ble_eq_true rfl) ?_
    exact g_retG hx hb hr hlocks e8 hO hS dX0_layRow_59
theorem clX0_layRow {p : Program} {l : Launch} {e : Env} {R : Room} {s : State} {m : MethodId} {args : Array Value} {below : List Frame} {meth : Method} {c : Code} {H : Heap} {locs : List Loc} {cells slots : Nat} {Q : State → Prop} {cc : ByteArray} {pc nL idx fr lo : Nat} {ls : Array Slot} {rest : List Value} {own : String} {D : va_G} {aC : Nat → ClassId} {A : Nat → Prop} {o : Nat} {la : LC} {z : GS} {zq : GS} {x1 : Int32} {r : Int32} (hf : CallFix p m c cc nL s args lw_all own) (hK : KC D aC s) (hO : OC D aC A o la z H) (hA : ∀ q : Nat, s.heap.size ≤ q → A q) (hZ : ZX A s s.heap) (hS : va_S A s.heap H locs) (hM : Met l yX0_layRow (wsW_ yX0_layRow cX0_layRow 4 (some .int) [(5, 53, 56, 114), (5, 53, 60, 116)]) ({ frames := fr, cells := 3, slots := 1010, locals := lo }) (va_Pc [.ref o, .int x1] (PC D aC A o la z)) (QG (some (.int r)) (OC D aC A o la zq) A) 3 1010 A) (hq : Cond.methodLink own idx yX0_layRow ∈ lw_all) (hs : ls.size = nL) (hr : (rest.map fun v => v.category).sum ≤ 8) (hR : fr + 1 ≤ R.frames ∧ 8 + (4 + 11) + lo ≤ R.locals) (hcs : cells + 3 ≤ R.cells ∧ slots + 1010 ≤ R.slots) (hd : decode cc pc = .ok (.invokevirtual idx, 3)) (kk : ∀ (H1 : Heap) (locs1 : List Loc), OC D aC A o la zq H1 → va_S A s.heap H1 locs1 → W p l e R s m args below meth c H1 locs1 (cells + 3) (slots + 1010) Q (F0 m (pc + 3) ls (.int r :: rest))) : W p l e R s m args below meth c H locs cells slots Q (F0 m pc ls (.int x1 :: .ref o :: rest)) :=
  g_runG (vx_runVW (As := [.int x1]) (rest := rest) hf hM (vx_cwVW 1 hf.2.2.2.2 (lw_VW hq q958 qs37 q90 q959) rfl rfl rfl (by decide +kernel) hR) ⟨PC.blind, OC.recv hK hO, fun U hU hW => ⟨rfl, PC.at hO hK hA hZ hS hU hW⟩⟩ rfl rfl hs rfl (lv_room hr) hd hcs) hS (fun H1 locs1 hP hS _ _ => kk H1 locs1 hP hS)
