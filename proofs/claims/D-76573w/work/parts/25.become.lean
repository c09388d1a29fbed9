set_option maxRecDepth 100000
set_option maxHeartbeats 16000000
/-! ===== become: a change is kept ===== -/
def zSh (z : GS) : GS := (va_up z.1 201 39, (fun k => if 120 ≤ k ∧ k < 124 then (fun j => z.2.1 k (j + 1)) else z.2.1 k), z.2.2)
def zC (z : GS) (n of at_ was v : Int32) : GS := (va_up z.1 201 (n + 1), (fun k => if 120 ≤ k ∧ k < 124 then upd (z.2.1 k) n.toNatClampNeg (if k = 120 then of else if k = 121 then at_ else if k = 122 then was else v) else z.2.1 k), z.2.2)
def FX0_becomeF (x1 x2 x3 x4 : Int32) (z : GS) : Option (Int32 × GS) := if 0 ≤ (gF z 5).toInt ∧ (gF z 5).toInt < 40 ∧ (gF z 5).toInt ≤ (gF z 201).toInt then bn1 (FX0_setTo x1 x2 x4 (sF (zC z (gF z 5) x1 x2 x3 x4) 5 ((gF z 5) + 1))) (fun z1 => some (x3, z1)) else none
def FX0_become (x1 x2 x3 x4 : Int32) (z : GS) : Option (Int32 × GS) := if x3 = x4 then some (x3, z) else if gF z 5 = 40 then (if gF z 201 = 40 then FX0_becomeF x1 x2 x3 x4 (sF (zSh (sF z 6 0)) 5 39) else none) else FX0_becomeF x1 x2 x3 x4 (sF z 6 0)
theorem OC.setCh {D : va_G} {aC : Nat → ClassId} {A : Nat → Prop} {o : Nat} {la : LC} {z z' : GS} {H H1 : Heap} {f : Nat → Option Nat} (hO : OC D aC A o la z H) (e : H1[lAd la 4]? = some (vp_cell (aC 10) (40, .inr (.inr (.inr (.inr f)))))) (oq : ∀ q : Nat, q ≠ lAd la 4 → H1[q]? = H[q]?) (hz1 : ∀ j, j ≠ 201 → z'.1 j = z.1 j) (hz2 : ∀ j, j < 120 ∨ 124 ≤ j → z'.2.1 j = z.2.1 j) (hz3 : z'.2.2 = z.2.2) (hch : ∀ j, j < (z'.1 201).toNatClampNeg → ∃ a, f j = some a ∧ lIm la a = some (4, kV (kz z') j)) : OC D aC A o (laQ la 4 f) z' H1 := by
  have hkA : ∀ k, 4 ≤ k → kA (kz z') k = kA (kz z) k := fun k hk => by
    show (if k < 25 then z'.2.1 (120 + k) else fun _ => 0) = (if k < 25 then z.2.1 (120 + k) else fun _ => 0)
    rw [hz2 (120 + k) (by omega)]
  have hm : kMany (kz z') = kMany (kz z) := by show (z'.1 1).toNatClampNeg = _; rw [hz1 1 (by decide)]; rfl
  have hbo : kBods (kz z') = kBods (kz z) := by show (z'.1 43).toNatClampNeg = _; rw [hz1 43 (by decide)]; rfl
  have hlw : kLaw (kz z') = kLaw (kz z) := hz1 202 (by decide)
  have hkD : kD (kz z') = kD (kz z) := by show z'.2.2.2.2.2 = z.2.2.2.2.2; rw [hz3]
  have hho : ∀ s, kHold (kz z') s = kHold (kz z) s := fun s => by unfold kHold; rw [hkA 20 (by decide)]
  refine hO.setQ (k := 4) (by decide) (by decide) (by decide) rfl e oq (fun j hj => hz1 j (by omega)) (fun j hj => hz2 j (by omega)) (fun j hj => by rw [hz3]) ?_ ?_ ?_
  · exact hO.2.1.kept2 (a := lAd la 4) hO.2.2.1 hm (fun s _ => ⟨by rw [hkA 20 (by decide)], by rw [hkA 21 (by decide)]⟩) (hz2 110 (by decide)) (fun f hf => hz2 _ (by omega)) (fun s hs => by rw [hz3]) rfl rfl rfl rfl rfl (Or.inr (by rw [hO.2.2.1.2.1 4 (by decide) rfl]; omega)) oq
  · exact hO.2.2.1.same hm (fun s _ h => by unfold kRow at h ⊢; rw [hho] at h; exact h) rfl rfl rfl rfl rfl rfl
  · obtain ⟨i1, i2, i3, i4, i5⟩ := hO.2.2.2
    refine ⟨i1, hch, fun j hj => ?_, fun sh hs => ?_, ?_⟩
    · rw [hbo] at hj
      rw [hkA 10 (by decide)]
      exact i3 j hj
    · have := i4 sh hs
      rw [hho, hkA 21 (by decide), hbo]
      unfold kRow at this ⊢
      rw [hho]
      exact this
    · rw [hlw, hkD]; exact i5
theorem zC_new (z : GS) (n x1 x2 x3 x4 : Int32) {g : Nat} (hg : g < 4) : kA (kz (zC z n x1 x2 x3 x4)) g n.toNatClampNeg = (if g = 0 then x1 else if g = 1 then x2 else if g = 2 then x3 else x4) := by
  have h1 : kA (kz (zC z n x1 x2 x3 x4)) g = (zC z n x1 x2 x3 x4).2.1 (120 + g) := if_pos (by omega)
  have h2 : (zC z n x1 x2 x3 x4).2.1 (120 + g) = upd (z.2.1 (120 + g)) n.toNatClampNeg (if 120 + g = 120 then x1 else if 120 + g = 121 then x2 else if 120 + g = 122 then x3 else x4) := if_pos (by omega)
  rw [h1, h2]
  have e0 : (120 + g = 120) = (g = 0) := by simp
  have e1 : (120 + g = 121) = (g = 1) := by simp; omega
  have e2 : (120 + g = 122) = (g = 2) := by simp; omega
  simp only [upd, if_true, e0, e1, e2]
theorem zC_old (z : GS) (n x1 x2 x3 x4 : Int32) {g j : Nat} (hj : j ≠ n.toNatClampNeg) : kA (kz (zC z n x1 x2 x3 x4)) g j = kA (kz z) g j := by
  by_cases h25 : g < 25
  · have h1 : kA (kz (zC z n x1 x2 x3 x4)) g = (zC z n x1 x2 x3 x4).2.1 (120 + g) := if_pos h25
    have h0 : kA (kz z) g = z.2.1 (120 + g) := if_pos h25
    rw [h1, h0]
    by_cases h : 120 ≤ 120 + g ∧ 120 + g < 124
    · have h2 : (zC z n x1 x2 x3 x4).2.1 (120 + g) = upd (z.2.1 (120 + g)) n.toNatClampNeg (if 120 + g = 120 then x1 else if 120 + g = 121 then x2 else if 120 + g = 122 then x3 else x4) := if_pos h
      rw [h2]
      simp [upd, hj]
    · have h2 : (zC z n x1 x2 x3 x4).2.1 (120 + g) = z.2.1 (120 + g) := if_neg h
      rw [h2]
  · have h1 : kA (kz (zC z n x1 x2 x3 x4)) g = fun _ => 0 := if_neg h25
    have h0 : kA (kz z) g = fun _ => 0 := if_neg h25
    rw [h1, h0]
theorem zSh_kA (z : GS) (g j : Nat) (hj : j < 39) (hg : g < 4) : kA (kz z) g (j + 1) = kA (kz (zSh z)) g j := by
  have h1 : kA (kz (zSh z)) g = (zSh z).2.1 (120 + g) := if_pos (by omega)
  have h0 : kA (kz z) g = z.2.1 (120 + g) := if_pos (by omega)
  have h2 : (zSh z).2.1 (120 + g) = fun j => z.2.1 (120 + g) (j + 1) := if_pos (by omega)
  rw [h1, h0, h2]
def shf (f : Nat → Option Nat) (k : Nat) : Nat → Option Nat := fun j => if j + 1 < k then f (j + 1) else f j
theorem shf_step (f : Nat → Option Nat) (k : Nat) (hk : 1 ≤ k) : va_up (shf f k) (k - 1) (f k) = shf f (k + 1) := by
  funext j
  by_cases hj : j = k - 1
  · subst hj
    have : k - 1 + 1 = k := by omega
    simp [va_up, shf, this]
  · by_cases h : j + 1 < k
    · have : j + 1 < k + 1 := by omega
      simp [va_up, shf, hj, h, this]
    · have : ¬ j + 1 < k + 1 := by omega
      simp [va_up, shf, hj, h, this]
theorem laQ_laQ (la : LC) (k : Nat) (f g : Nat → Option Nat) : laQ (laQ la k f) k g = laQ la k g := by
  have : (fun j => if j = k then g else lQ (laQ la k f) j) = (fun j => if j = k then g else lQ la j) := by
    funext j
    by_cases h : j = k
    · rw [if_pos h, if_pos h]
    · rw [if_neg h, if_neg h]
      show (if j = k then f else lQ la j) = lQ la j
      rw [if_neg h]
  show (lAd la, lFn la, lPa la, (fun j => if j = k then g else lQ (laQ la k f) j), lLw la, lIa la, lIm la, lTg la) = _
  rw [this]
  rfl
theorem metX0_become (l : Launch) (D : va_G) (aC : Nat → ClassId) (A : Nat → Prop) (o : Nat) (la : LC) (x1 x2 x3 x4 : Int32) (z : GS) (r : Int32) (zq : GS) (h : FX0_become x1 x2 x3 x4 z = some (r, zq)) : Met l yX0_become (ws_ yX0_become cX0_become 6 (some .int)) ({ frames := 3, cells := 1, slots := 4, locals := 200 }) (va_Pc [.ref o, .int x1, .int x2, .int x3, .int x4] (PC D aC A o la z)) (QG (some (.int r)) (OCe D aC A o zq) A) 1 4 A := by
  refine g_ofW (cc := cX0_become) (maxL := 6) (ret := (some .int)) (own := RX0) (by decide) rfl rfl [.ref o, .int x1, .int x2, .int x3, .int x4] (PC D aC A o la z) (Nat.le_of_ble_eq_true rfl) ?_
  intro p e s m below meth c ls hx hb hr hml hts hown hlocks hnm hPre hl
  obtain ⟨hO, hK, hA, hZ⟩ := hPre
  have hf : CallFix p m c cX0_become 6 s _ lw_all RX0 := ⟨hx, hb, hml, hown, hts⟩
  have hl : lv_has ls 6 [(0, .ref o), (1, .int x1), (2, .int x2), (3, .int x3), (4, .int x4)] := hl
  refine g_open (A := A) (OC D aC A o la z) hO (fun H locs hO hS => ?_)
  unfold FX0_become at h
  have hfin : ∀ (la : LC) (z : GS) (H : Heap) (locs : List Loc) (ls : Array Slot), FX0_becomeF x1 x2 x3 x4 z = some (r, zq) → OC D aC A o la z H → va_S A s.heap H locs → lv_has ls 6 [(0, .ref o), (1, .int x1), (2, .int x2), (3, .int x3), (4, .int x4)] → W p l e ({ frames := 3, cells := 1, slots := 4, locals := 200 }) s m ([.ref o, .int x1, .int x2, .int x3, .int x4] : List Value).toArray below meth c H locs 0 0 (MQ below (QG (some (.int r)) (OCe D aC A o zq) A) ([.ref o, .int x1, .int x2, .int x3, .int x4] : List Value).toArray s 1 4 A) (F0 m 64 ls []) := by
    intro la z H locs ls h hO hS hl
    unfold FX0_becomeF at h
    obtain ⟨⟨g1, g2, g3⟩, h⟩ := grd h
    obtain ⟨zr, er, h⟩ := bn1_e h
    obtain ⟨e8, rfl⟩ := Prod.mk.inj (Option.some.inj h)
    have hAq : A H.size := hA _ hS.1
    refine lv_aload_n hx hb dX0_become_64 rfl (lv_at hl 0 rfl) ?_
    refine X0_getA hx hb hts hown hK hO 4 (by decide) (Or.inl rfl) (hts _ q168) dX0_become_65 ?_
    refine lv_aload_n hx hb dX0_become_68 rfl (lv_at hl 0 rfl) ?_
    refine X0_getF hx hb hts hown hK hO 5 (by decide) rfl (hts _ q169) dX0_become_69 ?_
    refine g_new (ci := 4) tyX4 tyX4_ok hx hb hts in_X4 hown hK rfl (hts _ q144) (hts _ q522) (hts _ q102) hS (Nat.le_of_ble_eq_true rfl) (Nat.le_of_ble_eq_true rfl) dX0_become_72 (fun H1 hz1 hq1 hB1 hS => ?_)
    refine lv_dup hx hb dX0_become_75 rfl ?_
    refine lv_iload_n hx hb dX0_become_76 rfl (lv_at hl 1 rfl) ?_
    refine lv_iload_n hx hb dX0_become_77 rfl (lv_at hl 2 rfl) ?_
    refine lv_iload_n hx hb dX0_become_78 rfl (lv_at hl 3 rfl) ?_
    refine lv_iload hx hb dX0_become_79 (lv_at hl 4 rfl) ?_
    refine g_ctor (As := [.int x1, .int x2, .int x3, .int x4]) (k := 4) hf hK hB1 rfl hS hAq (metX4_init l D aC H.size _ _ x1 x2 x3 x4) q523 q524 q102 q525 rfl rfl (by decide +kernel) hl.1 (Nat.le_of_ble_eq_true rfl) ⟨Nat.le_of_ble_eq_true rfl, Nat.le_of_ble_eq_true rfl⟩ ⟨Nat.le_of_ble_eq_true rfl, Nat.le_of_ble_eq_true rfl⟩ dX0_become_81 (fun H2 locs hz2 hB2 hq2 hS => ?_)
    have hB2 : t_OB H.size (D.1 4) 4 (D.2 4) H2 (kV (kz (zC z (gF z 5) x1 x2 x3 x4)) (gF z 5).toNatClampNeg) := hB2.to (fun f hf => by
      unfold kV
      rw [if_pos hf, zC_new _ _ _ _ _ _ hf]
      match f, hf with
      | 0, _ => rfl
      | 1, _ => rfl
      | 2, _ => rfl
      | 3, _ => rfl)
    have hold2 : ∀ x : Nat, x < H.size → H2[x]? = H[x]? := fun x hx => by rw [hq2 x (by omega), hq1 x hx]
    have hO2 := hO.addI (ci := 4) hold2 rfl hB2
    have hc2 : H2[lAd la 4]? = some (vp_cell (aC 10) (40, .inr (.inr (.inr (.inr (lQ la 4)))))) := oa_cell hO2.1 (k := 4) (by decide) (d := 10) (n := 40) rfl rfl rfl
    refine g_aast (r := (RX4, TX4, 4)) hx hb hK hc2 (hK.1.2 7 _ rfl).2 hB2 rfl (fun comp h => hK.cls (ci := 4) (r := (RX4, TX4, 4)) rfl comp h) (fun comp h => hK.selfAsg (r := (RX4, TX4, 4)) rfl comp h) ⟨g1, g2⟩ dX0_become_84 (fun H3 hc3 hz3 hq3 => ?_)
    have hS := hS.put (k := (gF z 5).toNatClampNeg) hz3 hq3 (hO.2.2.1.2.2.2.2.2.2 _ (by rw [hO.2.2.1.2.1 4 (by decide) rfl]; omega))
    have hn1 : (gF z 5 + 1).toInt = (gF z 5).toInt + 1 := by
      obtain ⟨n, hn, e⟩ := nI_of (x := gF z 5) (by rw [Int32.lt_iff_toInt_lt]; show ¬ (gF z 5).toInt < 0; omega)
      rw [e] at g1 g2 ⊢
      rw [nI_toInt hn] at g2
      rw [nI_1, nI_toInt (by omega), nI_toInt hn]
      rfl
    have hO3 := hO2.setCh (z' := zC z (gF z 5) x1 x2 x3 x4) hc3 hq3 (fun j hj => va_up_ne z.1 _ hj) (fun j hj => by
      show (if 120 ≤ j ∧ j < 124 then _ else _) = _
      rw [if_neg (by omega)]) rfl (fun j hj => by
        have e201 : (zC z (gF z 5) x1 x2 x3 x4).1 201 = gF z 5 + 1 := va_up_self z.1 201 _
        rw [e201] at hj
        have hj' : j < (gF z 5 + 1).toInt.toNat := hj
        rw [hn1] at hj'
        by_cases hjn : j = (gF z 5).toNatClampNeg
        · subst hjn
          refine ⟨H.size, va_up_self _ _ _, ?_⟩
          exact va_up_self (lIm la) _ _
        · obtain ⟨a, a1, a2⟩ := hO.2.2.2.2.1 j (by
            have hj9 : (gF z 5).toNatClampNeg = (gF z 5).toInt.toNat := rfl
            show j < (z.1 201).toInt.toNat
            have : (gF z 201) = z.1 201 := rfl
            rw [this] at g3
            omega)
          refine ⟨a, (va_up_ne _ _ hjn).trans a1, ?_⟩
          have hne : a ≠ H.size := fun q => absurd (hO.imLt a2) (by omega)
          refine (va_up_ne (lIm la) _ hne).trans ?_
          rw [a2]
          congr 2
          funext g
          unfold kV
          rw [zC_old _ _ _ _ _ _ hjn])
    refine lv_aload_n hx hb dX0_become_85 rfl (lv_at hl 0 rfl) ?_
    refine lv_dup hx hb dX0_become_86 rfl ?_
    refine X0_getF hx hb hts hown hK hO3 5 (by decide) rfl (hts _ q169) dX0_become_87 ?_
    refine lv_iconst (v := 1) hx hb dX0_become_90 (by decide) ?_
    refine lv_iadd hx hb dX0_become_91 ?_
    have e5 : gF (zC z (gF z 5) x1 x2 x3 x4) 5 = gF z 5 := va_up_ne (k := 201) (j := 5) z.1 (gF z 5 + 1) (by decide)
    rw [e5]
    refine X0_putF hx hb hts hown hK hO3 hS 5 (by decide) rfl (by decide) (by decide) (hts _ q169) rfl (ty := .int) rfl rfl rfl dX0_become_92 (fun H4 locs z4 e4 hO4 hS => ?_)
    rw [← e4] at er
    refine lv_aload_n hx hb dX0_become_95 rfl (lv_at hl 0 rfl) ?_
    refine lv_iload_n hx hb dX0_become_96 rfl (lv_at hl 1 rfl) ?_
    refine lv_iload_n hx hb dX0_become_97 rfl (lv_at hl 2 rfl) ?_
    refine lv_iload hx hb dX0_become_98 (lv_at hl 4 rfl) ?_
    refine clX0_setTo hf hK hO4 hA hZ hS (metX0_setTo l D aC A o _ x1 x2 x4 z4 zr er) q486 hl.1 (Nat.le_of_ble_eq_true rfl) ⟨Nat.le_of_ble_eq_true rfl, Nat.le_of_ble_eq_true rfl⟩ ⟨Nat.le_of_ble_eq_true rfl, Nat.le_of_ble_eq_true rfl⟩ dX0_become_100 (fun H5 locs hO5 hS => ?_)
    refine lv_iload_n hx hb dX0_become_103 rfl (lv_at hl 3 rfl) ?_
    exact g_retG hx hb hr hlocks e8 (P := OCe D aC A o zr) ⟨_, hO5⟩ hS dX0_become_104
  refine lv_iload_n hx hb dX0_become_0 rfl (lv_at hl 3 rfl) ?_
  refine lv_iload hx hb dX0_become_1 (lv_at hl 4 rfl) ?_
  refine lv_icmp_ne (tgt := 8) hx hb dX0_become_3 (by decide) (fun c1 => ?_) (fun c1 => ?_)
  · have h := it_f c1 h
    refine lv_aload_n hx hb dX0_become_8 rfl (lv_at hl 0 rfl) ?_
    refine lv_iconst (v := 0) hx hb dX0_become_9 (by decide) ?_
    refine X0_putF hx hb hts hown hK hO hS 6 (by decide) rfl (by decide) (by decide) (hts _ q170) rfl (ty := .int) rfl rfl rfl dX0_become_10 (fun H locs z1 e1 hO hS => ?_)
    refine lv_aload_n hx hb dX0_become_13 rfl (lv_at hl 0 rfl) ?_
    refine X0_getF hx hb hts hown hK hO 5 (by decide) rfl (hts _ q169) dX0_become_14 ?_
    have e15 : gF z1 5 = gF z 5 := by rw [e1]; exact va_up_ne (k := 6) (j := 5) z.1 0 (by decide)
    refine lv_bipush (v := 40) hx hb dX0_become_17 (by decide) ?_
    refine lv_icmp_ne (tgt := 64) hx hb dX0_become_19 (by decide) (fun c2 => ?_) (fun c2 => ?_)
    · have h := it_f (by rw [← e15]; exact c2) h
      rw [← e1] at h
      exact hfin la z1 H locs ls h hO hS hl
    · have h := it_t (by rw [← e15]; exact c2) h
      obtain ⟨g40, h⟩ := grd h
      rw [← e1] at h
      have g41 : z1.1 201 = 40 := by rw [e1]; exact (va_up_ne (k := 6) (j := 201) z.1 0 (by decide)).trans g40
      have hold : ∀ j, j < 40 → ∃ a, lQ la 4 j = some a ∧ lIm la a = some (4, kV (kz z1) j) := fun j hj => hO.2.2.2.2.1 j (by show j < (z1.1 201).toNatClampNeg; rw [g41]; exact hj)
      have hloop : ∀ (d k : Nat) (H : Heap) (locs : List Loc) (ls : Array Slot), k + d = 40 → 1 ≤ k → OC D aC A o (laQ la 4 (shf (lQ la 4) k)) (sF z1 201 0) H → va_S A s.heap H locs → lv_has ls 6 ([(0, .ref o), (1, .int x1), (2, .int x2), (3, .int x3), (4, .int x4), (5, .int (nI k))]) → W p l e ({ frames := 3, cells := 1, slots := 4, locals := 200 }) s m ([.ref o, .int x1, .int x2, .int x3, .int x4] : List Value).toArray below meth c H locs 0 0 (MQ below (QG (some (.int r)) (OCe D aC A o zq) A) ([.ref o, .int x1, .int x2, .int x3, .int x4] : List Value).toArray s 1 4 A) (F0 m 25 ls []) := by
        intro d
        induction d with
        | zero =>
          intro k H locs ls hk h1 hO hS hl
          have hk : k = 40 := by omega
          subst hk
          refine lv_iload hx hb dX0_become_25 (lv_at hl 5 rfl) ?_
          refine lv_bipush (v := nI 40) hx hb dX0_become_27 (by decide) ?_
          refine lv_icmp_ge (tgt := 54) hx hb dX0_become_29 (by decide) (fun c3 => ?_) (fun c3 => ?_)
          · have hc2 : H[lAd la 4]? = some (vp_cell (aC 10) (40, .inr (.inr (.inr (.inr (shf (lQ la 4) 40)))))) := oa_cell hO.1 (k := 4) (by decide) (d := 10) (n := 40) rfl rfl rfl
            have hO2 := hO.setCh (H1 := H) (z' := zSh z1) hc2 (fun _ _ => rfl) (fun j hj => (va_up_ne z1.1 _ hj).trans (va_up_ne z1.1 _ hj).symm) (fun j hj => by
              show (if 120 ≤ j ∧ j < 124 then _ else _) = _
              rw [if_neg (by omega)]
              rfl) rfl (fun j hj => by
                have hj39 : j < 39 := hj
                obtain ⟨a, a1, a2⟩ := hold (j + 1) (by omega)
                refine ⟨a, ?_, ?_⟩
                · show (if j + 1 < 40 then lQ la 4 (j + 1) else lQ la 4 j) = _
                  rw [if_pos (by omega)]
                  exact a1
                · refine Eq.trans a2 ?_
                  have : kV (kz z1) (j + 1) = kV (kz (zSh z1)) j := by
                    funext g
                    unfold kV
                    by_cases hg : g < 4
                    · rw [if_pos hg, if_pos hg, zSh_kA z1 g j hj39 hg]
                    · rw [if_neg hg, if_neg hg]
                  rw [this])
            refine lv_aload_n hx hb dX0_become_54 rfl (lv_at hl 0 rfl) ?_
            refine lv_dup hx hb dX0_become_55 rfl ?_
            refine X0_getF hx hb hts hown hK hO2 5 (by decide) rfl (hts _ q169) dX0_become_56 ?_
            have e5 : gF (zSh z1) 5 = 40 := (va_up_ne (k := 201) (j := 5) z1.1 39 (by decide)).trans c2
            rw [e5]
            refine lv_iconst (v := 1) hx hb dX0_become_59 (by decide) ?_
            refine lv_isub hx hb dX0_become_60 ?_
            refine X0_putF (v := 40 - 1) hx hb hts hown hK hO2 hS 5 (by decide) rfl (by decide) (by decide) (hts _ q169) rfl (ty := .int) rfl rfl rfl dX0_become_61 (fun H locs z2 e2 hO hS => ?_)
            exact hfin _ z2 H locs ls (by rw [e2]; exact h) hO hS (lv_sub hl [0, 1, 2, 3, 4] rfl)
          · exact absurd (nI_le (Nat.le_refl _) (by decide)) c3
        | succ d ih =>
          intro k H locs ls hk h1 hO hS hl
          have hlt : k < 40 := by omega
          refine lv_iload hx hb dX0_become_25 (lv_at hl 5 rfl) ?_
          refine lv_bipush (v := nI 40) hx hb dX0_become_27 (by decide) ?_
          refine lv_icmp_ge (tgt := 54) hx hb dX0_become_29 (by decide) (fun c3 => ?_) (fun c3 => ?_)
          · exact absurd c3 (nI_ge hlt (by decide))
          · obtain ⟨a, a1, a2⟩ := hold k hlt
            have hc2 : H[lAd la 4]? = some (vp_cell (aC 10) (40, .inr (.inr (.inr (.inr (shf (lQ la 4) k)))))) := oa_cell hO.1 (k := 4) (by decide) (d := 10) (n := 40) rfl rfl rfl
            have hak : shf (lQ la 4) k k = some a := by
              show (if k + 1 < k then _ else _) = _
              rw [if_neg (by omega)]
              exact a1
            have hti : (nI k).toInt = (k : Int) := nI_toInt (by omega)
            have hci : (nI k).toNatClampNeg = k := nI_clamp (by omega)
            have hkm : nI k - 1 = nI (k - 1) := by
              obtain ⟨q, rfl⟩ : ∃ q, k = q + 1 := ⟨k - 1, by omega⟩
              exact nI_pred q
            have htm : (nI (k - 1)).toInt = ((k - 1 : Nat) : Int) := nI_toInt (by omega)
            have hcm : (nI (k - 1)).toNatClampNeg = k - 1 := nI_clamp (by omega)
            refine lv_aload_n hx hb dX0_become_32 rfl (lv_at hl 0 rfl) ?_
            refine X0_getA hx hb hts hown hK hO 4 (by decide) (Or.inl rfl) (hts _ q168) dX0_become_33 ?_
            refine lv_iload hx hb dX0_become_36 (lv_at hl 5 rfl) ?_
            refine lv_iconst (v := 1) hx hb dX0_become_38 (by decide) ?_
            refine lv_isub hx hb dX0_become_39 ?_
            rw [hkm]
            refine lv_aload_n hx hb dX0_become_40 rfl (lv_at hl 0 rfl) ?_
            refine X0_getA hx hb hts hown hK hO 4 (by decide) (Or.inl rfl) (hts _ q168) dX0_become_41 ?_
            refine lv_iload hx hb dX0_become_44 (lv_at hl 5 rfl) ?_
            refine g_aald (i := nI k) hx hb hc2 (hK.1.2 7 _ rfl).1 rfl ⟨by rw [hti]; omega, by rw [hti]; omega⟩ (v := .ref a) (by rw [hci, hak]; rfl) dX0_become_46 ?_
            refine g_aast (r := (RX4, TX4, 4)) hx hb hK hc2 (hK.1.2 7 _ rfl).2 (hO.imm (ci := 4) a2 rfl) rfl (fun comp h => hK.cls (ci := 4) (r := (RX4, TX4, 4)) rfl comp h) (fun comp h => hK.selfAsg (r := (RX4, TX4, 4)) rfl comp h) ⟨by rw [htm]; omega, by rw [htm]; omega⟩ dX0_become_47 (fun H3 hc3 hz3 hq3 => ?_)
            have hS := hS.put (k := (nI (k - 1)).toNatClampNeg) hz3 hq3 (hO.2.2.1.2.2.2.2.2.2 _ (by rw [hO.2.2.1.2.1 4 (by decide) rfl]; omega))
            rw [hcm, ← hak, show shf (lQ la 4) k k = lQ la 4 k from hak.trans a1.symm, shf_step _ _ h1] at hc3
            have hO3 := hO.setCh (z' := sF z1 201 0) hc3 hq3 (fun _ _ => rfl) (fun _ _ => rfl) rfl (fun j hj => by
              have : (sF z1 201 0).1 201 = 0 := va_up_self z1.1 201 _
              rw [this] at hj
              exact absurd hj (Nat.not_lt_zero _))
            rw [laQ_laQ] at hO3
            refine lv_iinc (v := nI (k + 1)) (lv' := [(5, .int (nI (k + 1))), (0, .ref o), (1, .int x1), (2, .int x2), (3, .int x3), (4, .int x4)]) hx hb dX0_become_48 hl (k := 5) rfl (nI_1 k) (by decide) rfl (fun ls hl => ?_)
            refine lv_goto (tgt := 25) hx hb dX0_become_51 (by decide) ?_
            exact ih (k + 1) H3 _ ls (by omega) (by omega) hO3 hS (lv_sub hl [1, 2, 3, 4, 5, 0] rfl)
      refine lv_iconst (v := 1) hx hb dX0_become_22 (by decide) ?_
      refine lv_istore (lv' := [(5, .int 1), (0, .ref o), (1, .int x1), (2, .int x2), (3, .int x3), (4, .int x4)]) hx hb dX0_become_23 hl (by decide) rfl (fun ls hl => ?_)
      have hO0 : OC D aC A o (laQ la 4 (shf (lQ la 4) 1)) (sF z1 201 0) H := by
        have e1 : shf (lQ la 4) 1 = lQ la 4 := by
          funext j
          show (if j + 1 < 1 then _ else _) = _
          rw [if_neg (by omega)]
        rw [e1]
        have hc2 : H[lAd la 4]? = some (vp_cell (aC 10) (40, .inr (.inr (.inr (.inr (lQ la 4)))))) := oa_cell hO.1 (k := 4) (by decide) (d := 10) (n := 40) rfl rfl rfl
        exact hO.setCh (z' := sF z1 201 0) hc2 (fun _ _ => rfl) (fun j hj => va_up_ne z1.1 _ hj) (fun _ _ => rfl) rfl (fun j hj => by
              have : (sF z1 201 0).1 201 = 0 := va_up_self z1.1 201 _
              rw [this] at hj
              exact absurd hj (Nat.not_lt_zero _))
      exact hloop 39 1 H locs ls (by omega) (by omega) hO0 hS (lv_sub hl [1, 2, 3, 4, 5, 0] rfl)
  · have h := it_t c1 h
    refine lv_iload_n hx hb dX0_become_6 rfl (lv_at hl 3 rfl) ?_
    obtain ⟨e8, rfl⟩ := Prod.mk.inj (Option.some.inj h)
    refine W.widen (k := 1) (n := 4) (Nat.le_of_ble_eq_true rfl) (Nat.le_of_ble_eq_true rfl) ?_
    exact g_retG hx hb hr hlocks e8 (P := OCe D aC A o z) ⟨_, hO⟩ hS dX0_become_7
