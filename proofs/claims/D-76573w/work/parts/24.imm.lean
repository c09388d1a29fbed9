set_option maxRecDepth 100000
/-! ===== objects that don't change are added; the world with some layout ===== -/
def OCe (D : va_G) (aC : Nat → ClassId) (A : Nat → Prop) (o : Nat) (z : GS) (H : Heap) : Prop := ∃ la, OC D aC A o la z H
def laI (la : LC) (q ci : Nat) (F : Nat → Value) : LC := (lAd la, lFn la, lPa la, lQ la, lLw la, lIa la, va_up (lIm la) q (some (ci, F)), va_up (lTg la) q 0)
def laQ (la : LC) (k : Nat) (f : Nat → Option Nat) : LC := (lAd la, lFn la, lPa la, (fun j => if j = k then f else lQ la j), lLw la, lIa la, lIm la, lTg la)
theorem NodeAt.mono {im im' : Nat → Option (Nat × (Nat → Value))} (h : ∀ a e, im a = some e → im' a = some e) : ∀ (n a : Nat) (d : (Nat → Int32) → Int32), NodeAt im n a d → NodeAt im' n a d := by
  intro n
  induction n with
  | zero => intro a d h; exact h.elim
  | succ n ih =>
    intro a d hd
    rcases hd with ⟨F, v, h1, h2⟩ | ⟨F, v, h1, h2⟩ | ⟨F, b, d1, h1, h2, h3, h4⟩ | ⟨F, b, d1, h1, h2, h3, h4⟩ | ⟨F, v, b1, b2, d1, d2, g, h1, h2, h3, h4, h5, h6, h7⟩
    · exact Or.inl ⟨F, v, h _ _ h1, h2⟩
    · exact Or.inr (Or.inl ⟨F, v, h _ _ h1, h2⟩)
    · exact Or.inr (Or.inr (Or.inl ⟨F, b, d1, h _ _ h1, h2, ih _ _ h3, h4⟩))
    · exact Or.inr (Or.inr (Or.inr (Or.inl ⟨F, b, d1, h _ _ h1, h2, ih _ _ h3, h4⟩)))
    · exact Or.inr (Or.inr (Or.inr (Or.inr ⟨F, v, b1, b2, d1, d2, g, h _ _ h1, h2, h3, h4, ih _ _ h5, ih _ _ h6, h7⟩)))
theorem LineAt.mono {im im' : Nat → Option (Nat × (Nat → Value))} (h : ∀ a e, im a = some e → im' a = some e) (D : Nat) : ∀ (n a : Nat) (d : (Nat → Int32) → Int32), LineAt im D n a d → LineAt im' D n a d := by
  intro n
  induction n with
  | zero => intro a d h; exact h.elim
  | succ n ih =>
    intro a d hd
    obtain ⟨F, t, nx, g, dt, dg, dn, h1, h2, h3, h4, h5, h6, h7, h8⟩ := hd
    refine ⟨F, t, nx, g, dt, dg, dn, h _ _ h1, h2, h3, h4, NodeAt.mono h _ _ _ h5, ?_, ?_, h8⟩
    · cases t with
      | none => exact h6
      | some b => exact NodeAt.mono h _ _ _ h6
    · cases nx with
      | none => exact h7
      | some b => exact ih _ _ h7
theorem OCi.mono {o : Nat} {la la' : LC} {w : KZ} (h : OCi o la w) (hm : ∀ a e, lIm la a = some e → lIm la' a = some e) (h1 : lAd la' = lAd la) (h2 : lFn la' = lFn la) (h3 : lQ la' = lQ la) (h4 : lLw la' = lLw la) (h5 : lIa la' = lIa la) : OCi o la' w := by
  obtain ⟨i1, i2, i3, i4, i5⟩ := h
  refine ⟨by rw [h1, h2]; exact hm _ _ i1, fun j hj => ?_, fun j hj => ?_, fun sh hs => ?_, ?_⟩
  · obtain ⟨a, g1, g2⟩ := i2 j hj
    exact ⟨a, by rw [h3]; exact g1, hm _ _ g2⟩
  · obtain ⟨g0, a, g1, g2⟩ := i3 j hj
    exact ⟨g0, a, by rw [h3]; exact g1, hm _ _ g2⟩
  · rcases i4 sh hs with ⟨g1, g2⟩ | ⟨g1, g2, a, g3, g4⟩ | ⟨b, g1, g2, g3⟩
    · exact Or.inl ⟨g1, by rw [h3]; exact g2⟩
    · exact Or.inr (Or.inl ⟨g1, g2, a, by rw [h3]; exact g3, by rw [h5]; exact hm _ _ g4⟩)
    · exact Or.inr (Or.inr ⟨b, g1, g2, by rw [h3]; exact g3⟩)
  · rcases i5 with ⟨g1, g2⟩ | ⟨g1, a, g2, g3⟩
    · exact Or.inl ⟨g1, by rw [h4]; exact g2⟩
    · exact Or.inr ⟨g1, a, by rw [h4]; exact g2, LineAt.mono hm _ _ _ _ g3⟩
theorem OC.addI {D : va_G} {aC : Nat → ClassId} {A : Nat → Prop} {o : Nat} {la : LC} {z : GS} {H H1 : Heap} {ci N : Nat} {F : Nat → Value} {C : String} {T : u_T} (hO : OC D aC A o la z H) (hold : ∀ x : Nat, x < H.size → H1[x]? = H[x]?) (hc : vwCl[ci]? = some (C, T, N)) (hB : t_OB H.size (D.1 ci) N (D.2 ci) H1 F) : OC D aC A o (laI la H.size ci F) z H1 := by
  have lt : ∀ {x : Nat} {cell : Cell}, H[x]? = some cell → x < H.size := fun h => (Array.getElem?_eq_some_iff.mp h).1
  have hO1 := hO.grow hold
  have hnone : lIm la H.size = none := by
    cases h : lIm la H.size with
    | none => rfl
    | some e9 => exact absurd (hO.imLt h) (by omega)
  have tg : ∀ {x : Nat}, x < H.size → lTg (laI la H.size ci F) x = lTg la x := fun {x} hx => by
    show va_up (lTg la) H.size 0 x = _
    rw [va_up_ne]; omega
  have hm : ∀ a e, lIm la a = some e → lIm (laI la H.size ci F) a = some e := fun a e9 he => by
    show va_up (lIm la) H.size _ a = _
    rw [va_up_ne _ _ (fun q => by rw [q, hnone] at he; cases he)]
    exact he
  obtain ⟨h1, ⟨h2, h3, h4, h5⟩, ⟨t1, t2, t3, t4, t5, t6, t7⟩, hi⟩ := hO
  refine ⟨hO1.1, ⟨hO1.2.1.1, hO1.2.1.2.1, hO1.2.1.2.2.1, fun a e9 he => ?_⟩, ⟨?_, fun k hk ha => ?_, ?_, fun i hi => ?_, fun sh hs hr => ?_, fun a e9 he => ?_, fun a ha => ?_⟩, hi.mono hm rfl rfl rfl rfl rfl⟩
  · by_cases ha : a = H.size
    · subst ha
      have : lIm (laI la H.size ci F) H.size = some (ci, F) := va_up_self (lIm la) _ _
      rw [this] at he
      cases he
      exact ⟨_, hc, hB⟩
    · have : lIm (laI la H.size ci F) a = lIm la a := va_up_ne (lIm la) _ ha
      rw [this] at he
      exact hO1.2.1.2.2.2 a e9 he
  · rw [tg (lt h1.1.choose_spec.1)]; exact t1
  · rw [show lAd (laI la H.size ci F) = lAd la from rfl, tg (lt (h1.2 k hk ha))]; exact t2 k hk ha
  · rw [show lFn (laI la H.size ci F) = lFn la from rfl, tg (lt h2)]; exact t3
  · rw [show lPa (laI la H.size ci F) = lPa la from rfl, tg (lt (h3 i hi).2.choose_spec.1)]; exact t4 i hi
  · rw [show lIa (laI la H.size ci F) = lIa la from rfl, tg (lt (h4 sh hs hr).1)]; exact t5 sh hs hr
  · by_cases ha : a = H.size
    · subst ha; exact va_up_self (lTg la) _ _
    · rw [show lTg (laI la H.size ci F) a = lTg la a from va_up_ne (lTg la) _ ha]
      have : lIm (laI la H.size ci F) a = lIm la a := va_up_ne (lIm la) _ ha
      rw [this] at he
      exact t6 a e9 he
  · refine t7 a (fun h => ha ?_)
    by_cases hq : a = H.size
    · subst hq; exact va_up_self (lTg la) _ _
    · rw [show lTg (laI la H.size ci F) a = lTg la a from va_up_ne (lTg la) _ hq]; exact h
/-- an array of references is written: all of the picture but what says of its contents -/
theorem OC.setQ {D : va_G} {aC : Nat → ClassId} {A : Nat → Prop} {o : Nat} {la : LC} {z z' : GS} {H H1 : Heap} {k n : Nat} {f : Nat → Option Nat} (hO : OC D aC A o la z H) (hk : k < 45) (hk9 : 10 ≤ kdC k) (hk0 : k ≠ 0) (hl : lnC k = n) (e : H1[lAd la k]? = some (vp_cell (aC (kdC k)) (n, .inr (.inr (.inr (.inr f)))))) (oq : ∀ q : Nat, q ≠ lAd la k → H1[q]? = H[q]?) (hz1 : ∀ j, j < 45 → z'.1 j = z.1 j) (hz2 : ∀ j, j < 45 → z'.2.1 j = z.2.1 j) (hz3 : ∀ j, j < 45 → z'.2.2.1 j = z.2.2.1 j)
    (hh : OCh D aC (laQ la k f) z' H1) (ht : OCt A o (laQ la k f) (kz z')) (hi : OCi o (laQ la k f) (kz z')) : OC D aC A o (laQ la k f) z' H1 := by
  subst hl
  have hD := OC_OD hO.2.2.1
  have ha : oaA (kdC k) = true := by simp [oaA]; omega
  refine ⟨⟨(hO.1.1.kept (oq o (Ne.symm (hD.2.1 k hk ha)))).to (fun j hj => ?_), fun j hj hja => ?_⟩, hh, ht, hi⟩
  · show oaV kdC (lAd la) (zx la z) j = oaV kdC (lAd la) (zx (laQ la k f) z') j
    simp only [oaV, zx]
    rw [hz1 j hj]
    rfl
  · show H1[lAd la j]? = _
    by_cases hjk : j = k
    · subst hjk
      rw [e]
      have h3 : ¬ kdC j = 3 := by omega
      have h9 : 9 ≤ kdC j := by omega
      simp [oaC, h3, h9, zx, lQ, laQ]
    · rw [oq _ (fun q => hjk (hD.1 j k hj hk hja ha q)), hO.1.2 j hj hja]
      simp only [oaC, zx]
      rw [hz2 j hj, hz3 j hj]
      simp [lQ, laQ, hjk]
theorem OCh.kept2 {D : va_G} {aC : Nat → ClassId} {A : Nat → Prop} {o : Nat} {la la' : LC} {z z1 : GS} {H H1 : Heap} (h : OCh D aC la z H) (ht : OCt A o la (kz z)) (hm : kMany (kz z1) = kMany (kz z)) (hkA : ∀ s, s < 6 → kA (kz z1) 20 s = kA (kz z) 20 s ∧ kA (kz z1) 21 s = kA (kz z) 21 s) (h110 : z1.2.1 110 = z.2.1 110) (hp : ∀ f, f < 5 → z1.2.1 (100 + f) = z.2.1 (100 + f)) (he : ∀ s, s < 6 → z1.2.2.1 (150 + s) = z.2.2.1 (150 + s)) (l1 : lFn la' = lFn la) (l2 : lPa la' = lPa la) (l3 : lQ la' 0 = lQ la 0) (l4 : lIa la' = lIa la) (l5 : lIm la' = lIm la) {a : Nat} (hta : lTg la a = 1 ∨ (100 ≤ lTg la a ∧ lTg la a < 145)) (oq : ∀ q : Nat, q ≠ a → H1[q]? = H[q]?) : OCh D aC la' z1 H1 := by
  obtain ⟨t1, t2, t3, t4, t5, t6, t7⟩ := ht
  obtain ⟨h1, h2, h3, h4⟩ := h
  refine ⟨?_, fun i hi => ?_, fun s hs hr => ?_, fun b e hb => ?_⟩
  · rw [l1, oq _ (fun q => by rw [← q] at hta; omega), h110]
    exact h1
  · rw [hm] at hi
    obtain ⟨g1, g2⟩ := h2 i hi
    have := t4 i hi
    rw [l2, l3]
    exact ⟨g1, (g2.kept (oq _ (fun q => by rw [← q] at hta; omega))).to (fun f hf => by rw [hp f hf])⟩
  · have hr' : kRow (kz z) s := by unfold kRow kHold at hr ⊢; rw [(hkA s hs).1] at hr; exact hr
    have := t5 s hs hr'
    unfold kHold
    rw [l4, (hkA s hs).1, (hkA s hs).2, oq _ (fun q => by rw [← q] at hta; omega), he s hs]
    exact h3 s hs hr'
  · rw [l5] at hb
    obtain ⟨r, g1, g2⟩ := h4 b e hb
    have := t6 b e hb
    exact ⟨r, g1, g2.kept (oq _ (fun q => by rw [← q] at hta; omega))⟩
theorem OCt.same {A : Nat → Prop} {o : Nat} {la la' : LC} {w w' : KZ} (h : OCt A o la w) (hm : kMany w' = kMany w) (hr : ∀ s, s < 6 → kRow w' s → kRow w s) (l0 : lAd la' = lAd la) (l1 : lFn la' = lFn la) (l2 : lPa la' = lPa la) (l4 : lIa la' = lIa la) (l5 : lIm la' = lIm la) (l6 : lTg la' = lTg la) : OCt A o la' w' := by
  obtain ⟨t1, t2, t3, t4, t5, t6, t7⟩ := h
  refine ⟨by rw [l6]; exact t1, by rw [l6, l0]; exact t2, by rw [l6, l1]; exact t3, ?_, ?_, by rw [l6, l5]; exact t6, by rw [l6]; exact t7⟩
  · rw [l6, l2, hm]; exact t4
  · rw [l6, l4]; exact fun s hs h9 => t5 s hs (hr s hs h9)
