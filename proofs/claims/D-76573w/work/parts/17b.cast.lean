set_option maxRecDepth 100000
/-! ===== a checkcast that fails; what the machine throws ===== -/
def cHome (b : Bool) : String := (if b then "module java.base" else "unnamed module") ++ " of loader " ++ "'bootstrap'"
def cHomes (a b : String) : Option (Bool × Bool) × Bool → String := fun q => match q.1 with
  | none => toString a ++ toString " and " ++ toString b ++ toString " are in " ++ toString (cHome q.2)
  | some (x, y) => toString a ++ toString " is in " ++ toString (cHome x) ++ toString "; " ++ toString b ++ toString " is in " ++ toString (cHome y)
def castText (C T : String) (q : Option (Bool × Bool) × Bool) : String := toString "class " ++ toString (dotted C) ++ toString " cannot be cast to class " ++ toString (dotted T) ++ toString " (" ++ toString (cHomes (dotted C) (dotted T) q) ++ toString ")"
theorem cHome_len (b : Bool) : (cHome b).toList.length ≤ 39 := by
  unfold cHome
  simp only [String.toList_append, List.length_append]
  have a1 : " of loader ".toList.length = 11 := by decide
  have a2 : "'bootstrap'".toList.length = 11 := by decide
  have a3 : "module java.base".toList.length = 16 := by decide
  have a4 : "unnamed module".toList.length = 14 := by decide
  cases b
  · rw [if_neg (by decide)]; omega
  · rw [if_pos rfl]; omega
theorem dotted_len (s : String) : (dotted s).toList.length = s.toList.length := by
  unfold dotted turned
  rw [String.toList_ofList, List.length_map]
def castOk (C T : String) : Bool := decide (C.toList.length ≤ 24) && decide (T.toList.length ≤ 24)
theorem cHomes_len {a b : String} (ha : a.toList.length ≤ 24) (hb : b.toList.length ≤ 24) (q : Option (Bool × Bool) × Bool) : (cHomes a b q).toList.length ≤ 145 := by
  obtain ⟨o, h⟩ := q
  have a1 : " and ".toList.length = 5 := by decide
  have a2 : " are in ".toList.length = 8 := by decide
  have a3 : " is in ".toList.length = 7 := by decide
  have a4 : "; ".toList.length = 2 := by decide
  rcases o with _ | ⟨x, y⟩
  · show (toString a ++ toString " and " ++ toString b ++ toString " are in " ++ toString (cHome h)).toList.length ≤ 145
    simp only [String.toList_append, List.length_append]
    have := cHome_len h
    show a.toList.length + " and ".toList.length + b.toList.length + " are in ".toList.length + (cHome h).toList.length ≤ 145
    omega
  · show (toString a ++ toString " is in " ++ toString (cHome x) ++ toString "; " ++ toString b ++ toString " is in " ++ toString (cHome y)).toList.length ≤ 145
    simp only [String.toList_append, List.length_append]
    have h1 := cHome_len x
    have h2 := cHome_len y
    show a.toList.length + " is in ".toList.length + (cHome x).toList.length + "; ".toList.length + b.toList.length + " is in ".toList.length + (cHome y).toList.length ≤ 145
    omega
theorem castOk_use {C T : String} (h : castOk C T = true) (q : Option (Bool × Bool) × Bool) : (castText C T q == notModelled) = false ∧ (stringBytes (stringToUtf16 (castText C T q))).size ≤ 1000 := by
  simp only [castOk, Bool.and_eq_true, decide_eq_true_eq] at h
  have hC := dotted_len C
  have hT := dotted_len T
  have hh := cHomes_len (a := dotted C) (b := dotted T) (by omega) (by omega) q
  have a1 : "class ".toList.length = 6 := by decide
  have a2 : " cannot be cast to class ".toList.length = 25 := by decide
  have a3 : " (".toList.length = 2 := by decide
  have a4 : ")".toList.length = 1 := by decide
  have hl : (castText C T q).toList.length ≤ 250 := by
    unfold castText
    simp only [String.toList_append, List.length_append]
    show "class ".toList.length + (dotted C).toList.length + " cannot be cast to class ".toList.length + (dotted T).toList.length + " (".toList.length + (cHomes (dotted C) (dotted T) q).toList.length + ")".toList.length ≤ 250
    omega
  refine ⟨?_, ?_⟩
  · rw [beq_eq_false_iff_ne]
    intro h
    have h2 := congrArg String.toList h
    have h3 : ∃ t, (castText C T q).toList = 'c' :: t := by
      unfold castText
      simp only [String.toList_append]
      exact ⟨_, rfl⟩
    obtain ⟨t, h3⟩ := h3
    rw [h3] at h2
    have h4 : notModelled.toList = '\u0000' :: " a message that is not modelled".toList := by decide
    rw [h4] at h2
    simp at h2
  · have b1 := stringBytes_size_le (stringToUtf16 (castText C T q))
    have b2 := utf16_size_le (castText C T q)
    omega
theorem find_full {vm : Vm} {name : String} {c : ClassId} {k : Class} (h : vm.findClass name = some c) (hk : vm.classes[c]? = some k) : k.name = name ∧ k.hidden = none ∧ k.loader = none := by
  obtain ⟨hlt, hp, _⟩ := Array.findIdx?_eq_some_iff_getElem.mp h
  have hk' : vm.classes[c] = k := by
    rw [Array.getElem?_eq_getElem hlt] at hk
    exact Option.some.inj hk
  rw [hk'] at hp
  simp only [Bool.and_eq_true, beq_iff_eq, Option.isNone_iff_eq_none] at hp
  exact ⟨hp.1.1.1, hp.1.1.2, hp.2⟩
theorem home_cases {vm : Vm} {k : Class} (hR : modR vm) (hl : k.loader = none) (hp : packageOf k.name = "") : ∃ b, vm.home k = cHome b := by
  unfold Vm.home
  rw [hl]
  show ∃ b, (match vm.moduleOf k with | some m => "module " ++ m.name | none => "unnamed module") ++ " of loader " ++ "'bootstrap'" = cHome b
  cases hm : vm.moduleOf k with
  | none => exact ⟨false, rfl⟩
  | some m =>
    have : m.name = "java.base" := by
      unfold Vm.moduleOf at hm
      split at hm
      · have := List.find?_some hm
        simpa using this
      · have h1 := List.find?_some hm
        have h2 := List.mem_of_find?_eq_some hm
        simp only [Bool.and_eq_true, beq_iff_eq] at h1
        rw [hl, hp] at h1
        exact hR m h2 h1.1 h1.2
    refine ⟨true, ?_⟩
    show "module " ++ m.name ++ " of loader " ++ "'bootstrap'" = _
    rw [this]
    rfl
theorem shown_eq {k : Class} (h : k.hidden = none) : k.shown = dotted k.name := by
  unfold Class.shown
  rw [h]
theorem msg_cases {vm : Vm} {ks kt : Class} (hR : modR vm) (h1 : ks.hidden = none ∧ ks.loader = none ∧ packageOf ks.name = "") (h2 : kt.hidden = none ∧ kt.loader = none ∧ packageOf kt.name = "") : ∃ q, Op.checkcast.message vm ks kt = castText ks.name kt.name q := by
  obtain ⟨a, ha⟩ := home_cases hR h1.2.1 h1.2.2
  obtain ⟨b, hb⟩ := home_cases hR h2.2.1 h2.2.2
  unfold Op.checkcast.message Vm.homes
  rw [shown_eq h1.1, shown_eq h2.1, ha, hb]
  split
  · refine ⟨(none, a), ?_⟩
    unfold castText
    rfl
  · refine ⟨(some (a, b), true), ?_⟩
    unfold castText
    rfl
section CA
variable {p : Program} {l : Launch} {e : Env} {R : Room} {s : State} {m : MethodId} {args : Array Value} {below : List Frame} {meth : Method} {c : Code} {H : Heap} {locs : List Loc} {cells slots : Nat} {Q : State → Prop}
variable {cc : ByteArray} {pc : Nat} {ls : Array Slot} {rest : List Value}
theorem g_castNo (hexec : p.tables.exec = Jvm.exec) (hb : c.code = cc) {own C nm : String} {index a : Nat} (hown : s.vm.findClass own = some m.cls) (hlink : (Cond.classLink own index nm).before args s = true) (hc : va_Nc C nm s) (hR : modR s.vm)
    (hp1 : packageOf C = "") (hp2 : packageOf nm = "")
    (hr : ∃ cell : Cell, H[a]? = some cell ∧ cell.vm.isStatics = false ∧ s.vm.findClass C = some cell.cls) (hdg : decode cc pc = .ok (.checkcast index, 3))
    (k : ∀ q, vx_Note p l e R s m args below meth c H locs cells slots Q (F0 m pc ls (.ref a :: rest)) "java/lang/ClassCastException" (castText C nm q)) : W p l e R s m args below meth c H locs cells slots Q (F0 m pc ls (.ref a :: rest)) := by
  obtain ⟨cell, hcell, hobj, h3⟩ := hr
  obtain ⟨c0, cT, f1, hcT, hasg⟩ := hc
  cases h3.symm.trans f1
  intro T hT X
  obtain ⟨ks, hks, -⟩ := Vm.findClass_spec h3
  have hpl : e.platform.magicAccessors = ({} : Platform).magicAccessors := by rw [X.admits.platform]
  obtain ⟨c', hc', hcl⟩ := Cond.classLink_spec hown hlink e.platform hpl
  cases hcT.symm.trans hc'
  obtain ⟨dk, _, _, kt, hd, _, _, _, _, hkt, _, hopen⟩ := hcl.here
  have hcl₀ := X.warmed.classLinks hcl
  have hW' : s.WarmedH (T.vm.noted m.cls index (.cls cT)) := X.warmed.noted hd hopen (State.rightAt_cls hcl)
  obtain ⟨ks', hks', -⟩ := hW'.alike.2.2 _ _ hks
  obtain ⟨kt', hkt', -⟩ := hW'.alike.2.2 _ _ hkt
  have hR' : modR (T.vm.noted m.cls index (.cls cT)) := by
    have := hW'.alike.1
    unfold modR
    rw [this]
    exact hR
  obtain ⟨n1, n2, n3⟩ := find_full (vm := T.vm.noted m.cls index (.cls cT)) (by rw [hW'.alike.findClass]; exact h3) hks'
  obtain ⟨t1, t2, t3⟩ := find_full (vm := T.vm.noted m.cls index (.cls cT)) (by rw [hW'.alike.findClass]; exact hcT) hkt'
  obtain ⟨q, hq⟩ := msg_cases hR' ⟨n2, n3, by rw [n1]; exact hp1⟩ ⟨t2, t3, by rw [t1]; exact hp2⟩
  rw [n1, t1] at hq
  have X' := X.noted hW'
  obtain ⟨t, st, hQ⟩ := k q (T.setVm (T.vm.noted m.cls index (.cls cT))) hT X'
  refine ⟨t, ?_, hQ⟩
  have hdg' : decode c.code (F0 m pc ls (.ref a :: rest)).pc = .ok (.checkcast index, 3) := by rw [hb]; exact hdg
  have hcell' : T.heap[a]? = some cell := by rw [hT]; exact hcell
  jvm_step X.here [hexec, hdg', Op.checkcast.wp_cold (e := e) (s := T) (f := F0 m pc ls (.ref a :: rest)) X.here.top rfl (resolveClass_links e.toSetting hcl₀) hcl₀.ready,
    Op.checkcast.wp_ready (e := e) (s := T.setVm (T.vm.noted m.cls index (.cls cT))) (f := F0 m pc ls (.ref a :: rest)) X.here.top hcl₀.ready rfl]
  refine ⟨cell, hcell', VmData.noStatics_of hobj, ks', hks', kt', hkt', ?_⟩
  have h1 : (T.vm.noted m.cls index (Resolved.cls cT)).assignable cell.cls cT = false := by rw [hW'.alike.assignable]; exact hasg
  rw [if_neg (by rw [h1]; decide), hq]
  exact st
end CA
