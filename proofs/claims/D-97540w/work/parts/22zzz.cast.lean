/-! A CAST THAT FAILS: the machine's ClassCastException and its text -/
set_option maxRecDepth 100000
def hm0 : String := "module " ++ "java.base" ++ " of loader " ++ "'bootstrap'"
def hm1 : String := "unnamed module" ++ " of loader " ++ "'bootstrap'"
def ctx (a b h : String) : String := "class " ++ a ++ " cannot be cast to class " ++ b ++ " (" ++ h ++ ")"
def ctxs (a b : String) : List String := [a ++ " and " ++ b ++ " are in " ++ hm0, a ++ " and " ++ b ++ " are in " ++ hm1, a ++ " is in " ++ hm0 ++ "; " ++ b ++ " is in " ++ hm0, a ++ " is in " ++ hm0 ++ "; " ++ b ++ " is in " ++ hm1, a ++ " is in " ++ hm1 ++ "; " ++ b ++ " is in " ++ hm0, a ++ " is in " ++ hm1 ++ "; " ++ b ++ " is in " ++ hm1].map (ctx a b)
theorem ctx_ok {a b h : String} (ha : a.toList.length ≤ 20) (hb : b.toList.length ≤ 20) (hh : h.toList.length ≤ 150) : (ctx a b h == notModelled) = false ∧ (ctx a b h).toList.length ≤ 250 := by
  have l1 : "class ".toList.length = 6 := by decide
  have l2 : " cannot be cast to class ".toList.length = 25 := by decide
  have l3 : " (".toList.length = 2 := by decide
  have l4 : ")".toList.length = 1 := by decide
  refine ⟨?_, ?_⟩
  · rw [beq_eq_false_iff_ne]
    intro e
    have h1 : (ctx a b h).toList.head? = some 'c' := by
      unfold ctx
      simp only [String.toList_append, List.append_assoc]
      rfl
    rw [e] at h1
    revert h1
    decide
  · unfold ctx
    simp only [String.toList_append, List.length_append]
    omega
theorem dot_le : ∀ q ∈ DWn, (dotted q.1).toList.length ≤ 20 ∧ (dotted q.2).toList.length ≤ 20 := by decide +kernel
theorem ctxs_ok0 : ∀ q ∈ DWn, ∀ t ∈ ctxs (dotted q.1) (dotted q.2), (t == notModelled) = false ∧ t.toList.length ≤ 250 := by
  intro q hq t ht
  obtain ⟨ha, hb⟩ := dot_le q hq
  generalize dotted q.1 = a at ha ht
  generalize dotted q.2 = b at hb ht
  have m0 : hm0.toList.length ≤ 40 := by decide
  have m1 : hm1.toList.length ≤ 40 := by decide
  have l1 : " and ".toList.length = 5 := by decide
  have l2 : " are in ".toList.length = 8 := by decide
  have l3 : " is in ".toList.length = 7 := by decide
  have l4 : "; ".toList.length = 2 := by decide
  unfold ctxs at ht
  obtain ⟨x, hx, rfl⟩ := List.mem_map.mp ht
  refine ctx_ok ha hb ?_
  simp only [List.mem_cons, List.not_mem_nil, or_false] at hx
  rcases hx with e | e | e | e | e | e <;> subst e <;> simp only [String.toList_append, List.length_append] <;> omega
theorem ctxs_ok : ∀ q ∈ DWn, ∀ t ∈ ctxs (dotted q.1) (dotted q.2), (t == notModelled) = false ∧ (stringBytes (stringToUtf16 t)).size ≤ 1000 := by
  intro q hq t ht
  obtain ⟨h1, h2⟩ := ctxs_ok0 q hq t ht
  have b1 := stringBytes_size_le (stringToUtf16 t)
  have b2 := utf16_size_le t
  exact ⟨h1, by omega⟩
theorem pk_none : ∀ q ∈ DWn, packageOf q.1 = "" ∧ packageOf q.2 = "" := by decide +kernel
theorem find_bare {vm : Vm} {name : String} {c : ClassId} {k : Class} (h : vm.findClass name = some c) (hk : vm.classes[c]? = some k) : k.name = name ∧ k.hidden = none ∧ k.loader = none := by
  obtain ⟨hlt, hp, -⟩ := Array.findIdx?_eq_some_iff_getElem.mp h
  have e : k = vm.classes[c] := Option.some.inj (hk.symm.trans (by simp [hlt]))
  simp only [Bool.and_eq_true, beq_iff_eq, Option.isNone_iff_eq_none] at hp
  rw [e]
  exact ⟨hp.1.1.1, hp.1.1.2, hp.2⟩
theorem home_in {s : State} (hm : modulesRight_1 s = true) {k : Class} (hl : k.loader = none) (hp : packageOf k.name = "") : s.vm.home k = hm0 ∨ s.vm.home k = hm1 := by
  unfold Vm.home
  rw [hl]
  cases hf : s.vm.moduleOf k with
  | none => exact Or.inr rfl
  | some m =>
    have hn : m.name = "java.base" := by
      unfold Vm.moduleOf at hf
      split at hf
      · have := List.find?_some hf
        simpa using this
      · have h1 := List.find?_some hf
        have h2 := List.mem_of_find?_eq_some hf
        rw [hl, hp] at h1
        simp only [Bool.and_eq_true, beq_iff_eq] at h1
        unfold modulesRight_1 at hm
        have h3 := List.all_eq_true.mp hm m h2
        rw [h1.1] at h3
        simp only [Option.isSome_none, Bool.false_or, Bool.or_eq_true, beq_iff_eq, Bool.not_eq_true'] at h3
        rcases h3 with h3 | h3
        · exact h3
        · have h4 : (castPackages_1.any fun p => m.packages.contains p) = true := List.any_eq_true.mpr ⟨"", by decide, h1.2⟩
          rw [h4] at h3
          cases h3
    left
    show "module " ++ m.name ++ " of loader " ++ "'bootstrap'" = hm0
    rw [hn]
    rfl
theorem msg_in {s : State} (hm : modulesRight_1 s = true) {A B : String} {ks kt : Class} (hq : (A, B) ∈ DWn) (h1 : ks.name = A ∧ ks.hidden = none ∧ ks.loader = none) (h2 : kt.name = B ∧ kt.hidden = none ∧ kt.loader = none) : Op.checkcast.message s.vm ks kt ∈ ctxs (dotted A) (dotted B) := by
  obtain ⟨p1, p2⟩ := pk_none (A, B) hq
  have s1 : ks.shown = dotted A := by unfold Class.shown; rw [h1.2.1, h1.1]
  have s2 : kt.shown = dotted B := by unfold Class.shown; rw [h2.2.1, h2.1]
  have a1 := home_in hm h1.2.2 (by rw [h1.1]; exact p1)
  have a2 := home_in hm h2.2.2 (by rw [h2.1]; exact p2)
  unfold Op.checkcast.message Vm.homes
  rw [s1, s2]
  by_cases hs : s.vm.sameModule ks kt = true
  · rw [if_pos hs]
    rcases a1 with e | e <;> rw [e] <;> simp [ctxs, ctx, String.append_assoc, toString]
  · rw [if_neg hs]
    rcases a1 with e | e <;> rcases a2 with e' | e' <;> rw [e, e'] <;> simp [ctxs, ctx, String.append_assoc, toString]
section CASTNO
variable {p : Program} {l : Launch} {e : Env} {R : Room} {s : State} {m : MethodId} {args : Array Value} {below : List Frame} {meth : Method} {c : Code} {H : Heap} {locs : List Loc} {cells slots : Nat} {Q : State → Prop}
variable {own : String} {cc : ByteArray} {pc : Nat} {ls : Array Slot} {rest : List Value}
theorem checkcastNo {T : State} (X : Stand p l e R s m args below meth c T locs cells slots) (hexec : p.tables.exec = Jvm.exec) {C nm : String} {index a : Nat} {cell : Cell} (hown : s.vm.findClass own = some m.cls) (hlink : (Cond.classLink own index nm).before args s = true) (hC : (C, nm) ∈ DWn) (hnc : va_Nc C nm s) (hmods : modulesRight_1 s = true)
    (hcell : T.heap[a]? = some cell) (hobj : ∀ k, cell.vm ≠ .statics k) (hcls : s.vm.findClass C = some cell.cls) {g : JFrame} (hg : g.method = m) (hstack : g.stack = .ref a :: rest) (hdg : decode c.code g.pc = .ok (.checkcast index, 3)) :
    ∃ (vm' : Vm) (t : String), t ∈ ctxs (dotted C) (dotted nm) ∧ Stand p l e R s m args below meth c (T.setVm vm') locs cells slots ∧
      ∀ target, Steps p.tables e below (((T.setVm vm').setTop g).pushFrame (.throwNew "java/lang/ClassCastException" (some t) none)) target → Steps p.tables e below (T.setTop g) target := by
  have hpl : e.platform.magicAccessors = ({} : Platform).magicAccessors := by rw [X.admits.platform]
  obtain ⟨cT, hcT, hcl⟩ := Cond.classLink_spec hown hlink e.platform hpl
  obtain ⟨c0, t0, f1, f2, f3⟩ := hnc
  have e1 := Option.some.inj (hcls.symm.trans f1)
  have e2 := Option.some.inj (hcT.symm.trans f2)
  rw [← e1, ← e2] at f3
  obtain ⟨ks, hks, -⟩ := Vm.findClass_spec hcls
  obtain ⟨dk, _, _, kt, hd, _, _, _, _, hkt, _, hopen⟩ := hcl.here
  have hcl₀ := X.warmed.classLinks hcl
  have hW' : s.WarmedH (T.vm.noted m.cls index (.cls cT)) := X.warmed.noted hd hopen (State.rightAt_cls hcl)
  obtain ⟨ks', hks', -⟩ := hW'.alike.2.2 _ _ hks
  obtain ⟨kt', hkt', -⟩ := hW'.alike.2.2 _ _ hkt
  have b1 := find_bare (vm := T.vm.noted m.cls index (.cls cT)) (by rw [hW'.alike.findClass]; exact hcls) hks'
  have b2 := find_bare (vm := T.vm.noted m.cls index (.cls cT)) (by rw [hW'.alike.findClass]; exact hcT) hkt'
  have hm2 : modulesRight_1 (T.setVm (T.vm.noted m.cls index (.cls cT))) = true := mods_moved (u := s) (U := T.setVm (T.vm.noted m.cls index (.cls cT))) hW'.alike hmods
  refine ⟨_, _, msg_in hm2 hC b1 b2, X.noted hW', fun target hrest => ?_⟩
  subst hg
  jvm_step X.here [hexec, hdg, checkcast.wp_cold (e := e) (s := T) (f := g) X.here.top hstack (resolveClass_links e.toSetting hcl₀) hcl₀.ready,
    checkcast.wp_ready (e := e) (s := T.setVm (T.vm.noted g.method.cls index (.cls cT))) (f := g) X.here.top hcl₀.ready hstack]
  refine ⟨cell, hcell, hobj, ks', hks', kt', hkt', ?_⟩
  rw [if_neg (by rw [hW'.alike.assignable, f3]; decide)]
  exact hrest
theorem vx_castNo {C nm : String} {index a : Nat} (hexec : p.tables.exec = Jvm.exec) (hb : c.code = cc) (hown : s.vm.findClass own = some m.cls) (hlink : (Cond.classLink own index nm).before args s = true) (hC : (C, nm) ∈ DWn) (hnc : va_Nc C nm s) (hmods : modulesRight_1 s = true) (hr : ∃ cell : Cell, H[a]? = some cell ∧ cell.vm.isStatics = false ∧ s.vm.findClass C = some cell.cls) (hdg : decode cc pc = .ok (.checkcast index, 3))
    (k : ∀ t : String, t ∈ ctxs (dotted C) (dotted nm) → vx_Note p l e R s m args below meth c H locs cells slots Q (F0 m pc ls (.ref a :: rest)) "java/lang/ClassCastException" t) : W p l e R s m args below meth c H locs cells slots Q (F0 m pc ls (.ref a :: rest)) := by
  intro T hT X
  obtain ⟨cell, h1, h2, h3⟩ := hr
  obtain ⟨vm', t, ht, X', st⟩ := checkcastNo X hexec hown hlink hC hnc hmods (by rw [hT]; exact h1) (VmData.noStatics_of h2) h3 (g := F0 m pc ls (.ref a :: rest)) rfl (rest := rest) rfl (by rw [hb]; exact hdg)
  obtain ⟨t2, st2, q⟩ := k t ht (T.setVm vm') hT X'
  exact ⟨t2, st t2 st2, q⟩
end CASTNO
