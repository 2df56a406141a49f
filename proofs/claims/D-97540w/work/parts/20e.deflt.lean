/-! CALLS THAT LAND IN A DEFAULT METHOD: through an object, by super; super's inherited method; read-only -/
set_option maxRecDepth 100000
theorem ph_ole : ∀ (n : Nat) (f : Nat → Nat), (∀ i, i ≤ n → f i < n) → ∃ i j, i < j ∧ j ≤ n ∧ f i = f j := by
  intro n
  induction n with
  | zero => intro f h; exact absurd (h 0 (Nat.le_refl _)) (by omega)
  | succ n ih =>
    intro f h
    by_cases he : ∃ i, i ≤ n ∧ f i = f (n + 1)
    · obtain ⟨i, h1, h2⟩ := he
      exact ⟨i, n + 1, by omega, Nat.le_refl _, h2⟩
    · have hne : ∀ i, i ≤ n → f i ≠ f (n + 1) := fun i hi h2 => he ⟨i, hi, h2⟩
      obtain ⟨i, j, h1, h2, h3⟩ := ih (fun i => if f i = n then f (n + 1) else f i) (fun i hi => by
        have h4 := h i (by omega)
        have h5 := h (n + 1) (Nat.le_refl _)
        have h6 := hne i hi
        by_cases h7 : f i = n
        · simp only [h7, if_true]; omega
        · simp only [h7, if_false]; omega)
      refine ⟨i, j, h1, by omega, ?_⟩
      have h6 := hne i (by omega)
      have h7 := hne j (by omega)
      by_cases h4 : f i = n
      · by_cases h5 : f j = n
        · rw [h4, h5]
        · simp only [h4, h5, if_true, if_false] at h3; exact absurd h3.symm h7
      · by_cases h5 : f j = n
        · simp only [h4, h5, if_true, if_false] at h3; exact absurd h3 h6
        · simp only [h4, h5, if_false] at h3; exact h3
/-- the chain of superclasses -/
def sch (vm : Vm) (c : ClassId) : Nat → Option ClassId
  | 0 => some c
  | i + 1 => (sch vm c i).bind fun x => (vm.classes[x]?).bind (·.super)
theorem sch_shift {vm : Vm} {c c' : ClassId} {i : Nat} (h : sch vm c i = some c') : ∀ t, sch vm c (i + t) = sch vm c' t := by
  intro t
  induction t with
  | zero => exact h
  | succ t ih => show (sch vm c (i + t)).bind _ = _; rw [ih]; rfl
theorem sch_none {vm : Vm} {name desc : String} : ∀ (n : Nat) (c : ClassId), lookupInSuperclasses vm name desc n c = none → ∀ i, i < n → ∀ x, sch vm c i = some x → ownMethod vm name desc x = none := by
  intro n
  induction n with
  | zero => intro c _ i hi; omega
  | succ n ih =>
    intro c h i hi x hx
    unfold lookupInSuperclasses at h
    cases hk : vm.classes[c]? with
    | none =>
      cases i with
      | zero => cases hx; simp [ownMethod, hk]
      | succ i =>
        have := sch_shift (vm := vm) (c := c) (c' := c) (i := 0) rfl
        exfalso
        have hs : sch vm c 1 = none := by show (some c).bind _ = none; simp [hk]
        have h2 : ∀ t, sch vm c (1 + t) = none := by
          intro t
          induction t with
          | zero => exact hs
          | succ t it => show (sch vm c (1 + t)).bind _ = none; rw [it]; rfl
        rw [show i + 1 = 1 + i from by omega, h2 i] at hx
        cases hx
    | some k =>
      simp only [hk, Option.bind_eq_bind, Option.bind_some] at h
      cases hf : k.findMethod name desc with
      | some j => simp [hf] at h
      | none =>
        simp only [hf] at h
        cases i with
        | zero => cases hx; simp [ownMethod, hk, hf]
        | succ i =>
          cases hs : k.super with
          | none =>
            exfalso
            have hs1 : sch vm c 1 = none := by show (some c).bind _ = none; simp [hk, hs]
            have h2 : ∀ t, sch vm c (1 + t) = none := by
              intro t
              induction t with
              | zero => exact hs1
              | succ t it => show (sch vm c (1 + t)).bind _ = none; rw [it]; rfl
            rw [show i + 1 = 1 + i from by omega, h2 i] at hx
            cases hx
          | some q =>
            rw [hs, Option.bind_some] at h
            have h1 : sch vm c 1 = some q := by show (some c).bind _ = some q; simp [hk, hs]
            have h2 := sch_shift h1 i
            rw [show 1 + i = i + 1 from by omega, hx] at h2
            exact ih q h i (by omega) x h2.symm
theorem sch_mem {vm : Vm} : ∀ (n : Nat) (c x : ClassId), x ∈ vm.superclassesAux n c → ∃ i, 1 ≤ i ∧ i ≤ n ∧ sch vm c i = some x := by
  intro n
  induction n with
  | zero => intro c x h; simp [Vm.superclassesAux] at h
  | succ n ih =>
    intro c x h
    unfold Vm.superclassesAux at h
    cases hs : vm.classes[c]?.bind (·.super) with
    | none => rw [hs] at h; cases h
    | some q =>
      rw [hs] at h
      have h1 : sch vm c 1 = some q := hs
      rcases List.mem_cons.mp h with h | h
      · exact ⟨1, Nat.le_refl _, by omega, by rw [h1, h]⟩
      · obtain ⟨i, h2, h3, h4⟩ := ih q x h
        exact ⟨1 + i, by omega, by omega, by rw [sch_shift h1 i]; exact h4⟩
theorem sch_in {vm : Vm} {c x : ClassId} {i : Nat} (h : sch vm c (i + 1) = some x) : ∃ y, sch vm c i = some y ∧ y < vm.classes.size := by
  have h1 : (sch vm c i).bind (fun x => (vm.classes[x]?).bind (·.super)) = some x := h
  cases hy : sch vm c i with
  | none => rw [hy] at h1; cases h1
  | some y =>
    rw [hy, Option.bind_some] at h1
    refine ⟨y, rfl, ?_⟩
    cases hk : vm.classes[y]? with
    | none => rw [hk] at h1; cases h1
    | some k => exact (Array.getElem?_eq_some_iff.mp hk).1
/-- no class of the chain declares it, the farthest one neither -/
theorem sch_all {vm : Vm} {c : ClassId} {name desc : String} (h : lookupInSuperclasses vm name desc (vm.classes.size + 1) c = none) : ∀ i, i ≤ vm.classes.size + 1 → ∀ x, sch vm c i = some x → ownMethod vm name desc x = none := by
  intro i hi x hx
  by_cases hl : i < vm.classes.size + 1
  · exact sch_none _ _ h i hl x hx
  · have he : i = vm.classes.size + 1 := by omega
    subst he
    have hall : ∀ j, j ≤ vm.classes.size → ∃ y, sch vm c j = some y ∧ y < vm.classes.size := by
      intro j hj
      have key : ∀ t, t ≤ vm.classes.size → ∃ y, sch vm c (vm.classes.size - t) = some y ∧ y < vm.classes.size := by
        intro t
        induction t with
        | zero => intro _; exact sch_in hx
        | succ t ih =>
          intro ht
          obtain ⟨y, h1, -⟩ := ih (by omega)
          rw [show vm.classes.size - t = vm.classes.size - (t + 1) + 1 from by omega] at h1
          exact sch_in h1
      have := key (vm.classes.size - j) (by omega)
      rwa [show vm.classes.size - (vm.classes.size - j) = j from by omega] at this
    obtain ⟨a, b, h1, h2, h3⟩ := ph_ole vm.classes.size (fun j => (sch vm c j).getD 0) (fun j hj => by
      obtain ⟨y, h4, h5⟩ := hall j hj
      simp only [h4, Option.getD_some]; exact h5)
    obtain ⟨y, h4, -⟩ := hall a (by omega)
    obtain ⟨z, h5, -⟩ := hall b h2
    simp only [h4, h5, Option.getD_some] at h3
    subst h3
    have h6 := sch_shift h4 (vm.classes.size + 1 - b)
    have h7 := sch_shift h5 (vm.classes.size + 1 - b)
    rw [show b + (vm.classes.size + 1 - b) = vm.classes.size + 1 from by omega, hx] at h7
    rw [← h7] at h6
    exact sch_none _ _ h _ (by omega) x h6
theorem special_none {vm : Vm} {c : ClassId} {name desc : String} (h : lookupInSuperclasses vm name desc (vm.classes.size + 1) c = none) : lookupSpecial vm c name desc = (match (maximallySpecific vm c name desc).filter fun m => (vm.method? m).any (!·.isAbstract) with
    | [m] => .method m
    | [] => .none
    | _ => .several) := by
  have hall := sch_all h
  have h0 : (vm.classes[c]?.bind (·.findMethod name desc)).map (fun i => (⟨c, i⟩ : MethodId)) = none := hall 0 (by omega) c rfl
  have h1 : superclassMethods vm c name desc = [] := by
    unfold superclassMethods
    rw [List.filterMap_eq_nil_iff]
    intro x hx
    obtain ⟨i, -, h3, h4⟩ := sch_mem _ _ _ hx
    exact hall i h3 x h4
  unfold lookupSpecial
  simp only [h0, h1, List.filter_nil, Option.toList_none, List.append_nil, List.find?_nil]
  rfl
theorem select_none {vm : Vm} {mR : MethodId} {name desc : String} : ∀ (n : Nat) (c : ClassId), lookupInSuperclasses vm name desc n c = none → selectInSuperclasses vm mR name desc n c = none := by
  intro n
  induction n with
  | zero => intro c _; rfl
  | succ n ih =>
    intro c h
    unfold lookupInSuperclasses at h
    unfold selectInSuperclasses
    cases hk : vm.classes[c]? with
    | none => rfl
    | some k =>
      simp only [hk, Option.bind_eq_bind, Option.bind_some] at h ⊢
      cases hf : k.findMethod name desc with
      | some j => simp [hf] at h
      | none =>
        simp only [hf] at h
        cases hs : k.super with
        | none => simp
        | some q =>
          rw [hs, Option.bind_some] at h
          simp [ih q h]
/-- super's default method is what an object of that class itself would run -/
theorem special_default {args : Array Value} {s : State} {y : MethodName} {x : MethodName} {c : ClassId} {k : Class} {r0 : MethodId} {r : Method} (h : (Cond.landsInDefault x.cls x y).before args s = true) (hc : s.vm.findClass x.cls = some c) (hk : s.vm.classes[c]? = some k) (hni : k.isInterface = false)
    (hf : s.methodFound? x.cls x.name x.desc = some r0) (hn : s.methodNamed? y = some r0) (hxy : y.name = x.name ∧ y.desc = x.desc) (hrm : s.vm.method? r0 = some r) (hst : r.isStatic = false) (hup : s.vm.lookupUp c x.name x.desc = some r0) : lookupSpecial s.vm c x.name x.desc = .method r0 := by
  cases hA : lookupInSuperclasses s.vm x.name x.desc (s.vm.classes.size + 1) c with
  | some z => exact lookupSpecial_of_lookupUp hk hni hup (by rw [hA]; rfl) hrm hst
  | none =>
    obtain ⟨c2, r2, m2, rm, q1, q2, q3, q5, q4, ⟨mk, hmk, hmi⟩, -, -⟩ := Cond.landsInDefault_spec h
    cases hc.symm.trans q1
    cases hf.symm.trans q2
    cases hn.symm.trans q3
    cases hrm.symm.trans q5
    obtain ⟨e1, e2⟩ := name_of_methodNamed hn hrm
    rw [hxy.1] at e1
    rw [hxy.2] at e2
    have hp : r.isPrivate = false := by
      simp only [Cond.before, Cond.holds, Cond.value, hc, hf, hn, hrm, q4, Option.map_some, beq_iff_eq, Option.some.injEq, Bool.and_eq_true, Bool.not_eq_true'] at h
      exact h.1.1.2
    rw [special_none hA]
    unfold selectMethod at q4
    simp only [hrm, hp, Bool.false_eq_true, if_false, e1, e2, hmk, Option.any_some, hmi, Bool.not_true, Bool.and_false, select_none _ _ hA] at q4
    split at q4
    · cases q4
    · exact q4
section DEFLT
variable {p : Program} {l : Launch} {e : Env} {R : Room} {s : State} {m : MethodId} {args : Array Value} {below : List Frame} {meth : Method} {c : Code} {H : Heap} {locs : List Loc} {cells slots : Nat} {Q : State → Prop}
variable {own : String} {cc : ByteArray} {nL : Nat} {rt : Option FieldType} {pc : Nat} {ls : Array Slot} {rest : List Value} {D : va_G} {cA : Nat → ClassId} {ws : va_W}
/-- a read-only call of which only its first step is to be shown -/
theorem r_callG {ins : Instr} {a : Nat} {y : MethodName} {cc' : ByteArray} {nL' : Nat} {rt' : Option FieldType} {rm : Room} {av : List Value} {o : Option Value} {st0 : List Value} {A : Nat → Prop} {wc : va_W} (B : BX own cc nL rt p s m args meth c) (hK : va_K D cls (tyL cA) s) (hT0 : TWs s) (hP : va_P D cls ws H) (hS : va_S A s.heap H locs)
    (hM : rMet l y cc' nL' rt' rm (.ref a :: av) D cA wc o) (q5 : Cond.initialized y.cls ∈ lw_all) (q6 : Cond.code y cc' nL' rt' ∈ lw_all) (hrm : rm.cells = 0 ∧ rm.slots = 0 ∧ rm.frames + 1 ≤ R.frames ∧ 8 + (nL' + 11) + rm.locals ≤ R.locals) (hsub : ∀ (k : Nat) (z : Nat × va_E), wc[k]? = some z → ∃ j : Nat, ws[j]? = some z)
    (hl : ls.size = nL) (hW : (rest.map fun v => v.category).sum ≤ 8) (hc : cells ≤ R.cells ∧ slots ≤ R.slots) (hdg : decode cc pc = .ok (ins, 3))
    (hstep : ∀ T : State, T.heap = H → Stand p l e R s m args below meth c T locs cells slots → ∃ (mk : MethodId) (vm₁ : Vm), s.methodNamed? y = some mk ∧ Stand p l e R s m args below meth c (T.setVm vm₁) locs cells slots ∧ ∀ target, Steps p.tables e below (doInvoke e ((T.setVm vm₁).setTop { F0 m pc ls st0 with stack := rest }) [] mk (Value.ref a :: av).toArray).1 target → Steps p.tables e below (T.setTop (F0 m pc ls st0)) target)
    (kk : ∀ (H1 : Heap) (locs1 : List Loc), H.size ≤ H1.size → (∀ q : Nat, q < H.size → H1[q]? = H[q]?) → va_S A s.heap H1 locs1 → W p l e R s m args below meth c H1 locs1 cells slots Q (F0 m (pc + 3) ls (o.toList ++ rest))) : W p l e R s m args below meth c H locs cells slots Q (F0 m pc ls st0) := by
  obtain ⟨hx, hb, hml, hown, hts, -, -⟩ := B
  have hPc : va_P D cls wc H := fun k z hz => by
    obtain ⟨j, hj⟩ := hsub k z hz
    exact hP j z hj
  have hG := lw_meth q6
  have hB : Back l R p e below s args y 3 8 (PreOf R 0 0 (va_Pc (.ref a :: av) (fun U => va_P D cls wc U.heap ∧ va_K D cls (tyL cA) U ∧ TWs U))) (PostOf (fun _ st oc t => oc = .returned o ∧ va_F (fun _ => False) st t) 0 0 (fun _ => False)) :=
    back_of (bytes := cc') (maxL := nL') (ret := rt') hM (fun a' U g mk q => ⟨q.1, q.2.1, va_K.moved (u := U) (U := U.calling g mk a') (Vm.Alike.refl U.vm) q.2.2.1, q.2.2.2.same (u := U) rfl⟩) hrm.1 hrm.2.1 hrm.2.2.1 hrm.2.2.2 (pay_in hts hG) List.mem_cons_self (fun a' U hW => word_at hW (Or.inl (by first | rfl | simp [Cond.onTables, Cond.keeps, Cond.steady])) (hts _ q5))
  refine r_tail (o := o) (st0 := st0) ?_ hS kk
  intro T hT X
  obtain ⟨mk, vm₁, hnamed, X₁, hstep₁⟩ := hstep T hT X
  obtain ⟨v, ⟨U', l2, c2, s2⟩, X', ⟨g', mk', t, L, e1, e2, hq, h1, hL, h2, h3⟩, st⟩ := hB m meth c ⟨T.setVm vm₁, locs, cells, slots⟩ { F0 m pc ls st0 with stack := rest } ins mk (Value.ref a :: av).toArray X₁ rfl (hl.trans hml.symm) (by rw [hb]; exact hdg) (lv_room hW) (X₁.named hnamed) ⟨hc.1, hc.2, rfl, by show va_P D cls wc T.heap; rw [hT]; exact hPc, va_K.moved X₁.warmed.alike hK, hT0.warm X₁.warmed⟩
  dsimp only [Pt.U, Pt.locs, Pt.cells, Pt.slots] at X' e1 e2 h1 h2 h3 st
  subst h1; subst h2; subst h3
  exact ⟨v, (T.setVm vm₁).calling g' mk' (Value.ref a :: av).toArray, t, U', L, hT, X', hL, e1, e2, hq, fun target h => hstep₁ _ (by rw [doInvoke_state]; exact st.trans h)⟩
/-- the first step of name.isShut() that lands in the default method -/
theorem step_D {T : State} {C owner : String} {index a : Nat} {x y : MethodName} {av st0 : List Value} (X : Stand p l e R s m args below meth c T locs cells slots) (hexec : p.tables.exec = Jvm.exec) (hown : s.vm.findClass own = some m.cls) (hlink : (Cond.methodLink own index x).before args s = true) (hsame : (Cond.sameMethod x.cls owner x.name x.desc).before args s = true) (hd0 : va_Decl s ⟨owner, x.name, x.desc⟩) (howner : owner ≠ "java/lang/invoke/MethodHandle" ∧ owner ≠ "java/lang/invoke/VarHandle")
    (hsel : (Cond.landsInDefault C x y).before args s = true) (hinst : (Cond.instanceMethod y).before args s = true) (hr : ∃ cellB, T.heap[a]? = some cellB ∧ cellB.vm.isStatics = false ∧ s.vm.findClass C = some cellB.cls) (hlen : ∀ sig, parseMethodDescriptor x.desc = some sig → av.length = sig.parameters.length) (hstack : st0 = av.reverse ++ .ref a :: rest) (hdg : decode c.code pc = .ok (.invokevirtual index, 3)) :
    ∃ (mk : MethodId) (vm₁ : Vm), s.methodNamed? y = some mk ∧ Stand p l e R s m args below meth c (T.setVm vm₁) locs cells slots ∧ ∀ target, Steps p.tables e below (doInvoke e ((T.setVm vm₁).setTop { F0 m pc ls st0 with stack := rest }) [] mk (Value.ref a :: av).toArray).1 target → Steps p.tables e below (T.setTop (F0 m pc ls st0)) target := by
  obtain ⟨cellB, hcell, hobj, hcls⟩ := hr
  obtain ⟨r0, r, hn, hrm, hstR, hsigR⟩ := hd0
  obtain ⟨cn, ck, r1, hcn, hck, hni, hf, hn1⟩ := Cond.sameMethod_found hsame
  cases hn.symm.trans hn1
  obtain ⟨mk, methM, hnamed, hmethM, -, habM⟩ := Cond.instanceMethod_spec hinst
  obtain ⟨c2, r2, m2, rm, q1, q2, q3, q5, q4, ⟨kP, hkP, hkPi⟩, -, q7⟩ := Cond.landsInDefault_spec hsel
  cases hcls.symm.trans q1
  cases hf.symm.trans q2
  cases hnamed.symm.trans q3
  cases hrm.symm.trans q5
  have hselP : selectMethod e.platform s.vm cellB.cls r0 = .method mk := by rw [Launch.admits_selectMethod X.admits]; exact q4
  obtain ⟨vm₁, X₁, hstep₁⟩ := X.invokevirtualUpD hexec hown hlink hsame howner hn hrm hstR (a := a) (cell := cellB) hcell
    (fun z h => by rw [h] at hobj; cases hobj) hselP hmethM habM hkP hkPi q7 (g := F0 m pc ls st0) rfl (argsL := av) (rest := rest) (hlen _ hsigR) hstack hdg
  exact ⟨mk, vm₁, hnamed, X₁, fun target h => hstep₁ target (fun acts => by rw [doInvoke_state] at h ⊢; exact h)⟩
/-- the first step of super.y(..) where the superclass inherits y's code from owner -/
theorem step_SI {T : State} {owner : String} {index a : Nat} {x : MethodName} {av st0 : List Value} (X : Stand p l e R s m args below meth c T locs cells slots) (hexec : p.tables.exec = Jvm.exec) (hown : s.vm.findClass own = some m.cls) (hlink : (Cond.methodLink own index x).before args s = true) (hsame : (Cond.sameMethod x.cls owner x.name x.desc).before args s = true) (hsup : (Cond.superclass own x.cls).before args s = true) (hsup2 : (Cond.superclass x.cls owner).before args s = true)
    (hinst : (Cond.instanceMethod ⟨owner, x.name, x.desc⟩).before args s = true) (hd0 : va_Decl s ⟨owner, x.name, x.desc⟩) (hno : x.name ≠ "<init>") (hr : ∃ (cellB : Cell) (kB : Class), T.heap[a]? = some cellB ∧ cellB.vm.isStatics = false ∧ s.vm.classes[cellB.cls]? = some kB) (hlen : ∀ sig, parseMethodDescriptor x.desc = some sig → av.length = sig.parameters.length) (hstack : st0 = av.reverse ++ .ref a :: rest) (hdg : decode c.code pc = .ok (.invokespecial index, 3)) :
    ∃ (mk : MethodId) (vm₁ : Vm), s.methodNamed? ⟨owner, x.name, x.desc⟩ = some mk ∧ Stand p l e R s m args below meth c (T.setVm vm₁) locs cells slots ∧ ∀ target, Steps p.tables e below (doInvoke e ((T.setVm vm₁).setTop { F0 m pc ls st0 with stack := rest }) [] mk (Value.ref a :: av).toArray).1 target → Steps p.tables e below (T.setTop (F0 m pc ls st0)) target := by
  obtain ⟨cellB, kB, hcell, hobj, hkB⟩ := hr
  obtain ⟨mk, methM, hnamed, hmethM, hstM, habM⟩ := Cond.instanceMethod_spec hinst
  obtain ⟨r0, r, hn, hrm, -, hsigR⟩ := hd0
  cases hnamed.symm.trans hn
  cases hmethM.symm.trans hrm
  obtain ⟨ps, dk, kp, hps, hdk, hkp, hsuper, -, -, hnid⟩ := Cond.superclass_spec hown hsup
  obtain ⟨po, dk2, ko, hpo, hdk2, hko, hsuper2, -, -, -⟩ := Cond.superclass_spec hps hsup2
  have hpm : po = mk.cls := Option.some.inj (hpo.symm.trans (findClass_of_methodNamed hnamed))
  have hsz : ∃ n, s.vm.classes.size = n + 1 := ⟨s.vm.classes.size - 1, by have := (Array.getElem?_eq_some_iff.mp hdk).1; omega⟩
  obtain ⟨n, hsz⟩ := hsz
  have hsub : s.vm.isSubclass ps mk.cls = true := by
    rw [← hpm]
    simp [Vm.isSubclass, hsz, Vm.isSubclassAux, hdk2, hsuper2]
  obtain ⟨vm₁, X₁, hstep₁⟩ := X.invokespecialUp hexec hown hlink hsame hnamed hmethM hstM habM hno hdk hnid hps hsuper hsub (a := a) (cell := cellB) hcell
    (fun z h => by rw [h] at hobj; cases hobj) hkB (g := F0 m pc ls st0) rfl (argsL := av) (rest := rest) (hlen _ hsigR) hstack hdg
  exact ⟨mk, vm₁, hnamed, X₁, hstep₁⟩
/-- the first step of super.y() where y is the default method of an interface of the superclass -/
theorem step_SD {T : State} {index a : Nat} {x y : MethodName} {av st0 : List Value} (X : Stand p l e R s m args below meth c T locs cells slots) (hexec : p.tables.exec = Jvm.exec) (hown : s.vm.findClass own = some m.cls) (hlink : (Cond.methodLink own index x).before args s = true) (hsame : (Cond.sameMethod x.cls y.cls x.name x.desc).before args s = true) (hsup : (Cond.superclass own x.cls).before args s = true) (hxy : y.name = x.name ∧ y.desc = x.desc)
    (hsel : (Cond.landsInDefault x.cls x y).before args s = true) (hinst : (Cond.instanceMethod y).before args s = true) (hd0 : va_Decl s y) (hno : x.name ≠ "<init>") (hr : ∃ (cellB : Cell) (kB : Class), T.heap[a]? = some cellB ∧ cellB.vm.isStatics = false ∧ s.vm.classes[cellB.cls]? = some kB) (hlen : ∀ sig, parseMethodDescriptor x.desc = some sig → av.length = sig.parameters.length) (hstack : st0 = av.reverse ++ .ref a :: rest) (hdg : decode c.code pc = .ok (.invokespecial index, 3)) :
    ∃ (mk : MethodId) (vm₁ : Vm), s.methodNamed? y = some mk ∧ Stand p l e R s m args below meth c (T.setVm vm₁) locs cells slots ∧ ∀ target, Steps p.tables e below (doInvoke e ((T.setVm vm₁).setTop { F0 m pc ls st0 with stack := rest }) [] mk (Value.ref a :: av).toArray).1 target → Steps p.tables e below (T.setTop (F0 m pc ls st0)) target := by
  obtain ⟨cellB, kB, hcell, hobj, hkB⟩ := hr
  obtain ⟨mk, methM, hnamed, hmethM, hstM, habM⟩ := Cond.instanceMethod_spec hinst
  obtain ⟨r0, r, hn, hrm, -, hsigR⟩ := hd0
  cases hnamed.symm.trans hn
  cases hmethM.symm.trans hrm
  obtain ⟨ps, dk, kp, hps, hdk, hkp, hsuper, -, -, hnid⟩ := Cond.superclass_spec hown hsup
  have hpl : e.platform.magicAccessors = ({} : Platform).magicAccessors := by rw [X.admits.platform]
  obtain ⟨cn, ck, r1, hcn, hck, hni, hf, hn1⟩ := Cond.sameMethod_found hsame
  have hyn : (⟨y.cls, x.name, x.desc⟩ : MethodName) = y := by rw [← hxy.1, ← hxy.2]
  rw [hyn] at hn1
  cases hn.symm.trans hn1
  cases hps.symm.trans hcn
  obtain ⟨ci, hl, hright⟩ := Cond.methodLink_specUp hown hps hck hni hf hlink e.platform hpl (by rw [X.admits.platform])
  obtain ⟨kr, hkr, -⟩ := className_of_methodNamed hnamed
  obtain ⟨hrn, hrd⟩ := name_of_methodNamed hnamed hmethM
  rw [hxy.1] at hrn
  rw [hxy.2] at hrd hsigR
  obtain ⟨dk₀, cfile, nt, _, _, ck₀, _, _, hd₀, hcf, hcp, -, -, -, hc₀, -, hpoly, -⟩ := hl.here
  cases hdk.symm.trans hd₀
  cases hck.symm.trans hc₀
  have hup : s.vm.lookupUp ps x.name x.desc = some mk := ((State.methodFound?_class hps hck hni hpoly mk).mp hf).1
  have hfound0 : lookupSpecial s.vm ps x.name x.desc = .method mk := special_default hsel hps hck hni hf hnamed hxy hmethM hstM hup
  obtain ⟨vm', hW', st⟩ := Steps.invokeSuperColdArgs (tb := p.tables) (e := e) (s₀ := s) (U := T) (f := F0 m pc ls st0) (args := av) (rest := rest) (a := a) (cell := cellB) (m := mk) X.here hexec hdg X.warmed hl hright hdk hcf hcp hmethM hck
    (by rw [hrn]; simp [hno]) hstM (by rw [hrn, hrd, hsuper]; simpa using hfound0) hnid hkr habM (hlen _ hsigR) hstack hcell (fun z h => by rw [h] at hobj; cases hobj) hkB
  exact ⟨mk, vm', hnamed, X.noted hW', st⟩
/-- a word of the start that names a default method -/
theorem dw_use {w : Cond} (hT : TWs s) (h : w ∈ defaultWords_1) : w.before args s = true := va_Nw.use (List.all_eq_true.mp (by decide +kernel : defaultWords_1.all (fun w => w.onTables) = true) w h) (hT.2.2.2.2.2.2.1 w h)
theorem dl_use {C : String} (hT : TWs s) (h : C ∈ DWl) : (Cond.landsInDefault C nShut fShut).before args s = true := va_Ld.moved (Vm.Alike.refl _) (hT.2.2.2.2.2.2.2.1 C h)
/-- what the pool names through another class is what is selected -/
theorem sel_mv {C : String} {x x' y : MethodName} (h : s.methodFound? x'.cls x'.name x'.desc = s.methodFound? x.cls x.name x.desc) (hs : (Cond.selects C x y).before args s = true) : (Cond.selects C x' y).before args s = true := by
  simp only [Cond.before, Cond.holds, Cond.value] at hs ⊢
  rw [h]
  exact hs
/-- Name.fits is Fits.fits, Name.isShut is Fits.isShut -/
theorem sel_nm {C : String} {nm ds : String} {y : MethodName} (hsame : (Cond.sameMethod "PerilSeat$Name" "PerilSeat$Fits" nm ds).before args s = true) (hs : (Cond.selects C ⟨"PerilSeat$Fits", nm, ds⟩ y).before args s = true) : (Cond.selects C ⟨"PerilSeat$Name", nm, ds⟩ y).before args s = true := by
  obtain ⟨cn, ck, r1, hcn, hck, hni, hf, hn1⟩ := Cond.sameMethod_found hsame
  refine sel_mv ?_ hs
  exact hf.trans (State.methodFound?_of_named hn1 ⟨by show "PerilSeat$Fits" ≠ _; decide, by show "PerilSeat$Fits" ≠ _; decide⟩).symm
end DEFLT
