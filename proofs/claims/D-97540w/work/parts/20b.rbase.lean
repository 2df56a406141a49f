/-! READ-ONLY CONTRACTS: methods that read some cells of a world and write none; calls through objects -/
set_option maxRecDepth 100000
def rMet (l : Launch) (y : MethodName) (cc : ByteArray) (nL : Nat) (rt : Option FieldType) (rm : Room) (av : List Value) (D : va_G) (cA : Nat → ClassId) (ws : va_W) (o : Option Value) : Prop :=
  Met l y (ws_ y cc nL rt) rm (va_Pc av (fun U => va_P D cls ws U.heap ∧ va_K D cls (tyL cA) U ∧ TWs U)) (fun _ st oc t => oc = .returned o ∧ va_F (fun _ => False) st t) 0 0 (fun _ => False)
/-- what a read-only method has at hand -/
def RX (own : String) (cc : ByteArray) (nL : Nat) (rt : Option FieldType) (D : va_G) (cA : Nat → ClassId) (p : Program) (s : State) (m : MethodId) (args : Array Value) (meth : Method) (c : Code) : Prop := BX own cc nL rt p s m args meth c ∧ va_K D cls (tyL cA) s ∧ TWs s
def RY (D : va_G) (s : State) (ws : va_W) (H : Heap) (locs : List Loc) : Prop := va_P D cls ws H ∧ va_S (fun _ => False) s.heap H locs
section RBASE
variable {p : Program} {l : Launch} {e : Env} {R : Room} {s : State} {m : MethodId} {args : Array Value} {below : List Frame} {meth : Method} {c : Code} {H : Heap} {locs : List Loc} {cells slots : Nat} {Q : State → Prop}
variable {own : String} {cc : ByteArray} {nL : Nat} {rt : Option FieldType} {pc : Nat} {ls : Array Slot} {rest : List Value} {D : va_G} {cA : Nat → ClassId} {ws : va_W}
theorem rMet_of {y : MethodName} {rm : Room} {av : List Value} {o : Option Value} (hy : plainName y.cls = true) (hlen : (lg_sl av).length ≤ nL)
    (body : ∀ {p : Program} {e : Env} {s : State} {m : MethodId} {args : Array Value} {below : List Frame} {meth : Method} {c : Code} {ls : Array Slot}, RX y.cls cc nL rt D cA p s m args meth c → RY D s ws s.heap [] → lv_has ls nL (lv_args 0 av) →
      W p l e rm s m args below meth c s.heap [] 0 0 (MQ below (fun _ st oc t => oc = .returned o ∧ va_F (fun _ => False) st t) args s 0 0 (fun _ => False)) (F0 m 0 ls [])) : rMet l y cc nL rt rm av D cA ws o := by
  refine Met.ofW (cc := cc) (maxL := nL) (ret := rt) hy rfl ?_
  intro p e s m args below meth c s₁ B hml hv
  obtain ⟨rfl, hP, hK, hT⟩ := hv
  have hts := atoms_spec (ws := ws_ y cc nL rt) B.pre
  rw [lg_entry_eq]
  exact body ⟨⟨B.exec, B.bytes, hml, findClass_of_methodNamed B.named, fun w h => hts w (List.mem_cons_of_mem _ h), B.returns, B.notSynchronized⟩, hK, hT⟩ ⟨hP, va_S.rf⟩ (lv_entry av hlen)
/-- behind a call that changes nothing -/
theorem r_tail {o : Option Value} {st0 : List Value} {A : Nat → Prop} (hr : va_Run p l e R s m args below meth c H locs cells slots 0 0 (F0 m pc ls st0) rest (fun st oc t => oc = .returned o ∧ va_F (fun _ => False) st t) (fun _ => False)) (hS : va_S A s.heap H locs)
    (kk : ∀ (H1 : Heap) (locs1 : List Loc), H.size ≤ H1.size → (∀ q : Nat, q < H.size → H1[q]? = H[q]?) → va_S A s.heap H1 locs1 → W p l e R s m args below meth c H1 locs1 cells slots Q (F0 m (pc + 3) ls (o.toList ++ rest))) : W p l e R s m args below meth c H locs cells slots Q (F0 m pc ls st0) := by
  intro T hT X
  obtain ⟨v, st₀, t, T', L, h0, X', hL, e1, e2, ⟨hv, hz, hk⟩, st⟩ := hr T hT X
  cases hv
  rw [h0] at hz hk
  obtain ⟨t2, a1, b1⟩ := kk T'.heap (locs ++ L) (by rw [e1]; exact hz) (fun q h1 => by rw [e1]; exact hk q h1 (fun z => z))
    ⟨Nat.le_trans hS.1 (by rw [e1]; exact hz), fun q h1 h2 => by rw [e1, hk q (Nat.lt_of_lt_of_le h1 hS.1) (fun z => z)]; exact hS.2.1 q h1 h2, fun q hq => by
      rcases List.mem_append.mp hq with h | h
      · exact hS.2.2 q h
      · exact (hL q h).elim⟩ T' rfl X'
  exact ⟨t2, st t2 a1, b1⟩
/-- the words of a call through an object whose class C is known: x is what the pool names, y what runs -/
theorem cu_of {C owner : String} {index : Nat} {x y : MethodName} {cc' : ByteArray} {nL' : Nat} {rt' : Option FieldType} {rm : Room} (n : Nat) (hts : ∀ w ∈ lw_all, w.before args s = true) (q1 : Cond.methodLink own index x ∈ lw_all) (q2 : Cond.sameMethod x.cls owner x.name x.desc ∈ lw_all) (hD : va_Decl s ⟨owner, x.name, x.desc⟩) (q3 : Cond.selects C x y ∈ lw_all) (q4 : Cond.instanceMethod y ∈ lw_all) (q5 : Cond.initialized y.cls ∈ lw_all) (q6 : Cond.code y cc' nL' rt' ∈ lw_all)
    (hd : owner ≠ "java/lang/invoke/MethodHandle" ∧ owner ≠ "java/lang/invoke/VarHandle" ∧ (parseMethodDescriptor x.desc).map (fun d => d.parameters.length) = some n) (hrm : rm.cells = 0 ∧ rm.slots = 0 ∧ rm.frames + 1 ≤ R.frames ∧ 8 + (nL' + 11) + rm.locals ≤ R.locals) : va_CU R s args own C owner index x y cc' nL' rt' (ws_ y cc' nL' rt') rm 0 0 n := by
  have hG := lw_meth q6
  refine ⟨⟨hrm.1, hrm.2.1, hrm.2.2.1, hrm.2.2.2, pay_in hts hG, List.mem_cons_self⟩, hts _ q6, hts _ q5, ⟨hd.1, hd.2.1⟩, fun sig h => ?_, hts _ q1, hts _ q2, hD, hts _ q3, hts _ q4⟩
  have h2 := hd.2.2
  rw [h] at h2
  exact (Option.some.inj h2).symm
/-- a call through the object at a (cell q0 of ws, of class number ci) of a read-only method, over the cells wc of ws -/
theorem r_callU {C owner : String} {index ci q0 a : Nat} {fs : List Value} {q : vw_C} {x y : MethodName} {cc' : ByteArray} {nL' : Nat} {rt' : Option FieldType} {rm : Room} {av : List Value} {o : Option Value} {st0 : List Value} {A : Nat → Prop} {wc : va_W} (n : Nat) (B : BX own cc nL rt p s m args meth c) (hK : va_K D cls (tyL cA) s) (hT : TWs s) (hP : va_P D cls ws H) (hS : va_S A s.heap H locs)
    (hM : rMet l y cc' nL' rt' rm (.ref a :: av) D cA wc o) (cw : va_CU R s args own C owner index x y cc' nL' rt' (ws_ y cc' nL' rt') rm 0 0 n) (hq : cls[ci]? = some q) (hC : q.1 = C) (he : ws[q0]? = some (a, .inr (ci, fs))) (hsub : ∀ (k : Nat) (z : Nat × va_E), wc[k]? = some z → ∃ j : Nat, ws[j]? = some z)
    (hn : av.length = n) (hl : ls.size = nL) (hstack : st0 = av.reverse ++ .ref a :: rest) (hW : (rest.map fun v => v.category).sum ≤ 8) (hc : cells ≤ R.cells ∧ slots ≤ R.slots) (hdg : decode cc pc = .ok (.invokevirtual index, 3))
    (kk : ∀ (H1 : Heap) (locs1 : List Loc), H.size ≤ H1.size → (∀ q : Nat, q < H.size → H1[q]? = H[q]?) → va_S A s.heap H1 locs1 → W p l e R s m args below meth c H1 locs1 cells slots Q (F0 m (pc + 3) ls (o.toList ++ rest))) : W p l e R s m args below meth c H locs cells slots Q (F0 m pc ls st0) := by
  obtain ⟨hx, hb, hml, hown, hts, -, -⟩ := B
  have hPc : va_P D cls wc H := fun k z hz => by
    obtain ⟨j, hj⟩ := hsub k z hz
    exact hP j z hj
  refine r_tail (va_runU (l := l) (e := e) (R := R) (below := below) (meth := meth) (H := H) (locs := locs) (cells := cells) (slots := slots) (mc := 0) (ms := 0) (g := F0 m pc ls st0) (rest := rest) (As := av) (Ts := lw_all) (cc := cc) (nL := nL) ⟨hx, hb, hml, hown, hts⟩ hM cw
    ⟨fun a U g mk q => ⟨q.1, q.2.1, va_K.moved (u := U) (U := U.calling g mk a) (Vm.Alike.refl U.vm) q.2.2.1, q.2.2.2.same (u := U) rfl⟩, by rw [← hC]; exact va_recv hK hP hq he, fun U hU hW => ⟨rfl, by rw [hU]; exact hPc, va_K.moved hW.alike hK, hT.warm hW⟩⟩ rfl hn hl hstack (lv_room hW) hdg hc) hS kk
/-- super.y(..) on the own object, read-only -/
theorem r_callSU {C : String} {index ci q0 a : Nat} {fs : List Value} {q : vw_C} {y : MethodName} {cc' : ByteArray} {nL' : Nat} {rt' : Option FieldType} {rm : Room} {av : List Value} {o : Option Value} {st0 : List Value} {A : Nat → Prop} {wc : va_W} (n : Nat) (B : BX own cc nL rt p s m args meth c) (hK : va_K D cls (tyL cA) s) (hT : TWs s) (hP : va_P D cls ws H) (hS : va_S A s.heap H locs)
    (hM : rMet l y cc' nL' rt' rm (.ref a :: av) D cA wc o) (q1 : Cond.methodLink own index y ∈ lw_all) (q2 : Cond.sameMethod y.cls y.cls y.name y.desc ∈ lw_all) (q3 : Cond.superclass own y.cls ∈ lw_all) (q4 : Cond.instanceMethod y ∈ lw_all) (q5 : Cond.initialized y.cls ∈ lw_all) (q6 : Cond.code y cc' nL' rt' ∈ lw_all)
    (hd : y.name ≠ "<init>" ∧ (parseMethodDescriptor y.desc).map (fun d => d.parameters.length) = some n) (hrm : rm.cells = 0 ∧ rm.slots = 0 ∧ rm.frames + 1 ≤ R.frames ∧ 8 + (nL' + 11) + rm.locals ≤ R.locals) (hq : cls[ci]? = some q) (hC : q.1 = C) (he : ws[q0]? = some (a, .inr (ci, fs))) (hsub : ∀ (k : Nat) (z : Nat × va_E), wc[k]? = some z → ∃ j : Nat, ws[j]? = some z)
    (hn : av.length = n) (hl : ls.size = nL) (hstack : st0 = av.reverse ++ .ref a :: rest) (hW : (rest.map fun v => v.category).sum ≤ 8) (hc : cells ≤ R.cells ∧ slots ≤ R.slots) (hdg : decode cc pc = .ok (.invokespecial index, 3))
    (kk : ∀ (H1 : Heap) (locs1 : List Loc), H.size ≤ H1.size → (∀ q : Nat, q < H.size → H1[q]? = H[q]?) → va_S A s.heap H1 locs1 → W p l e R s m args below meth c H1 locs1 cells slots Q (F0 m (pc + 3) ls (o.toList ++ rest))) : W p l e R s m args below meth c H locs cells slots Q (F0 m pc ls st0) := by
  obtain ⟨hx, hb, hml, hown, hts, -, -⟩ := B
  have hPc : va_P D cls wc H := fun k z hz => by
    obtain ⟨j, hj⟩ := hsub k z hz
    exact hP j z hj
  have hG : GoodIn lw_all (va_wsSU own index y (ws_ y cc' nL' rt')) := by
    refine lw_app ?_ (lw_meth q6)
    intro w hw
    simp only [List.mem_cons, List.not_mem_nil, or_false] at hw
    rcases hw with e | e | e | e | e
    · rw [e]; exact q1
    · rw [e]; exact q2
    · rw [e]; exact q3
    · rw [e]; exact q4
    · rw [e]; exact q5
  have hat := (hK.1 ci q hq).2
  rw [hC] at hat
  refine r_tail (va_runSU (l := l) (e := e) (R := R) (below := below) (meth := meth) (H := H) (locs := locs) (cells := cells) (slots := slots) (mc := 0) (ms := 0) (g := F0 m pc ls st0) (rest := rest) (As := av) (Ts := lw_all) (cc := cc) (nL := nL) (C := C) hat ⟨hx, hb, hml, hown, hts⟩ hM (va_cwSU n hts hG rfl hrm.1 hrm.2.1 hd ⟨hrm.2.2.1, hrm.2.2.2⟩)
    ⟨fun a U g mk q => ⟨q.1, q.2.1, va_K.moved (u := U) (U := U.calling g mk a) (Vm.Alike.refl U.vm) q.2.2.1, q.2.2.2.same (u := U) rfl⟩, by rw [← hC]; exact va_recv hK hP hq he, fun U hU hW => ⟨rfl, by rw [hU]; exact hPc, va_K.moved hW.alike hK, hT.warm hW⟩⟩ rfl hn hl hstack (lv_room hW) hdg hc) hS kk
theorem RY.kept (Y : RY D s ws H locs) {H1 : Heap} {locs1 : List Loc} (hk : ∀ q : Nat, q < H.size → H1[q]? = H[q]?) (hS : va_S (fun _ => False) s.heap H1 locs1) : RY D s ws H1 locs1 := ⟨Y.1.kept (fun k q hq => hk q.1 (Y.1 k q hq).lt), hS⟩
theorem r_aret {a : Nat} {ty : FieldType} (B : BX own cc nL (some ty) p s m args meth c) (hS : va_S (fun _ => False) s.heap H locs) (hty : (∃ n, ty = .object n) ∨ ∃ t, ty = .array t) (hdg : decode cc pc = .ok (.areturn, 1)) : W p l e R s m args below meth c H locs 0 0 (MQ below (fun _ st oc t => oc = .returned (some (.ref a)) ∧ va_F (fun _ => False) st t) args s 0 0 (fun _ => False)) (F0 m pc ls [.ref a]) :=
  W.aret (v := .ref a) B.1 B.2.1 B.2.2.2.2.2.1 hty (Or.inr ⟨a, rfl⟩) (fun t ht _ => ⟨rfl, hS.F ht⟩) hS.2.2 hdg B.2.2.2.2.2.2
end RBASE
