/-! BASE: the classes whose objects the worlds hold; a method's standing facts (BX); functional forms (nm, gd, bd..) of what bytecode computes -/
set_option maxRecDepth 100000
abbrev cls : List vw_C := [(RX2, TX2, 38), (RX0, TX0, 23), (RX1, TX1, 5), (RX6, TX6, 1), (RX7, TX7, 1), (RX8, TX8, 1), (RX9, TX9, 1), (RX10, TX10, 1), (RX12, TX12, 2), (RX13, TX13, 2), (RX14, TX14, 2), (RX3, TX3, 8), (RX4, TX4, 7), (RJ2, TJ2, 4), (RJ3, TJ3, 4), (RJ16, TJ16, 6), (RJ17, TJ17, 8)]
/-- the array classes: int, boolean, byte, Object, State, int[] -/
abbrev tyL (cA : Nat → ClassId) : List (ClassId × FieldType) := [(cA 0, .int), (cA 1, .boolean), (cA 2, .byte), (cA 3, .object "java/lang/Object"), (cA 4, .object "PerilSeat$State"), (cA 5, .array .int)]
/-- what holds of a method's frame all through it -/
def BX (own : String) (cc : ByteArray) (nL : Nat) (rt : Option FieldType) (p : Program) (s : State) (m : MethodId) (args : Array Value) (meth : Method) (c : Code) : Prop :=
  p.tables.exec = Jvm.exec ∧ c.code = cc ∧ c.maxLocals = nL ∧ s.vm.findClass own = some m.cls ∧ (∀ w ∈ lw_all, w.before args s = true) ∧ meth.sig.returnType = rt ∧ meth.locks = false
/-- a method's frame with its tables of classes -/
def CX (own : String) (cc : ByteArray) (nL : Nat) (rt : Option FieldType) (D : va_G) (cA : Nat → ClassId) (A : Nat → Prop) (p : Program) (s : State) (m : MethodId) (args : Array Value) (meth : Method) (c : Code) : Prop :=
  BX own cc nL rt p s m args meth c ∧ va_K D cls (tyL cA) s ∧ ∀ q : Nat, s.heap.size ≤ q → A q
/-- a world of cells, what is outside unchanged -/
def WX (D : va_G) (A : Nat → Prop) (s : State) (ws : va_W) (H : Heap) (locs : List Loc) : Prop := va_P D cls ws H ∧ va_D A ws ∧ va_S A s.heap H locs
-- functional forms
abbrev GS : Type := Nat → Nat → Int32
def gu (G : GS) (j i : Nat) (v : Int32) : GS := fun a b => bif (Nat.beq a j && Nat.beq b i) then v else G a b
theorem gu_ap (G : GS) (j i : Nat) (v : Int32) (a b : Nat) : gu G j i v a b = if a = j ∧ b = i then v else G a b := by
  unfold gu
  by_cases h : a = j ∧ b = i
  · obtain ⟨rfl, rfl⟩ := h
    simp
  · rw [if_neg h]
    by_cases h1 : a = j
    · have h2 : ¬ b = i := fun e => h ⟨h1, e⟩
      have : Nat.beq b i = false := by cases hq : Nat.beq b i with
        | true => exact absurd (Nat.eq_of_beq_eq_true hq) h2
        | false => rfl
      simp [this]
    · have : Nat.beq a j = false := by cases hq : Nat.beq a j with
        | true => exact absurd (Nat.eq_of_beq_eq_true hq) h1
        | false => rfl
      simp [this]
def nm {α β : Type} (x : α) (f : α → Option β) : Option β := f x
def gd {β : Type} (c : Prop) [Decidable c] (k : Option β) : Option β := if c then k else none
abbrev inb (i : Int32) (n : Nat) : Prop := 0 ≤ i.toInt ∧ i.toInt < (n : Int)
abbrev zb (v : Int32) : Prop := v = 0 ∨ v = 1
def bd0 {β : Type} (x : Option Unit) (k : Option β) : Option β := match x with
  | some _ => k
  | none => none
def bd1 {α β : Type} (x : Option α) (f : α → Option β) : Option β := match x with
  | some a => f a
  | none => none
def bd2 {α1 α2 β : Type} (x : Option (α1 × α2)) (f : α1 → α2 → Option β) : Option β := match x with
  | some a => f a.1 a.2
  | none => none
def bd3 {α1 α2 α3 β : Type} (x : Option (α1 × α2 × α3)) (f : α1 → α2 → α3 → Option β) : Option β := match x with
  | some a => f a.1 a.2.1 a.2.2
  | none => none
def bd4 {α1 α2 α3 α4 β : Type} (x : Option (α1 × α2 × α3 × α4)) (f : α1 → α2 → α3 → α4 → Option β) : Option β := match x with
  | some a => f a.1 a.2.1 a.2.2.1 a.2.2.2
  | none => none
def bd5 {α1 α2 α3 α4 α5 β : Type} (x : Option (α1 × α2 × α3 × α4 × α5)) (f : α1 → α2 → α3 → α4 → α5 → Option β) : Option β := match x with
  | some a => f a.1 a.2.1 a.2.2.1 a.2.2.2.1 a.2.2.2.2
  | none => none
def bdR0 {ρ  β : Type} (x : Option (ρ ⊕ (Unit))) (g : ρ → Option β) (f : Option β) : Option β := match x with
  | some (.inl a) => g a
  | some (.inr _) => f 
  | none => none
def bdR1 {ρ α1 β : Type} (x : Option (ρ ⊕ (α1))) (g : ρ → Option β) (f : α1 → Option β) : Option β := match x with
  | some (.inl a) => g a
  | some (.inr a) => f a
  | none => none
def bdR2 {ρ α1 α2 β : Type} (x : Option (ρ ⊕ (α1 × α2))) (g : ρ → Option β) (f : α1 → α2 → Option β) : Option β := match x with
  | some (.inl a) => g a
  | some (.inr a) => f a.1 a.2
  | none => none
def bdR3 {ρ α1 α2 α3 β : Type} (x : Option (ρ ⊕ (α1 × α2 × α3))) (g : ρ → Option β) (f : α1 → α2 → α3 → Option β) : Option β := match x with
  | some (.inl a) => g a
  | some (.inr a) => f a.1 a.2.1 a.2.2
  | none => none
def bdR4 {ρ α1 α2 α3 α4 β : Type} (x : Option (ρ ⊕ (α1 × α2 × α3 × α4))) (g : ρ → Option β) (f : α1 → α2 → α3 → α4 → Option β) : Option β := match x with
  | some (.inl a) => g a
  | some (.inr a) => f a.1 a.2.1 a.2.2.1 a.2.2.2
  | none => none
theorem nm_s {α β : Type} {x : α} {f : α → Option β} {r : β} (h : nm x f = some r) : ∃ v, v = x ∧ f v = some r := ⟨x, rfl, h⟩
theorem gd_s {β : Type} {c : Prop} [Decidable c] {k : Option β} {r : β} (h : gd c k = some r) : c ∧ k = some r := by
  unfold gd at h
  split at h
  · exact ⟨by assumption, h⟩
  · cases h
theorem bd0_s {β : Type} {x : Option Unit} {k : Option β} {r : β} (h : bd0 x k = some r) : x = some () ∧ k = some r := by
  cases x with
  | none => cases h
  | some a => exact ⟨rfl, h⟩
theorem bd1_s {α β : Type} {x : Option α} {f : α → Option β} {r : β} (h : bd1 x f = some r) : ∃ a, x = some a ∧ f a = some r := by
  cases x with
  | none => cases h
  | some a => exact ⟨a, rfl, h⟩
theorem bd2_s {α1 α2 β : Type} {x : Option (α1 × α2)} {f : α1 → α2 → Option β} {r : β} (h : bd2 x f = some r) : ∃ a b, x = some (a, b) ∧ f a b = some r := by
  cases x with
  | none => cases h
  | some a => exact ⟨_, _, rfl, h⟩
theorem bd3_s {α1 α2 α3 β : Type} {x : Option (α1 × α2 × α3)} {f : α1 → α2 → α3 → Option β} {r : β} (h : bd3 x f = some r) : ∃ a b c, x = some (a, b, c) ∧ f a b c = some r := by
  cases x with
  | none => cases h
  | some a => exact ⟨_, _, _, rfl, h⟩
theorem bd4_s {α1 α2 α3 α4 β : Type} {x : Option (α1 × α2 × α3 × α4)} {f : α1 → α2 → α3 → α4 → Option β} {r : β} (h : bd4 x f = some r) : ∃ a b c d, x = some (a, b, c, d) ∧ f a b c d = some r := by
  cases x with
  | none => cases h
  | some a => exact ⟨_, _, _, _, rfl, h⟩
theorem bd5_s {α1 α2 α3 α4 α5 β : Type} {x : Option (α1 × α2 × α3 × α4 × α5)} {f : α1 → α2 → α3 → α4 → α5 → Option β} {r : β} (h : bd5 x f = some r) : ∃ a b c d e, x = some (a, b, c, d, e) ∧ f a b c d e = some r := by
  cases x with
  | none => cases h
  | some a => exact ⟨_, _, _, _, _, rfl, h⟩
theorem bdR0_s {ρ  β : Type} {x : Option (ρ ⊕ (Unit))} {g : ρ → Option β} {f : Option β} {r : β} (h : bdR0 x g f = some r) : ∃ z, x = some z ∧ (∀ a, z = .inl a → g a = some r) ∧ (z = .inr () → f  = some r) := by
  cases x with
  | none => cases h
  | some z =>
    refine ⟨z, rfl, fun a e => ?_, fun e => ?_⟩
    · subst e; exact h
    · subst e; exact h
theorem bdR1_s {ρ α1 β : Type} {x : Option (ρ ⊕ (α1))} {g : ρ → Option β} {f : α1 → Option β} {r : β} (h : bdR1 x g f = some r) : ∃ z, x = some z ∧ (∀ a, z = .inl a → g a = some r) ∧ (∀ a1, z = .inr a1 → f a1 = some r) := by
  cases x with
  | none => cases h
  | some z =>
    refine ⟨z, rfl, fun a e => ?_, fun a1 e => ?_⟩
    · subst e; exact h
    · subst e; exact h
theorem bdR2_s {ρ α1 α2 β : Type} {x : Option (ρ ⊕ (α1 × α2))} {g : ρ → Option β} {f : α1 → α2 → Option β} {r : β} (h : bdR2 x g f = some r) : ∃ z, x = some z ∧ (∀ a, z = .inl a → g a = some r) ∧ (∀ a1 a2, z = .inr (a1, a2) → f a1 a2 = some r) := by
  cases x with
  | none => cases h
  | some z =>
    refine ⟨z, rfl, fun a e => ?_, fun a1 a2 e => ?_⟩
    · subst e; exact h
    · subst e; exact h
theorem bdR3_s {ρ α1 α2 α3 β : Type} {x : Option (ρ ⊕ (α1 × α2 × α3))} {g : ρ → Option β} {f : α1 → α2 → α3 → Option β} {r : β} (h : bdR3 x g f = some r) : ∃ z, x = some z ∧ (∀ a, z = .inl a → g a = some r) ∧ (∀ a1 a2 a3, z = .inr (a1, a2, a3) → f a1 a2 a3 = some r) := by
  cases x with
  | none => cases h
  | some z =>
    refine ⟨z, rfl, fun a e => ?_, fun a1 a2 a3 e => ?_⟩
    · subst e; exact h
    · subst e; exact h
theorem bdR4_s {ρ α1 α2 α3 α4 β : Type} {x : Option (ρ ⊕ (α1 × α2 × α3 × α4))} {g : ρ → Option β} {f : α1 → α2 → α3 → α4 → Option β} {r : β} (h : bdR4 x g f = some r) : ∃ z, x = some z ∧ (∀ a, z = .inl a → g a = some r) ∧ (∀ a1 a2 a3 a4, z = .inr (a1, a2, a3, a4) → f a1 a2 a3 a4 = some r) := by
  cases x with
  | none => cases h
  | some z =>
    refine ⟨z, rfl, fun a e => ?_, fun a1 a2 a3 a4 e => ?_⟩
    · subst e; exact h
    · subst e; exact h
theorem inb_in {i : Int32} {n : Nat} (h : inb i n) : vp_in i n := vp_in_iff.mpr h
theorem lv_topE {p : Program} {l : Launch} {e : Env} {R : Room} {s : State} {m : MethodId} {args : Array Value} {below : List Frame} {meth : Method} {c : Code} {H : Heap} {locs : List Loc} {cells slots : Nat} {Q : State → Prop} {pc : Nat} {ls : Array Slot} {rest : List Value} {x y : Int32} (h : y = x) (k : W p l e R s m args below meth c H locs cells slots Q (F0 m pc ls (.int y :: rest))) : W p l e R s m args below meth c H locs cells slots Q (F0 m pc ls (.int x :: rest)) := by
  subst h; exact k
theorem lv_topEl {p : Program} {l : Launch} {e : Env} {R : Room} {s : State} {m : MethodId} {args : Array Value} {below : List Frame} {meth : Method} {c : Code} {H : Heap} {locs : List Loc} {cells slots : Nat} {Q : State → Prop} {pc : Nat} {ls : Array Slot} {rest : List Value} {x y : Int64} (h : y = x) (k : W p l e R s m args below meth c H locs cells slots Q (F0 m pc ls (.long y :: rest))) : W p l e R s m args below meth c H locs cells slots Q (F0 m pc ls (.long x :: rest)) := by
  subst h; exact k
theorem sw_0 (x : Int32) (lo : Int) : x.toInt < lo ∨ lo ≤ x.toInt := by omega
theorem sw_s {x k : Int32} {lo a b : Int} (hk : k.toInt = a) (hb : b = a + 1) (c : ¬ x = k) (h : x.toInt < lo ∨ a ≤ x.toInt) : x.toInt < lo ∨ b ≤ x.toInt := by
  rcases h with h | h
  · exact Or.inl h
  · have : x.toInt ≠ a := fun e => c (Int32.toInt_inj.mp (by rw [hk]; exact e))
    omega
theorem sw_z {x : Int32} {lo a hi : Int} (h : x.toInt < lo ∨ a ≤ x.toInt) (e : a = hi + 1) : x.toInt < lo ∨ hi < x.toInt := by omega
/-- the room of a method with d levels of calls below it -/
abbrev mR (d : Nat) : Room := { frames := d, cells := 0, slots := 0, locals := 40 * d }
/-! static methods of numbers alone -/
def sMet (l : Launch) (y : MethodName) (cc : ByteArray) (nL : Nat) (rt : Option FieldType) (rm : Room) (av : List Value) (o : Option Value) : Prop :=
  Met l y (ws_ y cc nL rt) rm (va_Pc av (fun _ => True)) (fun _ st oc t => oc = .returned o ∧ va_F (fun _ => False) st t) 0 0 (fun _ => False)
section BASE
variable {p : Program} {l : Launch} {e : Env} {R : Room} {s : State} {m : MethodId} {args : Array Value} {below : List Frame} {meth : Method} {c : Code} {H : Heap} {locs : List Loc} {cells slots : Nat} {Q : State → Prop}
variable {own : String} {cc : ByteArray} {nL : Nat} {rt : Option FieldType} {pc : Nat} {ls : Array Slot} {rest : List Value}
theorem sMet_of {y : MethodName} {rm : Room} {av : List Value} {o : Option Value} (hy : plainName y.cls = true) (hlen : (lg_sl av).length ≤ nL)
    (body : ∀ {p : Program} {e : Env} {s : State} {m : MethodId} {args : Array Value} {below : List Frame} {meth : Method} {c : Code} {ls : Array Slot}, BX y.cls cc nL rt p s m args meth c → va_S (fun _ => False) s.heap s.heap [] → lv_has ls nL (lv_args 0 av) →
      W p l e rm s m args below meth c s.heap [] 0 0 (MQ below (fun _ st oc t => oc = .returned o ∧ va_F (fun _ => False) st t) args s 0 0 (fun _ => False)) (F0 m 0 ls [])) : sMet l y cc nL rt rm av o := by
  refine Met.ofW (cc := cc) (maxL := nL) (ret := rt) hy rfl ?_
  intro p e s m args below meth c s₁ B hml hv
  obtain ⟨rfl, -⟩ := hv
  have hts := atoms_spec (ws := ws_ y cc nL rt) B.pre
  rw [lg_entry_eq]
  exact body ⟨B.exec, B.bytes, hml, findClass_of_methodNamed B.named, fun w h => hts w (List.mem_cons_of_mem _ h), B.returns, B.notSynchronized⟩ va_S.rf (lv_entry av hlen)
/-- a static call that leaves the heap as it is -/
theorem s_call {y : MethodName} {cc' : ByteArray} {nL' : Nat} {rt' : Option FieldType} {rm : Room} {av : List Value} {o : Option Value} {index : Nat} {A : Nat → Prop} {st0 : List Value} (n : Nat) (B : BX own cc nL rt p s m args meth c) (hS : va_S A s.heap H locs) (hM : sMet l y cc' nL' rt' rm av o)
    (hG : GoodIn lw_all (va_wsS own index y (ws_ y cc' nL' rt'))) (hd : y.cls ≠ "java/lang/invoke/MethodHandle" ∧ y.cls ≠ "java/lang/invoke/VarHandle" ∧ (parseMethodDescriptor y.desc).map (fun d => d.parameters.length) = some n)
    (hrm : rm.cells = 0 ∧ rm.slots = 0 ∧ rm.frames + 1 ≤ R.frames ∧ 8 + (nL' + 11) + rm.locals ≤ R.locals) (hn : av.length = n) (hl : ls.size = nL) (hstack : st0 = av.reverse ++ rest) (hW : (rest.map fun v => v.category).sum ≤ 8) (hc : cells ≤ R.cells ∧ slots ≤ R.slots) (hdg : decode cc pc = .ok (.invokestatic index, 3))
    (kk : ∀ (H1 : Heap) (locs1 : List Loc), H.size ≤ H1.size → (∀ q : Nat, q < H.size → H1[q]? = H[q]?) → va_S A s.heap H1 locs1 → W p l e R s m args below meth c H1 locs1 cells slots Q (F0 m (pc + 3) ls (o.toList ++ rest))) : W p l e R s m args below meth c H locs cells slots Q (F0 m pc ls st0) := by
  obtain ⟨hx, hb, hml, hown, hts, -, -⟩ := B
  have hr := va_runS (l := l) (e := e) (R := R) (below := below) (meth := meth) (H := H) (locs := locs) (cells := cells) (slots := slots) (mc := 0) (ms := 0) (g := F0 m pc ls st0) (rest := rest) (As := av) (Ts := lw_all) (cc := cc) (nL := nL) ⟨hx, hb, hml, hown, hts⟩ hM
    (va_cwS n hts hG rfl hrm.1 hrm.2.1 hd ⟨hrm.2.2.1, hrm.2.2.2⟩) ⟨fun a U g mk q => ⟨q.1, trivial⟩, fun U _ _ => ⟨rfl, trivial⟩⟩ rfl hn hl hstack (lv_room hW) hdg hc
  intro T hT X
  obtain ⟨v, st₀, t, T', L, h0, X', hL, e1, e2, ⟨hv, hz, hk⟩, st⟩ := hr T hT X
  cases hv
  rw [h0] at hz hk
  obtain ⟨t2, a1, b1⟩ := kk T'.heap (locs ++ L) (by rw [e1]; exact hz) (fun q h1 => by rw [e1]; exact hk q h1 (fun z => z))
    ⟨Nat.le_trans hS.1 (by rw [e1]; exact hz), fun q h1 h2 => by rw [e1, hk q (Nat.lt_of_lt_of_le h1 hS.1) (fun z => z)]; exact hS.2.1 q h1 h2, fun q hq => by
      rcases List.mem_append.mp hq with h | h
      · exact hS.2.2 q h
      · exact (hL q h).elim⟩ T' rfl X'
  exact ⟨t2, st t2 a1, b1⟩
theorem s_iret {v : Int32} (B : BX own cc nL (some .int) p s m args meth c) (hS : va_S (fun _ => False) s.heap H locs) (hdg : decode cc pc = .ok (.ireturn, 1)) : W p l e R s m args below meth c H locs 0 0 (MQ below (fun _ st oc t => oc = .returned (some (.int v)) ∧ va_F (fun _ => False) st t) args s 0 0 (fun _ => False)) (F0 m pc ls [.int v]) :=
  W.iret (v := v) B.1 B.2.1 B.2.2.2.2.2.1 (fun t ht _ => ⟨rfl, hS.F ht⟩) hS.2.2 hdg B.2.2.2.2.2.2
theorem s_zret {v : Int32} (B : BX own cc nL (some .boolean) p s m args meth c) (hS : va_S (fun _ => False) s.heap H locs) (hz : zb v) (hdg : decode cc pc = .ok (.ireturn, 1)) : W p l e R s m args below meth c H locs 0 0 (MQ below (fun _ st oc t => oc = .returned (some (.int v)) ∧ va_F (fun _ => False) st t) args s 0 0 (fun _ => False)) (F0 m pc ls [.int v]) :=
  W.zret (v := v) B.1 B.2.1 B.2.2.2.2.2.1 (by rcases hz with h | h <;> subst h <;> rfl) (fun t ht _ => ⟨rfl, hS.F ht⟩) hS.2.2 hdg B.2.2.2.2.2.2
theorem s_lret {v : Int64} (B : BX own cc nL (some .long) p s m args meth c) (hS : va_S (fun _ => False) s.heap H locs) (hdg : decode cc pc = .ok (.lreturn, 1)) : W p l e R s m args below meth c H locs 0 0 (MQ below (fun _ st oc t => oc = .returned (some (.long v)) ∧ va_F (fun _ => False) st t) args s 0 0 (fun _ => False)) (F0 m pc ls [.long v]) :=
  W.lret (v := v) B.1 B.2.1 B.2.2.2.2.2.1 (fun t ht _ => ⟨rfl, hS.F ht⟩) hS.2.2 hdg B.2.2.2.2.2.2
theorem s_callI {y : MethodName} {cc' : ByteArray} {nL' : Nat} {rt' : Option FieldType} {rm : Room} {av : List Value} {r : Int32} {index : Nat} {A : Nat → Prop} {st0 : List Value} (n : Nat) (B : BX own cc nL rt p s m args meth c) (hS : va_S A s.heap H locs) (hM : sMet l y cc' nL' rt' rm av (some (.int r)))
    (hG : GoodIn lw_all (va_wsS own index y (ws_ y cc' nL' rt'))) (hd : y.cls ≠ "java/lang/invoke/MethodHandle" ∧ y.cls ≠ "java/lang/invoke/VarHandle" ∧ (parseMethodDescriptor y.desc).map (fun d => d.parameters.length) = some n)
    (hrm : rm.cells = 0 ∧ rm.slots = 0 ∧ rm.frames + 1 ≤ R.frames ∧ 8 + (nL' + 11) + rm.locals ≤ R.locals) (hn : av.length = n) (hl : ls.size = nL) (hstack : st0 = av.reverse ++ rest) (hW : (rest.map fun v => v.category).sum ≤ 8) (hc : cells ≤ R.cells ∧ slots ≤ R.slots) (hdg : decode cc pc = .ok (.invokestatic index, 3))
    (kk : ∀ (H1 : Heap) (locs1 : List Loc), va_S A s.heap H1 locs1 → W p l e R s m args below meth c H1 locs1 cells slots Q (F0 m (pc + 3) ls (.int r :: rest))) : W p l e R s m args below meth c H locs cells slots Q (F0 m pc ls st0) :=
  s_call n B hS hM hG hd hrm hn hl hstack hW hc hdg (fun H1 locs1 _ _ hS => kk H1 locs1 hS)
/-- the same, in a method of a world -/
theorem w_callSI {y : MethodName} {cc' : ByteArray} {nL' : Nat} {rt' : Option FieldType} {rm : Room} {av : List Value} {r : Int32} {index : Nat} {A : Nat → Prop} {st0 : List Value} {D : va_G} {cA : Nat → ClassId} {ws : va_W} (n : Nat) (X : CX own cc nL rt D cA A p s m args meth c) (Y : WX D A s ws H locs) (hM : sMet l y cc' nL' rt' rm av (some (.int r)))
    (hG : GoodIn lw_all (va_wsS own index y (ws_ y cc' nL' rt'))) (hd : y.cls ≠ "java/lang/invoke/MethodHandle" ∧ y.cls ≠ "java/lang/invoke/VarHandle" ∧ (parseMethodDescriptor y.desc).map (fun d => d.parameters.length) = some n)
    (hrm : rm.cells = 0 ∧ rm.slots = 0 ∧ rm.frames + 1 ≤ R.frames ∧ 8 + (nL' + 11) + rm.locals ≤ R.locals) (hn : av.length = n) (hl : ls.size = nL) (hstack : st0 = av.reverse ++ rest) (hW : (rest.map fun v => v.category).sum ≤ 8) (hc : cells ≤ R.cells ∧ slots ≤ R.slots) (hdg : decode cc pc = .ok (.invokestatic index, 3))
    (kk : ∀ (H1 : Heap) (locs1 : List Loc), WX D A s ws H1 locs1 → W p l e R s m args below meth c H1 locs1 cells slots Q (F0 m (pc + 3) ls (.int r :: rest))) : W p l e R s m args below meth c H locs cells slots Q (F0 m pc ls st0) :=
  s_call n X.1 Y.2.2 hM hG hd hrm hn hl hstack hW hc hdg (fun H1 locs1 _ hk hS => kk H1 locs1 ⟨Y.1.kept (fun k q hq => hk q.1 (Y.1 k q hq).lt), Y.2.1, hS⟩)
end BASE
