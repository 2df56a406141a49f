/-! THE COMPONENT'S WORLD: fixed cells by a picture G, arrays of references and a pool of made objects by Z; table words that don't ride in the lists (TWs) -/
set_option maxRecDepth 100000
def NWc : List (String × String) := [("java/lang/CharacterDataLatin1", "java/lang/Object"), ("java/lang/RuntimeException", "java/lang/Throwable"), ("java/lang/ClassCastException", "java/lang/ClassCastException"), ("java/lang/ClassCastException", "java/lang/Object"), ("java/lang/NullPointerException", "java/lang/NullPointerException"), ("java/lang/NullPointerException", "java/lang/Object"), ("java/lang/StringBuilde\x72", "java/lang/Object"), ("java/lang/String", "java/lang/Object"), ("java/lang/Throwable", "java/lang/Object"), ("PerilSeat", "java/lang/Object"), ("PerilSeat$State", "java/lang/Object"), ("PerilSeat$Mourning", "PerilSeat$Name"), ("PerilSeat$Mourning", "java/lang/Object"), ("PerilSeat$Knight", "PerilSeat$One"), ("PerilSeat$Knight", "java/lang/Object"), ("PerilSeat$Squire", "PerilSeat$One"), ("PerilSeat$Squire", "java/lang/Object"), ("PerilSeat$King", "PerilSeat$One"), ("PerilSeat$King", "PerilSeat$Knight"), ("PerilSeat$King", "java/lang/Object"), ("PerilSeatModel", "java/lang/Object"), ("PerilSeat$Reade\x72", "java/lang/Object"), ("PerilSeat$Fault", "PerilSeat$Fault"), ("PerilSeat$Fault", "java/lang/Object"), ("PerilSeat$Open", "PerilSeat$Name"), ("PerilSeat$Open", "java/lang/Object"), ("PerilSeat$Gold", "PerilSeat$Name"), ("PerilSeat$Gold", "PerilSeat$Open"), ("PerilSeat$Gold", "java/lang/Object"), ("PerilSeat$Meek", "PerilSeat$Name"), ("PerilSeat$Meek", "PerilSeat$Open"), ("PerilSeat$Meek", "java/lang/Object"), ("PerilSeat$Kin", "PerilSeat$Name"), ("PerilSeat$Kin", "java/lang/Object"), ("[B", "java/lang/Cloneable"), ("[B", "java/lang/Object"), ("[I", "java/lang/Cloneable"), ("[I", "java/lang/Object"), ("[LPerilSeat$State;", "java/lang/Object"), ("[Ljava/lang/Object;", "java/lang/Object"), ("[Ljava/lang/String;", "java/lang/Object"), ("[Z", "java/lang/Object"), ("[[I", "java/lang/Object")]
def NWm : List (String × Nat × MethodName × String) := [("PerilSeat", 102, ⟨"PerilSeat$State", "<init>", "()V"⟩, "PerilSeat"), ("PerilSeat", 192, ⟨"PerilSeat$Reade\x72", "<init>", "(LPerilSeat;)V"⟩, "PerilSeat"), ("PerilSeat$Reade\x72", 44, ⟨"PerilSeat", "in", "(JJJ)Z"⟩, "PerilSeat")]
def NWf : List (String × Nat × String × String × String × String) := [("PerilSeat$Reade\x72", 21, "PerilSeat", "size", "I", "PerilSeat"), ("PerilSeat$Reade\x72", 28, "PerilSeat", "many", "I", "PerilSeat"), ("PerilSeat$Reade\x72", 58, "PerilSeat", "text", "[B", "PerilSeat"), ("PerilSeat$Reade\x72", 55, "PerilSeat", "letters", "I", "PerilSeat"), ("PerilSeat$Reade\x72", 116, "PerilSeat", "HEADS", "[Ljava/lang/String;", "PerilSeat")]
def NWd : List MethodName := [⟨"java/lang/Exception", "<init>", "()V"⟩, ⟨"java/lang/Exception", "<init>", "(Ljava/lang/String;)V"⟩, ⟨"java/lang/CharacterData", "digit", "(II)I"⟩, ⟨"java/lang/RuntimeException", "<init>", "()V"⟩, ⟨"java/lang/RuntimeException", "<init>", "(Ljava/lang/String;)V"⟩, ⟨"java/lang/Throwable", "<init>", "()V"⟩, ⟨"java/lang/Throwable", "<init>", "(Ljava/lang/String;)V"⟩, ⟨"java/lang/Throwable", "fillInStackTrace", "()Ljava/lang/Throwable;"⟩, ⟨"PerilSeat$One", "kind", "()I"⟩, ⟨"PerilSeat$One", "fitsOn", "(LPerilSeat$Name;I)Z"⟩, ⟨"PerilSeat$Fits", "fits", "(II)Z"⟩, ⟨"PerilSeat$Fits", "isShut", "()Z"⟩, ⟨"PerilSeat$Name", "kind", "()I"⟩]
theorem NWc_in : ∀ q ∈ NWc, Cond.castable q.1 q.2 ∈ lw_tbl := List.forall_mem_cons.mpr ⟨q1515, List.forall_mem_cons.mpr ⟨q1018, List.forall_mem_cons.mpr ⟨q839, List.forall_mem_cons.mpr ⟨q1524, List.forall_mem_cons.mpr ⟨q1016, List.forall_mem_cons.mpr ⟨q1525, List.forall_mem_cons.mpr ⟨q1512, List.forall_mem_cons.mpr ⟨q1513, List.forall_mem_cons.mpr ⟨q1526, List.forall_mem_cons.mpr ⟨q1508, List.forall_mem_cons.mpr ⟨q1509, List.forall_mem_cons.mpr ⟨q1503, List.forall_mem_cons.mpr ⟨q1520, List.forall_mem_cons.mpr ⟨q1498, List.forall_mem_cons.mpr ⟨q1521, List.forall_mem_cons.mpr ⟨q1499, List.forall_mem_cons.mpr ⟨q1522, List.forall_mem_cons.mpr ⟨q1497, List.forall_mem_cons.mpr ⟨q1505, List.forall_mem_cons.mpr ⟨q1523, List.forall_mem_cons.mpr ⟨q1510, List.forall_mem_cons.mpr ⟨q1511, List.forall_mem_cons.mpr ⟨q506, List.forall_mem_cons.mpr ⟨q1514, List.forall_mem_cons.mpr ⟨q1504, List.forall_mem_cons.mpr ⟨q1516, List.forall_mem_cons.mpr ⟨q1500, List.forall_mem_cons.mpr ⟨q1506, List.forall_mem_cons.mpr ⟨q1517, List.forall_mem_cons.mpr ⟨q1502, List.forall_mem_cons.mpr ⟨q1507, List.forall_mem_cons.mpr ⟨q1518, List.forall_mem_cons.mpr ⟨q1501, List.forall_mem_cons.mpr ⟨q1519, List.forall_mem_cons.mpr ⟨q368, List.forall_mem_cons.mpr ⟨q1531, List.forall_mem_cons.mpr ⟨q966, List.forall_mem_cons.mpr ⟨q1528, List.forall_mem_cons.mpr ⟨q1529, List.forall_mem_cons.mpr ⟨q1527, List.forall_mem_cons.mpr ⟨q1533, List.forall_mem_cons.mpr ⟨q1532, List.forall_mem_cons.mpr ⟨q1530, fun _ h => absurd h List.not_mem_nil⟩⟩⟩⟩⟩⟩⟩⟩⟩⟩⟩⟩⟩⟩⟩⟩⟩⟩⟩⟩⟩⟩⟩⟩⟩⟩⟩⟩⟩⟩⟩⟩⟩⟩⟩⟩⟩⟩⟩⟩⟩⟩⟩
theorem NWm_in : ∀ q ∈ NWm, Cond.methodLinkNest q.1 q.2.1 q.2.2.1 q.2.2.2 ∈ lw_tbl := List.forall_mem_cons.mpr ⟨q114, List.forall_mem_cons.mpr ⟨q249, List.forall_mem_cons.mpr ⟨q300, fun _ h => absurd h List.not_mem_nil⟩⟩⟩
theorem NWf_in : ∀ q ∈ NWf, Cond.fieldLinkNest q.1 q.2.1 q.2.2.1 q.2.2.2.1 q.2.2.2.2.1 q.2.2.2.2.2 ∈ lw_tbl := List.forall_mem_cons.mpr ⟨q156, List.forall_mem_cons.mpr ⟨q159, List.forall_mem_cons.mpr ⟨q171, List.forall_mem_cons.mpr ⟨q173, List.forall_mem_cons.mpr ⟨q490, fun _ h => absurd h List.not_mem_nil⟩⟩⟩⟩⟩
theorem NWd_in : ∀ q ∈ NWd, Cond.declares q ∈ lw_tbl := List.forall_mem_cons.mpr ⟨q507, List.forall_mem_cons.mpr ⟨q508, List.forall_mem_cons.mpr ⟨q635, List.forall_mem_cons.mpr ⟨q840, List.forall_mem_cons.mpr ⟨q841, List.forall_mem_cons.mpr ⟨q509, List.forall_mem_cons.mpr ⟨q510, List.forall_mem_cons.mpr ⟨q546, List.forall_mem_cons.mpr ⟨q799, List.forall_mem_cons.mpr ⟨q855, List.forall_mem_cons.mpr ⟨q858, List.forall_mem_cons.mpr ⟨q879, List.forall_mem_cons.mpr ⟨q767, fun _ h => absurd h List.not_mem_nil⟩⟩⟩⟩⟩⟩⟩⟩⟩⟩⟩⟩⟩
/-- words of the start that stand in what narrows it: default methods, and casts that fail -/
abbrev nShut : MethodName := ⟨"PerilSeat$Name", "isShut", "()Z"⟩
abbrev fShut : MethodName := ⟨"PerilSeat$Fits", "isShut", "()Z"⟩
def DWl : List String := ["PerilSeat$Name", "PerilSeat$Gold", "PerilSeat$Kin", "PerilSeat$Meek", "PerilSeat$Open"]
def DWn : List (String × String) := [("PerilSeat$Open", "PerilSeat$Gold"), ("PerilSeat$Open", "PerilSeat$Meek"), ("PerilSeat$Open", "PerilSeat$Kin"), ("PerilSeat$Open", "PerilSeat$Mourning"), ("PerilSeat$Gold", "PerilSeat$Meek"), ("PerilSeat$Gold", "PerilSeat$Kin"), ("PerilSeat$Gold", "PerilSeat$Mourning"), ("PerilSeat$Meek", "PerilSeat$Gold"), ("PerilSeat$Meek", "PerilSeat$Kin"), ("PerilSeat$Meek", "PerilSeat$Mourning"), ("PerilSeat$Kin", "PerilSeat$Open"), ("PerilSeat$Kin", "PerilSeat$Gold"), ("PerilSeat$Kin", "PerilSeat$Meek"), ("PerilSeat$Kin", "PerilSeat$Mourning"), ("PerilSeat$Mourning", "PerilSeat$Open"), ("PerilSeat$Mourning", "PerilSeat$Gold"), ("PerilSeat$Mourning", "PerilSeat$Meek"), ("PerilSeat$Mourning", "PerilSeat$Kin"), ("PerilSeat$Knight", "PerilSeat$Squire"), ("PerilSeat$Knight", "PerilSeat$King"), ("PerilSeat$Squire", "PerilSeat$Knight"), ("PerilSeat$Squire", "PerilSeat$King"), ("PerilSeat$King", "PerilSeat$Squire")]
def va_Ld (C : String) (U : State) : Prop := (Cond.landsInDefault C nShut fShut).before #[] U = true
theorem va_Ld.moved {C : String} {u U : State} {a a' : Array Value} (hvm : u.vm.Alike U.vm) (h : (Cond.landsInDefault C nShut fShut).before a u = true) : (Cond.landsInDefault C nShut fShut).before a' U = true := by
  have h1 : (Cond.landsInDefault C nShut fShut).before a' (u.setVm U.vm) = true := (Cond.landsInDefault_setVm hvm (State.methodFound?_setVm hvm _ _ _)).trans h
  exact h1
/-- rows of rows of ints -/
def va_RR (U : State) : Prop := ∃ (comp c : ClassId) (k : Class), U.vm.findClass "[I" = some comp ∧ U.vm.classes[c]? = some k ∧ k.kind = .array comp (.array .int) ∧ U.vm.findClass "[[I" = some c
theorem va_RR.of {U : State} {a : Array Value} (h : (Cond.arrayOver (.array .int)).before a U = true) : va_RR U := Cond.arrayOver_specA h
theorem va_RR.moved {u U : State} (hvm : u.vm.Alike U.vm) (h : va_RR u) : va_RR U := by
  obtain ⟨comp, c, k, h1, h2, h3, h4⟩ := h
  obtain ⟨k', hk', he⟩ := hvm.2.2 _ _ h2
  exact ⟨comp, c, k', by rw [hvm.findClass]; exact h1, hk', by rw [he]; exact h3, by rw [hvm.findClass]; exact h4⟩
theorem mods_moved {u U : State} (hvm : u.vm.Alike U.vm) (h : modulesRight_1 u = true) : modulesRight_1 U = true := by
  have e : U.vm.modules = u.vm.modules := by
    have h1 := congrArg Vm.modules hvm.bare_eq
    first | exact h1 | exact h1.symm
  unfold modulesRight_1 at h ⊢
  rw [e]
  exact h
def DWp (U : State) : Prop := (∀ w ∈ defaultWords_1, va_Nw w U) ∧ (∀ C ∈ DWl, va_Ld C U) ∧ (∀ q ∈ DWn, va_Nc q.1 q.2 U) ∧ va_RR U ∧ modulesRight_1 U = true
theorem DWp.of {U : State} {a : Array Value} (h : narrow_1.before a U = true) (h3 : (Cond.arrayOver (.array .int)).before a U = true) (h4 : modulesRight_1 U = true) : DWp U :=
  ⟨fun w hw => va_Nw.of (List.all_eq_true.mp (by decide +kernel : defaultWords_1.all (fun w => w.onTables) = true) w hw) (flat_of_before _ h _ (by revert w; decide +kernel)), fun C hC => va_Ld.moved (Vm.Alike.refl _) (flat_of_before _ h _ (by revert C; decide +kernel)), fun q hq => va_Nc.of (flat_of_before _ h _ (by revert q; decide +kernel)), va_RR.of h3, h4⟩
theorem DWp.warm {s U : State} (hW : s.WarmedH U.vm) (h : DWp s) : DWp U :=
  ⟨fun w hw => word_at hW (Or.inl (List.all_eq_true.mp (by decide +kernel : defaultWords_1.all (fun w => w.onTables && w.keeps) = true) w hw)) (h.1 w hw), fun C hC => va_Ld.moved hW.alike (h.2.1 C hC), fun q hq => (h.2.2.1 q hq).moved hW.alike, h.2.2.2.1.moved hW.alike, mods_moved hW.alike h.2.2.2.2⟩
theorem DWp.same {u U : State} (e : u.vm = U.vm) (h : DWp u) : DWp U :=
  ⟨fun w hw => va_Nw.same (List.all_eq_true.mp (by decide +kernel : defaultWords_1.all (fun w => w.onTables) = true) w hw) e (h.1 w hw), fun C hC => va_Ld.moved (by rw [e]; exact Vm.Alike.refl _) (h.2.1 C hC), fun q hq => (h.2.2.1 q hq).moved (by rw [e]; exact Vm.Alike.refl _), h.2.2.2.1.moved (by rw [e]; exact Vm.Alike.refl _), mods_moved (by rw [e]; exact Vm.Alike.refl _) h.2.2.2.2⟩
/-- the table words that a method carries from its start -/
def TWs (U : State) : Prop := (∀ q ∈ NWc, va_Nw (.castable q.1 q.2) U) ∧ (∀ q ∈ NWm, va_Nw (.methodLinkNest q.1 q.2.1 q.2.2.1 q.2.2.2) U) ∧ (∀ q ∈ NWf, va_Nw (.fieldLinkNest q.1 q.2.1 q.2.2.1 q.2.2.2.1 q.2.2.2.2.1 q.2.2.2.2.2) U) ∧ (∀ q ∈ NWd, va_Nw (.declares q) U) ∧ va_AO "java/lang/Object" U ∧ va_AO "PerilSeat$State" U ∧ DWp U
theorem TWs.of {U : State} {a : Array Value} (h : ∀ w ∈ lw_tbl, w.before a U = true) (h2 : DWp U) : TWs U :=
  ⟨fun q hq => va_Nw.of rfl (h _ (NWc_in q hq)), fun q hq => va_Nw.of rfl (h _ (NWm_in q hq)), fun q hq => va_Nw.of rfl (h _ (NWf_in q hq)), fun q hq => va_Nw.of rfl (h _ (NWd_in q hq)), va_AO.of (h _ q111), va_AO.of (h _ q140), h2⟩
theorem TWs.warm {s U : State} (hW : s.WarmedH U.vm) (h : TWs s) : TWs U :=
  ⟨fun q hq => va_Nw.warmC hW (h.1 q hq), fun q hq => va_Nw.warmM hW (h.2.1 q hq), fun q hq => va_Nw.warmF hW (h.2.2.1 q hq), fun q hq => va_Nw.warmD hW (h.2.2.2.1 q hq), va_AO.moved hW.alike h.2.2.2.2.1, va_AO.moved hW.alike h.2.2.2.2.2.1, h.2.2.2.2.2.2.warm hW⟩
theorem TWs.same {u U : State} (e : u.vm = U.vm) (h : TWs u) : TWs U :=
  ⟨fun q hq => va_Nw.same rfl e (h.1 q hq), fun q hq => va_Nw.same rfl e (h.2.1 q hq), fun q hq => va_Nw.same rfl e (h.2.2.1 q hq), fun q hq => va_Nw.same rfl e (h.2.2.2.1 q hq), va_AO.moved (by rw [e]; exact Vm.Alike.refl _) h.2.2.2.2.1, va_AO.moved (by rw [e]; exact Vm.Alike.refl _) h.2.2.2.2.2.1, h.2.2.2.2.2.2.same e⟩
/-- the static cells of the start that methods read: outside A -/
def EH (A : Nat → Prop) (U : State) : Prop := vx_Zq Bundle.tN "UNASSIGNED_STACK" Bundle.steD A U U.heap ∧ vx_Zq Bundle.tN "SUPPRESSED_SENTINEL" Bundle.listD A U U.heap
def EV (A : Nat → Prop) (U : State) : Prop := TWs U ∧ EH A U
theorem vx_Zq.call {C n d : String} {A A' : Nat → Prop} {s U : State} {H : Heap} {locs : List Loc} (h : vx_Zq C n d A s s.heap) (hS : va_S A s.heap H locs) (hA : ∀ q, A' q → A q) (hU : U.heap = H) (hW : s.WarmedH U.vm) : vx_Zq C n d A' U U.heap := by
  rw [hU]
  exact (vx_Zq.moved hW.alike (h.kept hS.2.1)).narrow hA
theorem vx_Zq.same {C n d : String} {A : Nat → Prop} {u U : State} (e : u.vm = U.vm) (e2 : u.heap = U.heap) (h : vx_Zq C n d A u u.heap) : vx_Zq C n d A U U.heap := by
  rw [← e2]
  exact vx_Zq.moved (by rw [e]; exact Vm.Alike.refl _) h
theorem EH.call {A A' : Nat → Prop} {s U : State} {H : Heap} {locs : List Loc} (h : EH A s) (hS : va_S A s.heap H locs) (hA : ∀ q, A' q → A q) (hU : U.heap = H) (hW : s.WarmedH U.vm) : EH A' U := ⟨h.1.call hS hA hU hW, h.2.call hS hA hU hW⟩
theorem EH.same {A : Nat → Prop} {u U : State} (e : u.vm = U.vm) (e2 : u.heap = U.heap) (h : EH A u) : EH A U := ⟨h.1.same e e2, h.2.same e e2⟩
theorem EV.call {A A' : Nat → Prop} {s U : State} {H : Heap} {locs : List Loc} (h : EV A s) (hS : va_S A s.heap H locs) (hA : ∀ q, A' q → A q) (hU : U.heap = H) (hW : s.WarmedH U.vm) : EV A' U := ⟨h.1.warm hW, h.2.call hS hA hU hW⟩
theorem EV.same {A : Nat → Prop} {u U : State} (e : u.vm = U.vm) (e2 : u.heap = U.heap) (h : EV A u) : EV A U := ⟨h.1.same e, h.2.same e e2⟩
abbrev ZT : Type := (Nat → Nat → Option Nat) × List Nat × (Nat → va_E)
abbrev cF (ad : Nat → Nat) (G : GS) : List Value := [.ref (ad 0), .int (G 0 1), .ref (ad 2), .int (G 0 3), .ref (ad 4), .int (G 0 5), .int (G 0 6), .int (G 0 7), .ref (ad 8), .ref (ad 9), .ref (ad 10), .int (G 0 11), .ref (ad 12), .int (G 0 13), .ref (ad 14), .int (G 0 15), .ref (ad 16), .ref (ad 17), .ref (ad 18), .int (G 0 19), .int (G 0 20), .int (G 0 21), .int (G 0 22)]
abbrev nF (ad : Nat → Nat) (G : GS) : List Value := [.ref (ad 20), .ref (ad 21), .ref (ad 22), .int (G 8 3), .int (G 8 4)]
abbrev oref (f : Nat → Option Nat) : (Nat → Int32) ⊕ (Nat → Int64) ⊕ (Nat → UInt32) ⊕ (Nat → UInt64) ⊕ (Nat → Option Nat) := .inr (.inr (.inr (.inr f)))
def cX0W (h : Nat) (ad : Nat → Nat) (cA : Nat → ClassId) (G : GS) (Z : ZT) : va_W := [(h, .inr (1, cF ad G)), (ad 0, .inl (cA 3, 8, oref (Z.1 0))), (ad 2, .inl (cA 3, 6, oref (Z.1 2))), (ad 4, .inl (cA 0, 6, .inl (G 4))), (ad 8, .inr (2, nF ad G)), (ad 20, .inl (cA 0, 6, .inl (G 20))), (ad 21, .inl (cA 0, 6, .inl (G 21))), (ad 22, .inl (cA 0, 8, .inl (G 22))), (ad 9, .inl (cA 4, 2, oref (Z.1 9))), (ad 10, .inl (cA 4, 8, oref (Z.1 10))), (ad 12, .inl (cA 5, 8, oref (Z.1 12))), (ad 14, .inl (cA 2, 160, .inl (G 14))), (ad 16, .inl (cA 0, 8, .inl (G 16))), (ad 17, .inl (cA 0, 6, .inl (G 17))), (ad 18, .inl (cA 0, 6, .inl (G 18)))]
def cW (h : Nat) (ad : Nat → Nat) (cA : Nat → ClassId) (G : GS) (Z : ZT) : va_W := cX0W h ad cA G Z ++ va_pl Z.2.1 Z.2.2
theorem cz0_1 (h : Nat) (ad : Nat → Nat) (cA : Nat → ClassId) (G : GS) (Z : ZT) (x : Int32) : (cW h ad cA G Z).set 0 (h, .inr (1, (cF ad G).set 1 (.int x))) = cW h ad cA (gu G 0 1 x) Z := rfl
theorem cz0_3 (h : Nat) (ad : Nat → Nat) (cA : Nat → ClassId) (G : GS) (Z : ZT) (x : Int32) : (cW h ad cA G Z).set 0 (h, .inr (1, (cF ad G).set 3 (.int x))) = cW h ad cA (gu G 0 3 x) Z := rfl
theorem cz0_5 (h : Nat) (ad : Nat → Nat) (cA : Nat → ClassId) (G : GS) (Z : ZT) (x : Int32) : (cW h ad cA G Z).set 0 (h, .inr (1, (cF ad G).set 5 (.int x))) = cW h ad cA (gu G 0 5 x) Z := rfl
theorem cz0_6 (h : Nat) (ad : Nat → Nat) (cA : Nat → ClassId) (G : GS) (Z : ZT) (x : Int32) : (cW h ad cA G Z).set 0 (h, .inr (1, (cF ad G).set 6 (.int x))) = cW h ad cA (gu G 0 6 x) Z := rfl
theorem cz0_7 (h : Nat) (ad : Nat → Nat) (cA : Nat → ClassId) (G : GS) (Z : ZT) (x : Int32) : (cW h ad cA G Z).set 0 (h, .inr (1, (cF ad G).set 7 (.int x))) = cW h ad cA (gu G 0 7 x) Z := rfl
theorem cz0_11 (h : Nat) (ad : Nat → Nat) (cA : Nat → ClassId) (G : GS) (Z : ZT) (x : Int32) : (cW h ad cA G Z).set 0 (h, .inr (1, (cF ad G).set 11 (.int x))) = cW h ad cA (gu G 0 11 x) Z := rfl
theorem cz0_13 (h : Nat) (ad : Nat → Nat) (cA : Nat → ClassId) (G : GS) (Z : ZT) (x : Int32) : (cW h ad cA G Z).set 0 (h, .inr (1, (cF ad G).set 13 (.int x))) = cW h ad cA (gu G 0 13 x) Z := rfl
theorem cz0_15 (h : Nat) (ad : Nat → Nat) (cA : Nat → ClassId) (G : GS) (Z : ZT) (x : Int32) : (cW h ad cA G Z).set 0 (h, .inr (1, (cF ad G).set 15 (.int x))) = cW h ad cA (gu G 0 15 x) Z := rfl
theorem cz0_19 (h : Nat) (ad : Nat → Nat) (cA : Nat → ClassId) (G : GS) (Z : ZT) (x : Int32) : (cW h ad cA G Z).set 0 (h, .inr (1, (cF ad G).set 19 (.int x))) = cW h ad cA (gu G 0 19 x) Z := rfl
theorem cz0_20 (h : Nat) (ad : Nat → Nat) (cA : Nat → ClassId) (G : GS) (Z : ZT) (x : Int32) : (cW h ad cA G Z).set 0 (h, .inr (1, (cF ad G).set 20 (.int x))) = cW h ad cA (gu G 0 20 x) Z := rfl
theorem cz0_21 (h : Nat) (ad : Nat → Nat) (cA : Nat → ClassId) (G : GS) (Z : ZT) (x : Int32) : (cW h ad cA G Z).set 0 (h, .inr (1, (cF ad G).set 21 (.int x))) = cW h ad cA (gu G 0 21 x) Z := rfl
theorem cz0_22 (h : Nat) (ad : Nat → Nat) (cA : Nat → ClassId) (G : GS) (Z : ZT) (x : Int32) : (cW h ad cA G Z).set 0 (h, .inr (1, (cF ad G).set 22 (.int x))) = cW h ad cA (gu G 0 22 x) Z := rfl
theorem cz8_3 (h : Nat) (ad : Nat → Nat) (cA : Nat → ClassId) (G : GS) (Z : ZT) (x : Int32) : (cW h ad cA G Z).set 4 (ad 8, .inr (2, (nF ad G).set 3 (.int x))) = cW h ad cA (gu G 8 3 x) Z := rfl
theorem cz8_4 (h : Nat) (ad : Nat → Nat) (cA : Nat → ClassId) (G : GS) (Z : ZT) (x : Int32) : (cW h ad cA G Z).set 4 (ad 8, .inr (2, (nF ad G).set 4 (.int x))) = cW h ad cA (gu G 8 4 x) Z := rfl
theorem gu_row (G : GS) (j i : Nat) (x : Int32) : gu G j i x j = upd (G j) i x := by
  funext b
  rw [gu_ap]
  unfold upd
  by_cases hb : b = i
  · simp [hb]
  · simp [hb]
theorem cz4 (h : Nat) (ad : Nat → Nat) (cA : Nat → ClassId) (G : GS) (Z : ZT) (i : Nat) (x : Int32) : (cW h ad cA G Z).set 3 (ad 4, .inl (cA 0, 6, .inl (upd (G 4) i x))) = cW h ad cA (gu G 4 i x) Z := by
  rw [← gu_row G 4 i x]
  rfl
theorem cz20 (h : Nat) (ad : Nat → Nat) (cA : Nat → ClassId) (G : GS) (Z : ZT) (i : Nat) (x : Int32) : (cW h ad cA G Z).set 5 (ad 20, .inl (cA 0, 6, .inl (upd (G 20) i x))) = cW h ad cA (gu G 20 i x) Z := by
  rw [← gu_row G 20 i x]
  rfl
theorem cz21 (h : Nat) (ad : Nat → Nat) (cA : Nat → ClassId) (G : GS) (Z : ZT) (i : Nat) (x : Int32) : (cW h ad cA G Z).set 6 (ad 21, .inl (cA 0, 6, .inl (upd (G 21) i x))) = cW h ad cA (gu G 21 i x) Z := by
  rw [← gu_row G 21 i x]
  rfl
theorem cz22 (h : Nat) (ad : Nat → Nat) (cA : Nat → ClassId) (G : GS) (Z : ZT) (i : Nat) (x : Int32) : (cW h ad cA G Z).set 7 (ad 22, .inl (cA 0, 8, .inl (upd (G 22) i x))) = cW h ad cA (gu G 22 i x) Z := by
  rw [← gu_row G 22 i x]
  rfl
theorem cz14 (h : Nat) (ad : Nat → Nat) (cA : Nat → ClassId) (G : GS) (Z : ZT) (i : Nat) (x : Int32) : (cW h ad cA G Z).set 11 (ad 14, .inl (cA 2, 160, .inl (upd (G 14) i x))) = cW h ad cA (gu G 14 i x) Z := by
  rw [← gu_row G 14 i x]
  rfl
theorem cz16 (h : Nat) (ad : Nat → Nat) (cA : Nat → ClassId) (G : GS) (Z : ZT) (i : Nat) (x : Int32) : (cW h ad cA G Z).set 12 (ad 16, .inl (cA 0, 8, .inl (upd (G 16) i x))) = cW h ad cA (gu G 16 i x) Z := by
  rw [← gu_row G 16 i x]
  rfl
theorem cz17 (h : Nat) (ad : Nat → Nat) (cA : Nat → ClassId) (G : GS) (Z : ZT) (i : Nat) (x : Int32) : (cW h ad cA G Z).set 13 (ad 17, .inl (cA 0, 6, .inl (upd (G 17) i x))) = cW h ad cA (gu G 17 i x) Z := by
  rw [← gu_row G 17 i x]
  rfl
theorem cz18 (h : Nat) (ad : Nat → Nat) (cA : Nat → ClassId) (G : GS) (Z : ZT) (i : Nat) (x : Int32) : (cW h ad cA G Z).set 14 (ad 18, .inl (cA 0, 6, .inl (upd (G 18) i x))) = cW h ad cA (gu G 18 i x) Z := by
  rw [← gu_row G 18 i x]
  rfl
/-- a state (renown 0 .. 5, news 6 .. 11, row 12 .. 19, there 20, day 21) at the pool's address a, its arrays at r, n, w -/
def StAt (cA : Nat → ClassId) (Z : ZT) (a r n w : Nat) (f : Nat → Int32) : Prop := a ∈ Z.2.1 ∧ r ∈ Z.2.1 ∧ n ∈ Z.2.1 ∧ w ∈ Z.2.1 ∧ Z.2.2 a = .inr (2, [.ref r, .ref n, .ref w, .int (f 20), .int (f 21)]) ∧ (∃ g, Z.2.2 r = .inl (cA 0, 6, .inl g) ∧ ∀ i, i < 6 → g i = f i) ∧ (∃ g, Z.2.2 n = .inl (cA 0, 6, .inl g) ∧ ∀ i, i < 6 → g i = f (6 + i)) ∧ (∃ g, Z.2.2 w = .inl (cA 0, 8, .inl g) ∧ ∀ i, i < 8 → g i = f (12 + i))
def nameCi (k : Int32) : Nat := if k = 0 then 3 else if k = 1 then 4 else if k = 2 then 5 else if k = 3 then 6 else 7
def oneCi (k : Int32) : Nat := if k = 0 then 8 else if k = 1 then 9 else 10
def kN (k : Int32) : Prop := k = 0 ∨ k = 1 ∨ k = 2 ∨ k = 3 ∨ k = 4
def kO (k : Int32) : Prop := k = 0 ∨ k = 1 ∨ k = 2
/-- rows 30 .. of G tell what the made objects are: names' kinds (30; -1 none), numbers (31), knights' kinds (32), renowns (33), houses (34), whether kept (35), states (36; 40 + i kept, 50 + i backs), sights (37; 60 + i); 38: an array made aside -/
def RpN (G : GS) (Z : ZT) : Prop := ∀ i, i < 8 → (Z.1 0 i = none ∧ G 30 i = -1) ∨ ∃ a, Z.1 0 i = some a ∧ a ∈ Z.2.1 ∧ kN (G 30 i) ∧ Z.2.2 a = .inr (nameCi (G 30 i), [.int (G 31 i)])
def RpO (G : GS) (Z : ZT) : Prop := ∀ i, i < 6 → (Z.1 2 i = none ∧ G 32 i = -1) ∨ ∃ a, Z.1 2 i = some a ∧ a ∈ Z.2.1 ∧ kO (G 32 i) ∧ Z.2.2 a = .inr (oneCi (G 32 i), [.int (G 33 i), .int (G 34 i)])
def RpV (cA : Nat → ClassId) (G : GS) (Z : ZT) : Prop := ∀ i, i < 8 → (Z.1 12 i = none ∧ G 37 i = 0) ∨ ∃ a, Z.1 12 i = some a ∧ a ∈ Z.2.1 ∧ G 37 i = 1 ∧ ∃ g, Z.2.2 a = .inl (cA 0, 4, .inl g) ∧ ∀ j, j < 4 → g j = G (60 + i) j
/-- own: a state's three arrays; ow: an array's state -/
def RpS (cA : Nat → ClassId) (G : GS) (Z : ZT) : Prop :=
  ∃ own : Nat → Nat × Nat × Nat, ∃ ow : Nat → Nat,
    (∀ i, i < 2 → (Z.1 9 i = none ∧ G 35 i = 0) ∨ ∃ a, Z.1 9 i = some a ∧ G 35 i = 1 ∧ StAt cA Z a (own a).1 (own a).2.1 (own a).2.2 (G (40 + i)) ∧ ow (own a).1 = a ∧ ow (own a).2.1 = a ∧ ow (own a).2.2 = a ∧ (own a).1 ≠ (own a).2.1) ∧
    (∀ i, i < 8 → (Z.1 10 i = none ∧ G 36 i = 0) ∨ ∃ a, Z.1 10 i = some a ∧ G 36 i = 1 ∧ StAt cA Z a (own a).1 (own a).2.1 (own a).2.2 (G (50 + i)) ∧ ow (own a).1 = a ∧ ow (own a).2.1 = a ∧ ow (own a).2.2 = a ∧ (own a).1 ≠ (own a).2.1) ∧
    (∀ i j a, i < 8 → j < 8 → Z.1 10 i = some a → Z.1 10 j = some a → i = j) ∧
    (∀ i j a, i < 2 → j < 8 → Z.1 9 i = some a → Z.1 10 j = some a → False) ∧
    ((Z.1 38 0 = none) ∨ ∃ a, Z.1 38 0 = some a ∧ a ∈ Z.2.1 ∧ Z.2.2 a = .inl (cA 0, 6, .inl (G 38)) ∧ ow a = a)
def Rp (cA : Nat → ClassId) (G : GS) (Z : ZT) : Prop := RpN G Z ∧ RpO G Z ∧ RpV cA G Z ∧ RpS cA G Z
theorem gu_far {G : GS} {j i : Nat} {v : Int32} (hj : j < 30) {k : Nat} (hk : 30 ≤ k) : gu G j i v k = G k := by
  funext b
  rw [gu_ap, if_neg (fun e => by omega)]
theorem RpN.mv {G G' : GS} {Z Z' : ZT} (h : RpN G Z) (e0 : ∀ i, i < 8 → G' 30 i = G 30 i) (e1 : ∀ i, i < 8 → G' 31 i = G 31 i) (eE : ∀ i, i < 8 → Z'.1 0 i = Z.1 0 i) (hL : ∀ a, a ∈ Z.2.1 → a ∈ Z'.2.1) (hB : ∀ a ci fs, a ∈ Z.2.1 → Z.2.2 a = .inr (ci, fs) → ci ≠ 2 → Z'.2.2 a = Z.2.2 a) : RpN G' Z' := by
  intro i hi
  rw [e0 i hi, e1 i hi, eE i hi]
  rcases h i hi with h1 | ⟨a, h1, h2, h3, h4⟩
  · exact Or.inl h1
  · exact Or.inr ⟨a, h1, hL a h2, h3, by rw [hB a _ _ h2 h4 (by rcases h3 with k | k | k | k | k <;> rw [k] <;> decide)]; exact h4⟩
theorem RpO.mv {G G' : GS} {Z Z' : ZT} (h : RpO G Z) (e0 : ∀ i, i < 6 → G' 32 i = G 32 i) (e1 : ∀ i, i < 6 → G' 33 i = G 33 i) (e2 : ∀ i, i < 6 → G' 34 i = G 34 i) (eE : ∀ i, i < 6 → Z'.1 2 i = Z.1 2 i) (hL : ∀ a, a ∈ Z.2.1 → a ∈ Z'.2.1) (hB : ∀ a ci fs, a ∈ Z.2.1 → Z.2.2 a = .inr (ci, fs) → ci ≠ 2 → Z'.2.2 a = Z.2.2 a) : RpO G' Z' := by
  intro i hi
  rw [e0 i hi, e1 i hi, e2 i hi, eE i hi]
  rcases h i hi with h1 | ⟨a, h1, h2, h3, h4⟩
  · exact Or.inl h1
  · exact Or.inr ⟨a, h1, hL a h2, h3, by rw [hB a _ _ h2 h4 (by rcases h3 with k | k | k <;> rw [k] <;> decide)]; exact h4⟩
theorem RpV.mv {cA : Nat → ClassId} {G G' : GS} {Z Z' : ZT} (h : RpV cA G Z) (e0 : ∀ i, i < 8 → G' 37 i = G 37 i) (e1 : ∀ i, i < 8 → ∀ j, j < 4 → G' (60 + i) j = G (60 + i) j) (eE : ∀ i, i < 8 → Z'.1 12 i = Z.1 12 i) (hL : ∀ a, a ∈ Z.2.1 → a ∈ Z'.2.1) (hB : ∀ a g, a ∈ Z.2.1 → Z.2.2 a = .inl (cA 0, 4, .inl g) → Z'.2.2 a = Z.2.2 a) : RpV cA G' Z' := by
  intro i hi
  rw [e0 i hi, eE i hi]
  rcases h i hi with h1 | ⟨a, h1, h2, h3, g, h4, h5⟩
  · exact Or.inl h1
  · exact Or.inr ⟨a, h1, hL a h2, h3, g, by rw [hB a _ h2 h4]; exact h4, fun j hj => by rw [e1 i hi j hj]; exact h5 j hj⟩
theorem StAt.mv {cA : Nat → ClassId} {Z Z' : ZT} {a r n w : Nat} {f f' : Nat → Int32} (h : StAt cA Z a r n w f) (ef : ∀ i, i < 22 → f' i = f i) (hL : ∀ a, a ∈ Z.2.1 → a ∈ Z'.2.1) (ha : Z'.2.2 a = Z.2.2 a) (hr : Z'.2.2 r = Z.2.2 r) (hn : Z'.2.2 n = Z.2.2 n) (hw : Z'.2.2 w = Z.2.2 w) : StAt cA Z' a r n w f' := by
  obtain ⟨h1, h2, h3, h4, h5, ⟨g1, h6, h7⟩, ⟨g2, h8, h9⟩, ⟨g3, h10, h11⟩⟩ := h
  exact ⟨hL _ h1, hL _ h2, hL _ h3, hL _ h4, by rw [ha, ef 20 (by decide), ef 21 (by decide)]; exact h5, ⟨g1, by rw [hr]; exact h6, fun i hi => by rw [ef i (by omega)]; exact h7 i hi⟩, ⟨g2, by rw [hn]; exact h8, fun i hi => by rw [ef _ (by omega)]; exact h9 i hi⟩, ⟨g3, by rw [hw]; exact h10, fun i hi => by rw [ef _ (by omega)]; exact h11 i hi⟩⟩
theorem Rp.put {cA : Nat → ClassId} {G : GS} {Z : ZT} {j i : Nat} {v : Int32} (hj : j < 30) (h : Rp cA G Z) : Rp cA (gu G j i v) Z := by
  have e : ∀ k, 30 ≤ k → gu G j i v k = G k := fun k hk => gu_far hj hk
  have e40 : ∀ n, gu G j i v (40 + n) = G (40 + n) := fun n => e _ (by omega)
  have e50 : ∀ n, gu G j i v (50 + n) = G (50 + n) := fun n => e _ (by omega)
  have e60 : ∀ n, gu G j i v (60 + n) = G (60 + n) := fun n => e _ (by omega)
  unfold Rp RpN RpO RpV RpS at h ⊢
  simp only [e 30 (by decide), e 31 (by decide), e 32 (by decide), e 33 (by decide), e 34 (by decide), e 35 (by decide), e 36 (by decide), e 37 (by decide), e 38 (by decide), e40, e50, e60]
  exact h
/-- a method's standing facts in the component -/
def CC (own : String) (cc : ByteArray) (nL : Nat) (rt : Option FieldType) (D : va_G) (cA : Nat → ClassId) (A : Nat → Prop) (p : Program) (s : State) (m : MethodId) (args : Array Value) (meth : Method) (c : Code) : Prop := CX own cc nL rt D cA A p s m args meth c ∧ EV A s
def CY (D : va_G) (cA : Nat → ClassId) (A : Nat → Prop) (s : State) (h : Nat) (ad : Nat → Nat) (G : GS) (Z : ZT) (H : Heap) (locs : List Loc) : Prop := WX D A s (cW h ad cA G Z) H locs ∧ Rp cA G Z
/-- the room of a method with d levels below, of mc cells and ms slots -/
abbrev cR (d mc ms : Nat) : Room := { frames := d, cells := mc, slots := ms, locals := 40 * d }
def cQ (D : va_G) (cA : Nat → ClassId) (h : Nat) (ad : Nat → Nat) (A : Nat → Prop) (Z : ZT) (sm : Bool) (o : Option Value) (G' : GS) : Array Value → State → Outcome → State → Prop := fun _ st oc t => oc = .returned o ∧ ∃ Z' : ZT, (sm = true → Z' = Z) ∧ va_P D cls (cW h ad cA G' Z') t.heap ∧ va_D A (cW h ad cA G' Z') ∧ Rp cA G' Z' ∧ va_F A st t
def cPc (D : va_G) (cA : Nat → ClassId) (h : Nat) (ad : Nat → Nat) (sz : Nat) (av : List Value) (G : GS) (Z : ZT) : Array Value → State → Prop := va_Pc (.ref h :: av) (fun U => U.heap.size = sz ∧ va_P D cls (cW h ad cA G Z) U.heap ∧ va_K D cls (tyL cA) U ∧ va_D (fun _ => True) (cW h ad cA G Z) ∧ EV (va_A (cW h ad cA G Z) sz) U)
/-- a contract of a method of the component: numbers in, a number out; sm: no object is made or moved -/
def cMet (l : Launch) (y : MethodName) (cc : ByteArray) (nL : Nat) (rt : Option FieldType) (rm : Room) (av : List Value) (G : GS) (o : Option Value) (G' : GS) (sm : Bool) : Prop :=
  ∀ (D : va_G) (cA : Nat → ClassId) (h : Nat) (ad : Nat → Nat) (Z : ZT) (sz : Nat), Rp cA G Z → Met l y (ws_ y cc nL rt) rm (cPc D cA h ad sz av G Z) (cQ D cA h ad (va_A (cW h ad cA G Z) sz) Z sm o G') rm.cells rm.slots (va_A (cW h ad cA G Z) sz)
section CBASE
variable {p : Program} {l : Launch} {e : Env} {R : Room} {s : State} {m : MethodId} {args : Array Value} {below : List Frame} {meth : Method} {c : Code} {H : Heap} {locs : List Loc} {cells slots : Nat} {Q : State → Prop}
variable {own : String} {cc : ByteArray} {nL : Nat} {rt : Option FieldType} {pc : Nat} {ls : Array Slot} {rest : List Value} {D : va_G} {cA : Nat → ClassId} {h : Nat} {ad : Nat → Nat} {A : Nat → Prop} {G G1 : GS} {Z Z0 : ZT}
theorem cMet_of {y : MethodName} {rm : Room} {av : List Value} {o : Option Value} {G' : GS} {sm : Bool} (hy : plainName y.cls = true) (hc : y.cls = RX0) (hlen : (lg_sl (.ref 0 :: av)).length ≤ nL)
    (body : ∀ {p : Program} {e : Env} {s : State} {m : MethodId} {args : Array Value} {below : List Frame} {meth : Method} {c : Code} {ls : Array Slot} {D : va_G} {cA : Nat → ClassId} {h : Nat} {ad : Nat → Nat} {A : Nat → Prop} {Z : ZT}, CC RX0 cc nL rt D cA A p s m args meth c → CY D cA A s h ad G Z s.heap [] → lv_has ls nL (lv_args 0 (.ref h :: av)) →
      W p l e rm s m args below meth c s.heap [] 0 0 (MQ below (cQ D cA h ad A Z sm o G') args s rm.cells rm.slots A) (F0 m 0 ls [])) : cMet l y cc nL rt rm av G o G' sm := by
  intro D cA h ad Z sz hR
  refine Met.ofW (cc := cc) (maxL := nL) (ret := rt) hy rfl ?_
  intro p e s m args below meth c s₁ B hml hv
  obtain ⟨rfl, hsz, hP, hK, hD0, hE⟩ := hv
  subst hsz
  have hts := atoms_spec (ws := ws_ y cc nL rt) B.pre
  rw [lg_entry_eq]
  refine body ⟨⟨⟨B.exec, B.bytes, hml, by rw [← hc]; exact findClass_of_methodNamed B.named, fun w h => hts w (List.mem_cons_of_mem _ h), B.returns, B.notSynchronized⟩, hK, fun q h => Or.inr h⟩, hE⟩ ⟨⟨hP, hD0.self, va_S.rf⟩, hR⟩ (lv_entry (.ref h :: av) ?_)
  have : (lg_sl (.ref h :: av)).length = (lg_sl (.ref 0 :: av)).length := rfl
  rw [this]; exact hlen
theorem cg (X : CC own cc nL rt D cA A p s m args meth c) (Y : CY D cA A s h ad G Z H locs) (k : Nat) (hk : k < 23) {index : Nat} {v : Value} (hl : Cond.fieldLink own index RX0 (TX0 k).2.1 (TX0 k).2.2.1 ∈ lw_all) (hm : (TX0 k).1 = RX0) (hv : (cF ad G)[k]? = some v) (hdg : decode cc pc = .ok (.getfield index, 3))
    (kk : W p l e R s m args below meth c H locs cells slots Q (F0 m (pc + 3) ls (v :: rest))) : W p l e R s m args below meth c H locs cells slots Q (F0 m pc ls (.ref h :: rest)) :=
  va_get (D := D) (ci := 1) (v := v) (C := RX0) (T := TX0) (N := 23) X.1.1.1 X.1.1.2.1 X.1.1.2.2.2.2.1 in_X0 X.1.1.2.2.2.1 X.1.2.1 Y.1.1 0 rfl rfl k hk (X.1.1.2.2.2.2.1 _ hl) (fun _ h9 => by rw [hm] at h9; exact h9) hv hdg kk
/-- a field of now -/
theorem cgn (X : CC own cc nL rt D cA A p s m args meth c) (Y : CY D cA A s h ad G Z H locs) (k : Nat) (hk : k < 5) {index : Nat} {v : Value} (hl : Cond.fieldLink own index RX1 (TX1 k).2.1 (TX1 k).2.2.1 ∈ lw_all) (hm : (TX1 k).1 = RX1) (hv : (nF ad G)[k]? = some v) (hdg : decode cc pc = .ok (.getfield index, 3))
    (kk : W p l e R s m args below meth c H locs cells slots Q (F0 m (pc + 3) ls (v :: rest))) : W p l e R s m args below meth c H locs cells slots Q (F0 m pc ls (.ref (ad 8) :: rest)) :=
  va_get (D := D) (ci := 2) (v := v) (C := RX1) (T := TX1) (N := 5) X.1.1.1 X.1.1.2.1 X.1.1.2.2.2.2.1 in_X1 X.1.1.2.2.2.1 X.1.2.1 Y.1.1 4 rfl rfl k hk (X.1.1.2.2.2.2.1 _ hl) (fun _ h9 => by rw [hm] at h9; exact h9) hv hdg kk
theorem cp (X : CC own cc nL rt D cA A p s m args meth c) (Y : CY D cA A s h ad G Z H locs) (k : Nat) (hk : k < 23) {index : Nat} {x : Int32} (hl : Cond.fieldLink own index RX0 (TX0 k).2.1 (TX0 k).2.2.1 ∈ lw_all) (hm : (TX0 k).1 = RX0 ∧ (TX0 k).2.2.2 = false) (hty : tyX0 k = .int)
    (hset : ∀ (h : Nat) (ad : Nat → Nat) (cA : Nat → ClassId) (G : GS) (Z : ZT) (x : Int32), (cW h ad cA G Z).set 0 (h, .inr (1, (cF ad G).set k (.int x))) = cW h ad cA (gu G 0 k x) Z) (eG : G1 = gu G 0 k x) (hdg : decode cc pc = .ok (.putfield index, 3))
    (kk : ∀ (H1 : Heap) (locs1 : List Loc), CY D cA A s h ad G1 Z H1 locs1 → W p l e R s m args below meth c H1 locs1 cells slots Q (F0 m (pc + 3) ls rest)) : W p l e R s m args below meth c H locs cells slots Q (F0 m pc ls (.int x :: .ref h :: rest)) := by
  refine va_put (D := D) (ci := 1) (v := .int x) (ty := .int) (C := RX0) (T := TX0) (N := 23) X.1.1.1 X.1.1.2.1 X.1.1.2.2.2.2.1 in_X0 tyX0 tyX0_ok nmX0 X.1.1.2.2.2.1 X.1.2.1 Y.1.1 Y.1.2.1 Y.1.2.2 0 rfl rfl k hk (X.1.1.2.2.2.2.1 _ hl) (fun _ h9 => by rw [hm.1] at h9; exact h9) hm.2 (by rw [← hty]; exact tyX0_ok k hk) rfl rfl hk hdg (fun H1 locs1 hP hD hS => ?_)
  rw [hset, ← eG] at hP hD
  exact kk H1 locs1 ⟨⟨hP, hD, hS⟩, by rw [eG]; exact Y.2.put (by decide)⟩
theorem cpn (X : CC own cc nL rt D cA A p s m args meth c) (Y : CY D cA A s h ad G Z H locs) (k : Nat) (hk : k < 5) {index : Nat} {x : Int32} (hl : Cond.fieldLink own index RX1 (TX1 k).2.1 (TX1 k).2.2.1 ∈ lw_all) (hm : (TX1 k).1 = RX1 ∧ (TX1 k).2.2.2 = false) (hty : tyX1 k = .int)
    (hset : ∀ (h : Nat) (ad : Nat → Nat) (cA : Nat → ClassId) (G : GS) (Z : ZT) (x : Int32), (cW h ad cA G Z).set 4 (ad 8, .inr (2, (nF ad G).set k (.int x))) = cW h ad cA (gu G 8 k x) Z) (eG : G1 = gu G 8 k x) (hdg : decode cc pc = .ok (.putfield index, 3))
    (kk : ∀ (H1 : Heap) (locs1 : List Loc), CY D cA A s h ad G1 Z H1 locs1 → W p l e R s m args below meth c H1 locs1 cells slots Q (F0 m (pc + 3) ls rest)) : W p l e R s m args below meth c H locs cells slots Q (F0 m pc ls (.int x :: .ref (ad 8) :: rest)) := by
  refine va_put (D := D) (ci := 2) (v := .int x) (ty := .int) (C := RX1) (T := TX1) (N := 5) X.1.1.1 X.1.1.2.1 X.1.1.2.2.2.2.1 in_X1 tyX1 tyX1_ok nmX1 X.1.1.2.2.2.1 X.1.2.1 Y.1.1 Y.1.2.1 Y.1.2.2 4 rfl rfl k hk (X.1.1.2.2.2.2.1 _ hl) (fun _ h9 => by rw [hm.1] at h9; exact h9) hm.2 (by rw [← hty]; exact tyX1_ok k hk) rfl rfl hk hdg (fun H1 locs1 hP hD hS => ?_)
  rw [hset, ← eG] at hP hD
  exact kk H1 locs1 ⟨⟨hP, hD, hS⟩, by rw [eG]; exact Y.2.put (by decide)⟩
theorem ca (X : CC own cc nL rt D cA A p s m args meth c) (Y : CY D cA A s h ad G Z H locs) (j q0 : Nat) {n : Nat} (ha : (cW h ad cA G Z)[q0]? = some (ad j, .inl (cA 0, n, .inl (G j)))) {i v : Int32} (hin : inb i n) (ev : v = G j i.toNatClampNeg) (hdg : decode cc pc = .ok (.iaload, 1))
    (kk : W p l e R s m args below meth c H locs cells slots Q (F0 m (pc + 1) ls (.int v :: rest))) : W p l e R s m args below meth c H locs cells slots Q (F0 m pc ls (.int i :: .ref (ad j) :: rest)) := by
  subst ev
  exact va_iald X.1.1.1 X.1.1.2.1 X.1.2.1 Y.1.1 q0 0 ha rfl (inb_in hin) hdg kk
theorem cs (X : CC own cc nL rt D cA A p s m args meth c) (Y : CY D cA A s h ad G Z H locs) (j q0 : Nat) (hj : j < 30) {n : Nat} (ha : (cW h ad cA G Z)[q0]? = some (ad j, .inl (cA 0, n, .inl (G j)))) {i x : Int32}
    (hset : ∀ (h : Nat) (ad : Nat → Nat) (cA : Nat → ClassId) (G : GS) (Z : ZT) (i : Nat) (x : Int32), (cW h ad cA G Z).set q0 (ad j, .inl (cA 0, n, .inl (upd (G j) i x))) = cW h ad cA (gu G j i x) Z) (hin : inb i n) (eG : G1 = gu G j i.toNatClampNeg x) (hdg : decode cc pc = .ok (.iastore, 1))
    (kk : ∀ (H1 : Heap) (locs1 : List Loc), CY D cA A s h ad G1 Z H1 locs1 → W p l e R s m args below meth c H1 locs1 cells slots Q (F0 m (pc + 1) ls rest)) : W p l e R s m args below meth c H locs cells slots Q (F0 m pc ls (.int x :: .int i :: .ref (ad j) :: rest)) := by
  refine va_iast X.1.1.1 X.1.1.2.1 X.1.2.1 Y.1.1 Y.1.2.1 Y.1.2.2 q0 0 ha rfl (inb_in hin) hdg (fun H1 locs1 hP hD hS => ?_)
  rw [hset, ← eG] at hP hD
  exact kk H1 locs1 ⟨⟨hP, hD, hS⟩, by rw [eG]; exact Y.2.put hj⟩
/-- the text: bytes -/
theorem csB (X : CC own cc nL rt D cA A p s m args meth c) (Y : CY D cA A s h ad G Z H locs) {i x : Int32} (hin : inb i 160) (eG : G1 = gu G 14 i.toNatClampNeg (vp_nar .byte x)) (hdg : decode cc pc = .ok (.bastore, 1))
    (kk : ∀ (H1 : Heap) (locs1 : List Loc), CY D cA A s h ad G1 Z H1 locs1 → W p l e R s m args below meth c H1 locs1 cells slots Q (F0 m (pc + 1) ls rest)) : W p l e R s m args below meth c H locs cells slots Q (F0 m pc ls (.int x :: .int i :: .ref (ad 14) :: rest)) := by
  refine va_bast X.1.1.1 X.1.1.2.1 X.1.2.1 Y.1.1 Y.1.2.1 Y.1.2.2 11 2 (show (cW h ad cA G Z)[11]? = some (ad 14, .inl (cA 2, 160, .inl (G 14))) from rfl) rfl (inb_in hin) hdg (fun H1 locs1 hP hD hS => ?_)
  rw [cz14, ← eG] at hP hD
  exact kk H1 locs1 ⟨⟨hP, hD, hS⟩, by rw [eG]; exact Y.2.put (by decide)⟩
/-- a length of a fixed array -/
theorem cal (X : CC own cc nL rt D cA A p s m args meth c) (Y : CY D cA A s h ad G Z H locs) (j q0 t0 : Nat) {cA' : ClassId} {x : vp_A} (ha : (cW h ad cA G Z)[q0]? = some (ad j, .inl (cA', x))) {ty : FieldType} (ht : (tyL cA)[t0]? = some (cA', ty)) {v : Int32} (hv : Int32.ofNat x.1 = v) (hdg : decode cc pc = .ok (.arraylength, 1))
    (kk : W p l e R s m args below meth c H locs cells slots Q (F0 m (pc + 1) ls (.int v :: rest))) : W p l e R s m args below meth c H locs cells slots Q (F0 m pc ls (.ref (ad j) :: rest)) :=
  va_alen X.1.1.1 X.1.1.2.1 X.1.2.1 Y.1.1 q0 t0 ha ht hv hdg kk
theorem CY.fr (X : CC own cc nL rt D cA A p s m args meth c) (Y : CY D cA A s h ad G Z H locs) : ∀ q, va_A (cW h ad cA G Z) H.size q → A q := fun q hq => by
  rcases hq with ⟨k, e, hk⟩ | hq
  · exact Y.1.2.1.2 k _ hk
  · exact X.1.2.2 q (Nat.le_trans Y.1.2.2.1 hq)
theorem CY.pre (X : CC own cc nL rt D cA A p s m args meth c) (Y : CY D cA A s h ad G Z H locs) (av : List Value) : PreV s H RX0 h (cPc D cA h ad H.size av G Z) av :=
  ⟨fun a U g mk q => by
      obtain ⟨q0, q1, qP, qK, qD, qE⟩ := q
      exact ⟨q0, q1, qP, va_K.moved (u := U) (U := U.calling g mk a) (Vm.Alike.refl U.vm) qK, qD, qE.same (u := U) rfl rfl⟩, va_recv X.1.2.1 Y.1.1 (ci := 1) (q0 := 0) rfl rfl, fun U hU hW => ⟨rfl, by rw [hU], by rw [hU]; exact Y.1.1, va_K.moved hW.alike X.1.2.1, Y.1.2.1.weaken (fun _ _ _ _ => trivial), X.2.call Y.1.2.2 (CY.fr X Y) hU hW⟩⟩
/-- a call of a method of the component on itself -/
theorem ccall {y : MethodName} {cc' : ByteArray} {nL' : Nat} {rt' : Option FieldType} {rm : Room} {av : List Value} {o : Option Value} {index : Nat} {st0 : List Value} {sm : Bool} (n : Nat) (X : CC own cc nL rt D cA A p s m args meth c) (Y : CY D cA A s h ad G Z H locs) (hM : cMet l y cc' nL' rt' rm av G o G1 sm)
    (hG : GoodIn lw_all (wsV own index RX0 y (ws_ y cc' nL' rt'))) (hd : y.cls = RX0 ∧ y.cls ≠ "java/lang/invoke/MethodHandle" ∧ y.cls ≠ "java/lang/invoke/VarHandle" ∧ (parseMethodDescriptor y.desc).map (fun d => d.parameters.length) = some n)
    (hrm : rm.frames + 1 ≤ R.frames ∧ 8 + (nL' + 11) + rm.locals ≤ R.locals) (hn : av.length = n) (hl : ls.size = nL) (hstack : st0 = av.reverse ++ .ref h :: rest) (hW : (rest.map fun v => v.category).sum ≤ 8) (hc : cells + rm.cells ≤ R.cells ∧ slots + rm.slots ≤ R.slots) (hdg : decode cc pc = .ok (.invokevirtual index, 3))
    (kk : ∀ (H1 : Heap) (locs1 : List Loc) (Z1 : ZT), (sm = true → Z1 = Z) → CY D cA A s h ad G1 Z1 H1 locs1 → W p l e R s m args below meth c H1 locs1 (cells + rm.cells) (slots + rm.slots) Q (F0 m (pc + 3) ls (o.toList ++ rest))) : W p l e R s m args below meth c H locs cells slots Q (F0 m pc ls st0) := by
  have hfr := CY.fr X Y
  have hpre := CY.pre X Y av
  obtain ⟨⟨⟨hx, hb, hml, hown, hts, -, -⟩, hK, hA⟩, hE⟩ := X
  obtain ⟨⟨hP, hD, hS⟩, hR⟩ := Y
  have hr := va_runV (l := l) (e := e) (R := R) (below := below) (meth := meth) (H := H) (locs := locs) (cells := cells) (slots := slots) (mc := rm.cells) (ms := rm.slots) (g := F0 m pc ls st0) (rest := rest) (As := av) (Ts := lw_all) (cc := cc) (nL := nL) ⟨hx, hb, hml, hown, hts⟩ (hM D cA h ad Z H.size hR)
    (cwV n hts hG rfl rfl rfl hd hrm) hpre rfl hn hl hstack (lv_room hW) hdg hc
  intro T hT X
  obtain ⟨v, st₀, t, T', L, h0, X', hL, e1, e2, ⟨hv, Z1, hsm, hP1, hD1, hR1, hz, hk⟩, st⟩ := hr T hT X
  cases hv
  rw [h0] at hz hk
  obtain ⟨t2, a1, b1⟩ := kk T'.heap (locs ++ L) Z1 hsm ⟨⟨by rw [e1]; exact hP1, hD1.weaken (fun _ q _ hq => hfr q.1 hq),
    ⟨Nat.le_trans hS.1 (by rw [e1]; exact hz), fun q h1 h2 => by rw [e1, hk q (Nat.lt_of_lt_of_le h1 hS.1) (fun z => h2 (hfr q z))]; exact hS.2.1 q h1 h2, fun q hq => by
      rcases List.mem_append.mp hq with h | h
      · exact hS.2.2 q h
      · exact hfr _ (hL q h)⟩⟩, hR1⟩ T' rfl X'
  exact ⟨t2, st t2 a1, b1⟩
theorem ccI {y : MethodName} {cc' : ByteArray} {nL' : Nat} {rt' : Option FieldType} {rm : Room} {av : List Value} {index : Nat} {st0 : List Value} {r : Int32} (n : Nat) (X : CC own cc nL rt D cA A p s m args meth c) (Y : CY D cA A s h ad G Z H locs) (hM : cMet l y cc' nL' rt' rm av G (some (.int r)) G1 true)
    (hG : GoodIn lw_all (wsV own index RX0 y (ws_ y cc' nL' rt'))) (hd : y.cls = RX0 ∧ y.cls ≠ "java/lang/invoke/MethodHandle" ∧ y.cls ≠ "java/lang/invoke/VarHandle" ∧ (parseMethodDescriptor y.desc).map (fun d => d.parameters.length) = some n)
    (hrm : rm.frames + 1 ≤ R.frames ∧ 8 + (nL' + 11) + rm.locals ≤ R.locals) (hn : av.length = n) (hl : ls.size = nL) (hstack : st0 = av.reverse ++ .ref h :: rest) (hW : (rest.map fun v => v.category).sum ≤ 8) (hc : cells + rm.cells ≤ R.cells ∧ slots + rm.slots ≤ R.slots) (hdg : decode cc pc = .ok (.invokevirtual index, 3))
    (kk : ∀ (H1 : Heap) (locs1 : List Loc), CY D cA A s h ad G1 Z H1 locs1 → W p l e R s m args below meth c H1 locs1 (cells + rm.cells) (slots + rm.slots) Q (F0 m (pc + 3) ls (.int r :: rest))) : W p l e R s m args below meth c H locs cells slots Q (F0 m pc ls st0) := ccall n X Y hM hG hd hrm hn hl hstack hW hc hdg (fun H1 locs1 Z1 e Y1 => by have e := e rfl; subst e; exact kk H1 locs1 Y1)
theorem ccV {y : MethodName} {cc' : ByteArray} {nL' : Nat} {rt' : Option FieldType} {rm : Room} {av : List Value} {index : Nat} {st0 : List Value} (n : Nat) (X : CC own cc nL rt D cA A p s m args meth c) (Y : CY D cA A s h ad G Z H locs) (hM : cMet l y cc' nL' rt' rm av G none G1 true)
    (hG : GoodIn lw_all (wsV own index RX0 y (ws_ y cc' nL' rt'))) (hd : y.cls = RX0 ∧ y.cls ≠ "java/lang/invoke/MethodHandle" ∧ y.cls ≠ "java/lang/invoke/VarHandle" ∧ (parseMethodDescriptor y.desc).map (fun d => d.parameters.length) = some n)
    (hrm : rm.frames + 1 ≤ R.frames ∧ 8 + (nL' + 11) + rm.locals ≤ R.locals) (hn : av.length = n) (hl : ls.size = nL) (hstack : st0 = av.reverse ++ .ref h :: rest) (hW : (rest.map fun v => v.category).sum ≤ 8) (hc : cells + rm.cells ≤ R.cells ∧ slots + rm.slots ≤ R.slots) (hdg : decode cc pc = .ok (.invokevirtual index, 3))
    (kk : ∀ (H1 : Heap) (locs1 : List Loc), CY D cA A s h ad G1 Z H1 locs1 → W p l e R s m args below meth c H1 locs1 (cells + rm.cells) (slots + rm.slots) Q (F0 m (pc + 3) ls (rest))) : W p l e R s m args below meth c H locs cells slots Q (F0 m pc ls st0) := ccall n X Y hM hG hd hrm hn hl hstack hW hc hdg (fun H1 locs1 Z1 e Y1 => by have e := e rfl; subst e; exact kk H1 locs1 Y1)
theorem ccJ {y : MethodName} {cc' : ByteArray} {nL' : Nat} {rt' : Option FieldType} {rm : Room} {av : List Value} {index : Nat} {st0 : List Value} {r : Int64} (n : Nat) (X : CC own cc nL rt D cA A p s m args meth c) (Y : CY D cA A s h ad G Z H locs) (hM : cMet l y cc' nL' rt' rm av G (some (.long r)) G1 true)
    (hG : GoodIn lw_all (wsV own index RX0 y (ws_ y cc' nL' rt'))) (hd : y.cls = RX0 ∧ y.cls ≠ "java/lang/invoke/MethodHandle" ∧ y.cls ≠ "java/lang/invoke/VarHandle" ∧ (parseMethodDescriptor y.desc).map (fun d => d.parameters.length) = some n)
    (hrm : rm.frames + 1 ≤ R.frames ∧ 8 + (nL' + 11) + rm.locals ≤ R.locals) (hn : av.length = n) (hl : ls.size = nL) (hstack : st0 = av.reverse ++ .ref h :: rest) (hW : (rest.map fun v => v.category).sum ≤ 8) (hc : cells + rm.cells ≤ R.cells ∧ slots + rm.slots ≤ R.slots) (hdg : decode cc pc = .ok (.invokevirtual index, 3))
    (kk : ∀ (H1 : Heap) (locs1 : List Loc), CY D cA A s h ad G1 Z H1 locs1 → W p l e R s m args below meth c H1 locs1 (cells + rm.cells) (slots + rm.slots) Q (F0 m (pc + 3) ls (.long r :: rest))) : W p l e R s m args below meth c H locs cells slots Q (F0 m pc ls st0) := ccall n X Y hM hG hd hrm hn hl hstack hW hc hdg (fun H1 locs1 Z1 e Y1 => by have e := e rfl; subst e; exact kk H1 locs1 Y1)
theorem ccIz {y : MethodName} {cc' : ByteArray} {nL' : Nat} {rt' : Option FieldType} {rm : Room} {av : List Value} {index : Nat} {st0 : List Value} {r : Int32} (n : Nat) (X : CC own cc nL rt D cA A p s m args meth c) (Y : CY D cA A s h ad G Z H locs) (hM : cMet l y cc' nL' rt' rm av G (some (.int r)) G1 false)
    (hG : GoodIn lw_all (wsV own index RX0 y (ws_ y cc' nL' rt'))) (hd : y.cls = RX0 ∧ y.cls ≠ "java/lang/invoke/MethodHandle" ∧ y.cls ≠ "java/lang/invoke/VarHandle" ∧ (parseMethodDescriptor y.desc).map (fun d => d.parameters.length) = some n)
    (hrm : rm.frames + 1 ≤ R.frames ∧ 8 + (nL' + 11) + rm.locals ≤ R.locals) (hn : av.length = n) (hl : ls.size = nL) (hstack : st0 = av.reverse ++ .ref h :: rest) (hW : (rest.map fun v => v.category).sum ≤ 8) (hc : cells + rm.cells ≤ R.cells ∧ slots + rm.slots ≤ R.slots) (hdg : decode cc pc = .ok (.invokevirtual index, 3))
    (kk : ∀ (H1 : Heap) (locs1 : List Loc) (Z1 : ZT), CY D cA A s h ad G1 Z1 H1 locs1 → W p l e R s m args below meth c H1 locs1 (cells + rm.cells) (slots + rm.slots) Q (F0 m (pc + 3) ls (.int r :: rest))) : W p l e R s m args below meth c H locs cells slots Q (F0 m pc ls st0) := ccall n X Y hM hG hd hrm hn hl hstack hW hc hdg (fun H1 locs1 Z1 _ Y1 => kk H1 locs1 Z1 Y1)
theorem ccVz {y : MethodName} {cc' : ByteArray} {nL' : Nat} {rt' : Option FieldType} {rm : Room} {av : List Value} {index : Nat} {st0 : List Value} (n : Nat) (X : CC own cc nL rt D cA A p s m args meth c) (Y : CY D cA A s h ad G Z H locs) (hM : cMet l y cc' nL' rt' rm av G none G1 false)
    (hG : GoodIn lw_all (wsV own index RX0 y (ws_ y cc' nL' rt'))) (hd : y.cls = RX0 ∧ y.cls ≠ "java/lang/invoke/MethodHandle" ∧ y.cls ≠ "java/lang/invoke/VarHandle" ∧ (parseMethodDescriptor y.desc).map (fun d => d.parameters.length) = some n)
    (hrm : rm.frames + 1 ≤ R.frames ∧ 8 + (nL' + 11) + rm.locals ≤ R.locals) (hn : av.length = n) (hl : ls.size = nL) (hstack : st0 = av.reverse ++ .ref h :: rest) (hW : (rest.map fun v => v.category).sum ≤ 8) (hc : cells + rm.cells ≤ R.cells ∧ slots + rm.slots ≤ R.slots) (hdg : decode cc pc = .ok (.invokevirtual index, 3))
    (kk : ∀ (H1 : Heap) (locs1 : List Loc) (Z1 : ZT), CY D cA A s h ad G1 Z1 H1 locs1 → W p l e R s m args below meth c H1 locs1 (cells + rm.cells) (slots + rm.slots) Q (F0 m (pc + 3) ls (rest))) : W p l e R s m args below meth c H locs cells slots Q (F0 m pc ls st0) := ccall n X Y hM hG hd hrm hn hl hstack hW hc hdg (fun H1 locs1 Z1 _ Y1 => kk H1 locs1 Z1 Y1)
theorem c_iret {v : Int32} {sm : Bool} (X : CC own cc nL (some .int) D cA A p s m args meth c) (hsm : sm = true → Z = Z0) (Y : CY D cA A s h ad G Z H locs) (hdg : decode cc pc = .ok (.ireturn, 1)) : W p l e R s m args below meth c H locs cells slots (MQ below (cQ D cA h ad A Z0 sm (some (.int v)) G) args s cells slots A) (F0 m pc ls [.int v]) :=
  W.iret (v := v) X.1.1.1 X.1.1.2.1 X.1.1.2.2.2.2.2.1 (fun t ht _ => ⟨rfl, Z, hsm, by rw [ht]; exact Y.1.1, Y.1.2.1, Y.2, Y.1.2.2.F ht⟩) Y.1.2.2.2.2 hdg X.1.1.2.2.2.2.2.2
theorem c_lret {v : Int64} {sm : Bool} (X : CC own cc nL (some .long) D cA A p s m args meth c) (hsm : sm = true → Z = Z0) (Y : CY D cA A s h ad G Z H locs) (hdg : decode cc pc = .ok (.lreturn, 1)) : W p l e R s m args below meth c H locs cells slots (MQ below (cQ D cA h ad A Z0 sm (some (.long v)) G) args s cells slots A) (F0 m pc ls [.long v]) :=
  W.lret (v := v) X.1.1.1 X.1.1.2.1 X.1.1.2.2.2.2.2.1 (fun t ht _ => ⟨rfl, Z, hsm, by rw [ht]; exact Y.1.1, Y.1.2.1, Y.2, Y.1.2.2.F ht⟩) Y.1.2.2.2.2 hdg X.1.1.2.2.2.2.2.2
theorem c_zret {v : Int32} {sm : Bool} (X : CC own cc nL (some .boolean) D cA A p s m args meth c) (hsm : sm = true → Z = Z0) (Y : CY D cA A s h ad G Z H locs) (hz : zb v) (hdg : decode cc pc = .ok (.ireturn, 1)) : W p l e R s m args below meth c H locs cells slots (MQ below (cQ D cA h ad A Z0 sm (some (.int v)) G) args s cells slots A) (F0 m pc ls [.int v]) :=
  W.zret (v := v) X.1.1.1 X.1.1.2.1 X.1.1.2.2.2.2.2.1 (by rcases hz with h | h <;> subst h <;> rfl) (fun t ht _ => ⟨rfl, Z, hsm, by rw [ht]; exact Y.1.1, Y.1.2.1, Y.2, Y.1.2.2.F ht⟩) Y.1.2.2.2.2 hdg X.1.1.2.2.2.2.2.2
theorem c_vret {sm : Bool} (X : CC own cc nL none D cA A p s m args meth c) (hsm : sm = true → Z = Z0) (Y : CY D cA A s h ad G Z H locs) (hdg : decode cc pc = .ok (.return_, 1)) : W p l e R s m args below meth c H locs cells slots (MQ below (cQ D cA h ad A Z0 sm none G) args s cells slots A) (F0 m pc ls []) :=
  W.vret X.1.1.1 X.1.1.2.1 X.1.1.2.2.2.2.2.1 (fun t ht _ => ⟨rfl, Z, hsm, by rw [ht]; exact Y.1.1, Y.1.2.1, Y.2, Y.1.2.2.F ht⟩) Y.1.2.2.2.2 hdg X.1.1.2.2.2.2.2.2
theorem c_callSI {y : MethodName} {cc' : ByteArray} {nL' : Nat} {rt' : Option FieldType} {rm : Room} {av : List Value} {r : Int32} {index : Nat} {st0 : List Value} (n : Nat) (X : CC own cc nL rt D cA A p s m args meth c) (Y : CY D cA A s h ad G Z H locs) (hM : sMet l y cc' nL' rt' rm av (some (.int r)))
    (hG : GoodIn lw_all (va_wsS own index y (ws_ y cc' nL' rt'))) (hd : y.cls ≠ "java/lang/invoke/MethodHandle" ∧ y.cls ≠ "java/lang/invoke/VarHandle" ∧ (parseMethodDescriptor y.desc).map (fun d => d.parameters.length) = some n)
    (hrm : rm.cells = 0 ∧ rm.slots = 0 ∧ rm.frames + 1 ≤ R.frames ∧ 8 + (nL' + 11) + rm.locals ≤ R.locals) (hn : av.length = n) (hl : ls.size = nL) (hstack : st0 = av.reverse ++ rest) (hW : (rest.map fun v => v.category).sum ≤ 8) (hc : cells ≤ R.cells ∧ slots ≤ R.slots) (hdg : decode cc pc = .ok (.invokestatic index, 3))
    (kk : ∀ (H1 : Heap) (locs1 : List Loc), CY D cA A s h ad G Z H1 locs1 → W p l e R s m args below meth c H1 locs1 cells slots Q (F0 m (pc + 3) ls (.int r :: rest))) : W p l e R s m args below meth c H locs cells slots Q (F0 m pc ls st0) :=
  w_callSI n X.1 Y.1 hM hG hd hrm hn hl hstack hW hc hdg (fun H1 locs1 Y1 => kk H1 locs1 ⟨Y1, Y.2⟩)
theorem c_callSJ {y : MethodName} {cc' : ByteArray} {nL' : Nat} {rt' : Option FieldType} {rm : Room} {av : List Value} {r : Int64} {index : Nat} {st0 : List Value} (n : Nat) (X : CC own cc nL rt D cA A p s m args meth c) (Y : CY D cA A s h ad G Z H locs) (hM : sMet l y cc' nL' rt' rm av (some (.long r)))
    (hG : GoodIn lw_all (va_wsS own index y (ws_ y cc' nL' rt'))) (hd : y.cls ≠ "java/lang/invoke/MethodHandle" ∧ y.cls ≠ "java/lang/invoke/VarHandle" ∧ (parseMethodDescriptor y.desc).map (fun d => d.parameters.length) = some n)
    (hrm : rm.cells = 0 ∧ rm.slots = 0 ∧ rm.frames + 1 ≤ R.frames ∧ 8 + (nL' + 11) + rm.locals ≤ R.locals) (hn : av.length = n) (hl : ls.size = nL) (hstack : st0 = av.reverse ++ rest) (hW : (rest.map fun v => v.category).sum ≤ 8) (hc : cells ≤ R.cells ∧ slots ≤ R.slots) (hdg : decode cc pc = .ok (.invokestatic index, 3))
    (kk : ∀ (H1 : Heap) (locs1 : List Loc), CY D cA A s h ad G Z H1 locs1 → W p l e R s m args below meth c H1 locs1 cells slots Q (F0 m (pc + 3) ls (.long r :: rest))) : W p l e R s m args below meth c H locs cells slots Q (F0 m pc ls st0) :=
  s_call n X.1.1 Y.1.2.2 hM hG hd hrm hn hl hstack hW hc hdg (fun H1 locs1 _ hk hS => kk H1 locs1 ⟨⟨Y.1.1.kept (fun k q hq => hk q.1 (Y.1.1 k q hq).lt), Y.1.2.1, hS⟩, Y.2⟩)
end CBASE
