/-! THROWS of the machine: words, NullPointerException in State.set, what is behind such a call -/
set_option maxRecDepth 100000
/-- rooms of methods below which something is thrown -/
abbrev cX (d mc ms : Nat) : Room := { frames := d, cells := mc, slots := ms, locals := 20000 }
theorem st_off {l : Launch} (hl : l.flags = flags0) : l.stackTraces = false := by
  unfold Launch.stackTraces
  rw [hl]
  decide
def isCast (w : Cond) : Bool := match w with
  | .castable a b => decide ((a, b) ∈ NWc)
  | .declares x => decide (x ∈ NWd)
  | _ => false
theorem cast_use {s : State} {args : Array Value} {w : Cond} (hT : TWs s) (h : isCast w = true) : w.before args s = true := by
  cases w with
  | castable a b => exact va_Nw.use rfl (hT.1 (a, b) (of_decide_eq_true h))
  | declares x => exact va_Nw.use rfl (hT.2.2.2.1 x (of_decide_eq_true h))
  | _ => cases h
theorem words_npe {s : State} {args : Array Value} (hts : ∀ w ∈ lw_all, w.before args s = true) (hT : TWs s) : ∀ w ∈ vx_atN 8, w.before args s = true := by
  intro w hw
  have h1 : (vx_atN 8).all (fun w => decide (w ∈ lw_all) || isCast w) = true := by decide +kernel
  have h2 := List.all_eq_true.mp h1 w hw
  rcases Bool.or_eq_true _ _ |>.mp h2 with h | h
  · exact hts w (of_decide_eq_true h)
  · exact cast_use hT h
theorem good_npe : ∀ w ∈ vx_atN 8, vx_ot w = true := List.all_eq_true.mp (by decide +kernel)
abbrev chC : List String := ["java/lang/RuntimeException", "java/lang/Exception"]
theorem words_cce {s : State} {args : Array Value} (hts : ∀ w ∈ lw_all, w.before args s = true) (hT : TWs s) : ∀ w ∈ vx_atM "java/lang/ClassCastException" chC, w.before args s = true := by
  intro w hw
  have h1 : (vx_atM "java/lang/ClassCastException" chC).all (fun w => decide (w ∈ lw_all) || isCast w) = true := by decide +kernel
  have h2 := List.all_eq_true.mp h1 w hw
  rcases Bool.or_eq_true _ _ |>.mp h2 with h | h
  · exact hts w (of_decide_eq_true h)
  · exact cast_use hT h
theorem good_cce : ∀ w ∈ vx_atM "java/lang/ClassCastException" chC, vx_ot w = true := List.all_eq_true.mp (by decide +kernel)
section THROW
variable {p : Program} {l : Launch} {e : Env} {R : Room} {s : State} {m : MethodId} {args : Array Value} {below : List Frame} {meth : Method} {c : Code} {H : Heap} {locs : List Loc} {cells slots : Nat} {Q : State → Prop}
variable {own : String} {cc : ByteArray} {nL : Nat} {rt : Option FieldType} {pc : Nat} {ls : Array Slot} {rest : List Value} {D : va_G} {cA : Nat → ClassId} {h : Nat} {ad : Nat → Nat} {A : Nat → Prop} {G G1 : GS} {Z Z0 Z1 : ZT}
/-- set(null) throws -/
theorem sSetN (l : Launch) (hfl : l.flags = flags0) {a sz : Nat} : vx_Met l yX1_set (ws_ yX1_set cX1_set 2 (some (.object "PerilSeat$State"))) { frames := 8, cells := 1, slots := 8, locals := 10400 } (va_Pc [.ref a, .null] (fun U => U.heap.size = sz ∧ va_K D cls (tyL cA) U ∧ TWs U ∧ EH (fun q => sz ≤ q) U)) (fun _ _ _ _ => False) (fun E st t => E = "java/lang/NullPointerException" ∧ va_F (fun q => sz ≤ q) st t) 1 8 (fun q => sz ≤ q) := by
  refine vx_ofW (cc := cX1_set) (maxL := 2) (ret := some (.object "PerilSeat$State")) (by decide +kernel) rfl ?_
  intro p e s m args below meth c s₁ B hml htab hv
  obtain ⟨rfl, hsz, hK, hT, hE⟩ := hv
  subst hsz
  have hts := atoms_spec (ws := ws_ yX1_set cX1_set 2 (some (.object "PerilSeat$State"))) B.pre
  have hts : ∀ w ∈ lw_all, w.before _ s = true := fun w h => hts w (List.mem_cons_of_mem _ h)
  have hx := B.exec
  have hb := B.bytes
  have hown : s.vm.findClass "PerilSeat$State" = some m.cls := findClass_of_methodNamed B.named
  rw [lg_entry_eq]
  have hl := lv_entry ([.ref a, .null]) (n := 2) (Nat.le_of_ble_eq_true rfl)
  generalize (lg_sl ([.ref a, .null]) ++ List.replicate (2 - (lg_sl ([.ref a, .null])).length) Slot.unset).toArray = ls at hl ⊢
  have hl : lv_has ls 2 [(0, .ref a), (1, .null)] := hl
  have hS : va_S (fun q => s.heap.size ≤ q) s.heap s.heap [] := va_S.rf
  refine lv_aload_nN hx hb dX1_set_0 rfl (lv_at hl 1 rfl) ?_
  refine vx_getfN (C := RX1) (T := TX1) (N := 5) (ci := 2) (ref := RX1) hx hb hts in_X1 hown hK rfl 0 (by decide) (hts _ q118) (fun _ h9 => h9) dX1_set_1 ?_
  refine vx_npe (nb := 8) hx (st_off hfl) (words_npe hts hT) good_npe hE.1 hE.2 hS (hl.1.trans hml.symm) (by decide) (by decide) (by decide) (by decide) B.notSynchronized (fun H1 q9 ce hz hk hS1 hce hv hcl => ?_)
  exact vx_out (E := "java/lang/NullPointerException") (fun x hx => (htab x hx).elim) B.notSynchronized hce hv hcl (fun t ht _ => ⟨rfl, by rw [ht]; exact hz, fun q hq _ => by rw [ht]; exact hk q hq⟩) hS1.2.2 (by decide) (by decide)
/-- behind a call that throws and leaves all as it is -/
theorem x_tail {E0 : String} {mc ms : Nat} {st0 : List Value} {Qa : State → Outcome → State → Prop} {XC : String → State → State → Prop} {free : Addr → Prop} (X : CC own cc nL rt D cA A p s m args meth c) (Y : CY D cA A s h ad G Z H locs) (hr : vx_Run p l e R s m args below meth c H locs cells slots mc ms (F0 m pc ls st0) rest Qa XC free) (hQ : ∀ st o t, ¬ Qa st o t) (hXC : ∀ E st t, st.heap = H → XC E st t → E = E0 ∧ H.size ≤ t.heap.size ∧ ∀ q : Nat, q < H.size → t.heap[q]? = H[q]?) (hfree : ∀ q, free q → H.size ≤ q)
    (kk : ∀ (H1 : Heap) (locs1 : List Loc) (q9 : Addr) (ce : Cell), CY D cA A s h ad G Z H1 locs1 → H1[q9]? = some ce → ce.vm = .none → s.vm.findClass E0 = some ce.cls → vx_W p l e R s m args below meth c H1 locs1 (cells + mc) (slots + ms) Q (F0 m pc ls rest) q9) : W p l e R s m args below meth c H locs cells slots Q (F0 m pc ls st0) := by
  intro T hT XT
  rcases hr T hT XT with ⟨v, st₀, t, T', L, h0, X', hL, e1, e2, hq, st⟩ | ⟨q, st₀, t, T', L, E, ce, h0, X', hL, e1, e2, hx9, hce, hcv, hcl, st⟩
  · exact absurd hq (hQ _ _ _)
  · obtain ⟨rfl, hz, hk⟩ := hXC E st₀ t h0 hx9
    obtain ⟨t2, a1, b1⟩ := kk T'.heap (locs ++ L) q ce ⟨⟨Y.1.1.kept (fun k z hz' => by rw [e1]; exact hk z.1 (Y.1.1 k z hz').lt), Y.1.2.1, ⟨Nat.le_trans Y.1.2.2.1 (by rw [e1]; exact hz), fun z h1 h2 => by rw [e1, hk z (Nat.lt_of_lt_of_le h1 Y.1.2.2.1)]; exact Y.1.2.2.2.1 z h1 h2, fun z hz' => by
      rcases List.mem_append.mp hz' with h | h
      · exact Y.1.2.2.2.2 z h
      · exact X.1.2.2 _ (Nat.le_trans Y.1.2.2.1 (hfree _ (hL z h)))⟩⟩, Y.2⟩ (by rw [e1]; exact hce) hcv hcl T' rfl X'
    exact ⟨t2, st.trans a1, b1⟩
end THROW
