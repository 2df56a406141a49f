/-! CASTS BY KIND: castToOne, castToName (printed by tools/gen_cast.py) -/
set_option maxRecDepth 100000
section CASTS
variable {D : va_G} {cA : Nat → ClassId}
/-- what is at hand in a method that may throw -/
def tPc (D : va_G) (cA : Nat → ClassId) (av : List Value) (ws : va_W) (sz : Nat) : Array Value → State → Prop := va_Pc av (fun U => U.heap.size = sz ∧ va_P D cls ws U.heap ∧ va_K D cls (tyL cA) U ∧ TWs U ∧ EH (fun q => sz ≤ q) U)
def tXC (E0 : String) (sz : Nat) : String → State → State → Prop := fun E st t => E = E0 ∧ va_F (fun q => sz ≤ q) st t
def rmT : Room := { frames := 8, cells := 3, slots := 1010, locals := 10400 }
theorem yX0_castToOne_0_X12 (l : Launch) {a : Nat} {fs : List Value} : rMet l yX0_castToOne cX0_castToOne 2 (some (.object "PerilSeat$One")) (cR 0 0 0) [.ref a, .int 0] D cA [(a, .inr (8, fs))] (some (.ref a)) := by
  refine rMet_of (by decide +kernel) (Nat.le_of_ble_eq_true rfl) (fun {p e s m args below meth c ls} X Y hl => ?_)
  have hx := X.1.1
  have hb := X.1.2.1
  have hl : lv_has ls 2 [(0, .ref a), (1, .int 0)] := hl
  refine lv_iload_n hx hb dX0_castToOne_0 rfl (lv_at hl 1 rfl) ?_
  refine lv_tableIn (x := 0) (tgt := 28) hx hb dX0_castToOne_1 (by decide) (by decide) (show _ = some (27 : Int) from rfl) (by decide) ?_
  refine lv_aload_n hx hb dX0_castToOne_28 rfl (lv_at hl 0 rfl) ?_
  refine va_castY (C := RX12) (nm := "PerilSeat$One") (own := RX0) hx hb X.1.2.2.2.1 (X.1.2.2.2.2.1 _ q154) (X.2.2.1 ("PerilSeat$Knight", "PerilSeat$One") (by decide)) (va_recv X.2.1 Y.1 (ci := 8) (q0 := 0) (q := (RX12, TX12, 2)) rfl rfl) dX0_castToOne_29 ?_
  exact r_aret X.1 Y.2 (Or.inl ⟨_, rfl⟩) dX0_castToOne_32
theorem yX0_castToOne_0_X13 (l : Launch) {a : Nat} {fs : List Value} : rMet l yX0_castToOne cX0_castToOne 2 (some (.object "PerilSeat$One")) (cR 0 0 0) [.ref a, .int 0] D cA [(a, .inr (9, fs))] (some (.ref a)) := by
  refine rMet_of (by decide +kernel) (Nat.le_of_ble_eq_true rfl) (fun {p e s m args below meth c ls} X Y hl => ?_)
  have hx := X.1.1
  have hb := X.1.2.1
  have hl : lv_has ls 2 [(0, .ref a), (1, .int 0)] := hl
  refine lv_iload_n hx hb dX0_castToOne_0 rfl (lv_at hl 1 rfl) ?_
  refine lv_tableIn (x := 0) (tgt := 28) hx hb dX0_castToOne_1 (by decide) (by decide) (show _ = some (27 : Int) from rfl) (by decide) ?_
  refine lv_aload_n hx hb dX0_castToOne_28 rfl (lv_at hl 0 rfl) ?_
  refine va_castY (C := RX13) (nm := "PerilSeat$One") (own := RX0) hx hb X.1.2.2.2.1 (X.1.2.2.2.2.1 _ q154) (X.2.2.1 ("PerilSeat$Squire", "PerilSeat$One") (by decide)) (va_recv X.2.1 Y.1 (ci := 9) (q0 := 0) (q := (RX13, TX13, 2)) rfl rfl) dX0_castToOne_29 ?_
  exact r_aret X.1 Y.2 (Or.inl ⟨_, rfl⟩) dX0_castToOne_32
theorem yX0_castToOne_0_X14 (l : Launch) {a : Nat} {fs : List Value} : rMet l yX0_castToOne cX0_castToOne 2 (some (.object "PerilSeat$One")) (cR 0 0 0) [.ref a, .int 0] D cA [(a, .inr (10, fs))] (some (.ref a)) := by
  refine rMet_of (by decide +kernel) (Nat.le_of_ble_eq_true rfl) (fun {p e s m args below meth c ls} X Y hl => ?_)
  have hx := X.1.1
  have hb := X.1.2.1
  have hl : lv_has ls 2 [(0, .ref a), (1, .int 0)] := hl
  refine lv_iload_n hx hb dX0_castToOne_0 rfl (lv_at hl 1 rfl) ?_
  refine lv_tableIn (x := 0) (tgt := 28) hx hb dX0_castToOne_1 (by decide) (by decide) (show _ = some (27 : Int) from rfl) (by decide) ?_
  refine lv_aload_n hx hb dX0_castToOne_28 rfl (lv_at hl 0 rfl) ?_
  refine va_castY (C := RX14) (nm := "PerilSeat$One") (own := RX0) hx hb X.1.2.2.2.1 (X.1.2.2.2.2.1 _ q154) (X.2.2.1 ("PerilSeat$King", "PerilSeat$One") (by decide)) (va_recv X.2.1 Y.1 (ci := 10) (q0 := 0) (q := (RX14, TX14, 2)) rfl rfl) dX0_castToOne_29 ?_
  exact r_aret X.1 Y.2 (Or.inl ⟨_, rfl⟩) dX0_castToOne_32
theorem yX0_castToOne_1_X12 (l : Launch) {a : Nat} {fs : List Value} : rMet l yX0_castToOne cX0_castToOne 2 (some (.object "PerilSeat$One")) (cR 0 0 0) [.ref a, .int 1] D cA [(a, .inr (8, fs))] (some (.ref a)) := by
  refine rMet_of (by decide +kernel) (Nat.le_of_ble_eq_true rfl) (fun {p e s m args below meth c ls} X Y hl => ?_)
  have hx := X.1.1
  have hb := X.1.2.1
  have hl : lv_has ls 2 [(0, .ref a), (1, .int 1)] := hl
  refine lv_iload_n hx hb dX0_castToOne_0 rfl (lv_at hl 1 rfl) ?_
  refine lv_tableIn (x := 1) (tgt := 33) hx hb dX0_castToOne_1 (by decide) (by decide) (show _ = some (32 : Int) from rfl) (by decide) ?_
  refine lv_aload_n hx hb dX0_castToOne_33 rfl (lv_at hl 0 rfl) ?_
  refine va_castS (nm := "PerilSeat$Knight") (own := RX0) hx hb X.1.2.2.2.1 (X.1.2.2.2.2.1 _ q717) (X.2.1.1 8 (RX12, TX12, 2) rfl).2 (va_recv X.2.1 Y.1 (ci := 8) (q0 := 0) (q := (RX12, TX12, 2)) rfl rfl) dX0_castToOne_34 ?_
  exact r_aret X.1 Y.2 (Or.inl ⟨_, rfl⟩) dX0_castToOne_37
theorem nX0_castToOne_1_X13 (l : Launch) (hfl : l.flags = flags0) {a sz : Nat} {fs : List Value} : vx_Met l yX0_castToOne (ws_ yX0_castToOne cX0_castToOne 2 (some (.object "PerilSeat$One"))) rmT (tPc D cA [.ref a, .int 1] [(a, .inr (9, fs))] sz) (fun _ _ _ _ => False) (tXC "java/lang/ClassCastException" sz) 3 1010 (fun q => sz ≤ q) := by
  refine vx_ofW (cc := cX0_castToOne) (maxL := 2) (ret := some (.object "PerilSeat$One")) (by decide +kernel) rfl ?_
  intro p e s m args below meth c s₁ B hml htab hv
  obtain ⟨rfl, hsz, hP, hK, hT, hE⟩ := hv
  subst hsz
  have hts := atoms_spec (ws := ws_ yX0_castToOne cX0_castToOne 2 (some (.object "PerilSeat$One"))) B.pre
  have hts : ∀ w ∈ lw_all, w.before _ s = true := fun w h => hts w (List.mem_cons_of_mem _ h)
  have hx := B.exec
  have hb := B.bytes
  have hown : s.vm.findClass "PerilSeat" = some m.cls := findClass_of_methodNamed B.named
  rw [lg_entry_eq]
  have hl := lv_entry ([.ref a, .int 1]) (n := 2) (Nat.le_of_ble_eq_true rfl)
  generalize (lg_sl ([.ref a, .int 1]) ++ List.replicate (2 - (lg_sl ([.ref a, .int 1])).length) Slot.unset).toArray = ls at hl ⊢
  have hl : lv_has ls 2 [(0, .ref a), (1, .int 1)] := hl
  have hS : va_S (fun q => s.heap.size ≤ q) s.heap s.heap [] := va_S.rf
  refine lv_iload_n hx hb dX0_castToOne_0 rfl (lv_at hl 1 rfl) ?_
  refine lv_tableIn (x := 1) (tgt := 33) hx hb dX0_castToOne_1 (by decide) (by decide) (show _ = some (32 : Int) from rfl) (by decide) ?_
  refine lv_aload_n hx hb dX0_castToOne_33 rfl (lv_at hl 0 rfl) ?_
  have hq : ("PerilSeat$Squire", "PerilSeat$Knight") ∈ DWn := by decide
  refine vx_castNo (own := "PerilSeat") (C := "PerilSeat$Squire") (nm := "PerilSeat$Knight") hx hb hown (hts _ q717) hq (hT.2.2.2.2.2.2.2.2.1 _ hq) hT.2.2.2.2.2.2.2.2.2.2 (va_recv hK hP (ci := 9) (q0 := 0) (q := (RX13, TX13, 2)) rfl rfl) dX0_castToOne_34 (fun t ht => ?_)
  obtain ⟨t1, t2⟩ := ctxs_ok _ hq t ht
  refine vx_vm (nb := 1000) (names := chC) hx (st_off hfl) (by decide +kernel) (by decide +kernel) (by decide) (by decide) (words_cce hts hT) good_cce hE.1 hE.2 hS (hl.1.trans hml.symm) t1 t2 (Nat.le_refl _) (by decide) (Nat.le_of_ble_eq_true rfl) (by decide) (by decide) (by decide) B.notSynchronized (fun H1 q9 ce hz hk hS1 hce hv hcl => ?_)
  exact vx_out (E := "java/lang/ClassCastException") (fun x hx => (htab x hx).elim) B.notSynchronized hce hv hcl (fun t ht _ => ⟨rfl, by rw [ht]; exact hz, fun q hq _ => by rw [ht]; exact hk q hq⟩) hS1.2.2 (by decide) (by decide)
theorem yX0_castToOne_1_X14 (l : Launch) {a : Nat} {fs : List Value} : rMet l yX0_castToOne cX0_castToOne 2 (some (.object "PerilSeat$One")) (cR 0 0 0) [.ref a, .int 1] D cA [(a, .inr (10, fs))] (some (.ref a)) := by
  refine rMet_of (by decide +kernel) (Nat.le_of_ble_eq_true rfl) (fun {p e s m args below meth c ls} X Y hl => ?_)
  have hx := X.1.1
  have hb := X.1.2.1
  have hl : lv_has ls 2 [(0, .ref a), (1, .int 1)] := hl
  refine lv_iload_n hx hb dX0_castToOne_0 rfl (lv_at hl 1 rfl) ?_
  refine lv_tableIn (x := 1) (tgt := 33) hx hb dX0_castToOne_1 (by decide) (by decide) (show _ = some (32 : Int) from rfl) (by decide) ?_
  refine lv_aload_n hx hb dX0_castToOne_33 rfl (lv_at hl 0 rfl) ?_
  refine va_castY (C := RX14) (nm := "PerilSeat$Knight") (own := RX0) hx hb X.1.2.2.2.1 (X.1.2.2.2.2.1 _ q717) (X.2.2.1 ("PerilSeat$King", "PerilSeat$Knight") (by decide)) (va_recv X.2.1 Y.1 (ci := 10) (q0 := 0) (q := (RX14, TX14, 2)) rfl rfl) dX0_castToOne_34 ?_
  exact r_aret X.1 Y.2 (Or.inl ⟨_, rfl⟩) dX0_castToOne_37
theorem nX0_castToOne_2_X12 (l : Launch) (hfl : l.flags = flags0) {a sz : Nat} {fs : List Value} : vx_Met l yX0_castToOne (ws_ yX0_castToOne cX0_castToOne 2 (some (.object "PerilSeat$One"))) rmT (tPc D cA [.ref a, .int 2] [(a, .inr (8, fs))] sz) (fun _ _ _ _ => False) (tXC "java/lang/ClassCastException" sz) 3 1010 (fun q => sz ≤ q) := by
  refine vx_ofW (cc := cX0_castToOne) (maxL := 2) (ret := some (.object "PerilSeat$One")) (by decide +kernel) rfl ?_
  intro p e s m args below meth c s₁ B hml htab hv
  obtain ⟨rfl, hsz, hP, hK, hT, hE⟩ := hv
  subst hsz
  have hts := atoms_spec (ws := ws_ yX0_castToOne cX0_castToOne 2 (some (.object "PerilSeat$One"))) B.pre
  have hts : ∀ w ∈ lw_all, w.before _ s = true := fun w h => hts w (List.mem_cons_of_mem _ h)
  have hx := B.exec
  have hb := B.bytes
  have hown : s.vm.findClass "PerilSeat" = some m.cls := findClass_of_methodNamed B.named
  rw [lg_entry_eq]
  have hl := lv_entry ([.ref a, .int 2]) (n := 2) (Nat.le_of_ble_eq_true rfl)
  generalize (lg_sl ([.ref a, .int 2]) ++ List.replicate (2 - (lg_sl ([.ref a, .int 2])).length) Slot.unset).toArray = ls at hl ⊢
  have hl : lv_has ls 2 [(0, .ref a), (1, .int 2)] := hl
  have hS : va_S (fun q => s.heap.size ≤ q) s.heap s.heap [] := va_S.rf
  refine lv_iload_n hx hb dX0_castToOne_0 rfl (lv_at hl 1 rfl) ?_
  refine lv_tableIn (x := 2) (tgt := 38) hx hb dX0_castToOne_1 (by decide) (by decide) (show _ = some (37 : Int) from rfl) (by decide) ?_
  refine lv_aload_n hx hb dX0_castToOne_38 rfl (lv_at hl 0 rfl) ?_
  have hq : ("PerilSeat$Knight", "PerilSeat$Squire") ∈ DWn := by decide
  refine vx_castNo (own := "PerilSeat") (C := "PerilSeat$Knight") (nm := "PerilSeat$Squire") hx hb hown (hts _ q735) hq (hT.2.2.2.2.2.2.2.2.1 _ hq) hT.2.2.2.2.2.2.2.2.2.2 (va_recv hK hP (ci := 8) (q0 := 0) (q := (RX12, TX12, 2)) rfl rfl) dX0_castToOne_39 (fun t ht => ?_)
  obtain ⟨t1, t2⟩ := ctxs_ok _ hq t ht
  refine vx_vm (nb := 1000) (names := chC) hx (st_off hfl) (by decide +kernel) (by decide +kernel) (by decide) (by decide) (words_cce hts hT) good_cce hE.1 hE.2 hS (hl.1.trans hml.symm) t1 t2 (Nat.le_refl _) (by decide) (Nat.le_of_ble_eq_true rfl) (by decide) (by decide) (by decide) B.notSynchronized (fun H1 q9 ce hz hk hS1 hce hv hcl => ?_)
  exact vx_out (E := "java/lang/ClassCastException") (fun x hx => (htab x hx).elim) B.notSynchronized hce hv hcl (fun t ht _ => ⟨rfl, by rw [ht]; exact hz, fun q hq _ => by rw [ht]; exact hk q hq⟩) hS1.2.2 (by decide) (by decide)
theorem yX0_castToOne_2_X13 (l : Launch) {a : Nat} {fs : List Value} : rMet l yX0_castToOne cX0_castToOne 2 (some (.object "PerilSeat$One")) (cR 0 0 0) [.ref a, .int 2] D cA [(a, .inr (9, fs))] (some (.ref a)) := by
  refine rMet_of (by decide +kernel) (Nat.le_of_ble_eq_true rfl) (fun {p e s m args below meth c ls} X Y hl => ?_)
  have hx := X.1.1
  have hb := X.1.2.1
  have hl : lv_has ls 2 [(0, .ref a), (1, .int 2)] := hl
  refine lv_iload_n hx hb dX0_castToOne_0 rfl (lv_at hl 1 rfl) ?_
  refine lv_tableIn (x := 2) (tgt := 38) hx hb dX0_castToOne_1 (by decide) (by decide) (show _ = some (37 : Int) from rfl) (by decide) ?_
  refine lv_aload_n hx hb dX0_castToOne_38 rfl (lv_at hl 0 rfl) ?_
  refine va_castS (nm := "PerilSeat$Squire") (own := RX0) hx hb X.1.2.2.2.1 (X.1.2.2.2.2.1 _ q735) (X.2.1.1 9 (RX13, TX13, 2) rfl).2 (va_recv X.2.1 Y.1 (ci := 9) (q0 := 0) (q := (RX13, TX13, 2)) rfl rfl) dX0_castToOne_39 ?_
  exact r_aret X.1 Y.2 (Or.inl ⟨_, rfl⟩) dX0_castToOne_42
theorem nX0_castToOne_2_X14 (l : Launch) (hfl : l.flags = flags0) {a sz : Nat} {fs : List Value} : vx_Met l yX0_castToOne (ws_ yX0_castToOne cX0_castToOne 2 (some (.object "PerilSeat$One"))) rmT (tPc D cA [.ref a, .int 2] [(a, .inr (10, fs))] sz) (fun _ _ _ _ => False) (tXC "java/lang/ClassCastException" sz) 3 1010 (fun q => sz ≤ q) := by
  refine vx_ofW (cc := cX0_castToOne) (maxL := 2) (ret := some (.object "PerilSeat$One")) (by decide +kernel) rfl ?_
  intro p e s m args below meth c s₁ B hml htab hv
  obtain ⟨rfl, hsz, hP, hK, hT, hE⟩ := hv
  subst hsz
  have hts := atoms_spec (ws := ws_ yX0_castToOne cX0_castToOne 2 (some (.object "PerilSeat$One"))) B.pre
  have hts : ∀ w ∈ lw_all, w.before _ s = true := fun w h => hts w (List.mem_cons_of_mem _ h)
  have hx := B.exec
  have hb := B.bytes
  have hown : s.vm.findClass "PerilSeat" = some m.cls := findClass_of_methodNamed B.named
  rw [lg_entry_eq]
  have hl := lv_entry ([.ref a, .int 2]) (n := 2) (Nat.le_of_ble_eq_true rfl)
  generalize (lg_sl ([.ref a, .int 2]) ++ List.replicate (2 - (lg_sl ([.ref a, .int 2])).length) Slot.unset).toArray = ls at hl ⊢
  have hl : lv_has ls 2 [(0, .ref a), (1, .int 2)] := hl
  have hS : va_S (fun q => s.heap.size ≤ q) s.heap s.heap [] := va_S.rf
  refine lv_iload_n hx hb dX0_castToOne_0 rfl (lv_at hl 1 rfl) ?_
  refine lv_tableIn (x := 2) (tgt := 38) hx hb dX0_castToOne_1 (by decide) (by decide) (show _ = some (37 : Int) from rfl) (by decide) ?_
  refine lv_aload_n hx hb dX0_castToOne_38 rfl (lv_at hl 0 rfl) ?_
  have hq : ("PerilSeat$King", "PerilSeat$Squire") ∈ DWn := by decide
  refine vx_castNo (own := "PerilSeat") (C := "PerilSeat$King") (nm := "PerilSeat$Squire") hx hb hown (hts _ q735) hq (hT.2.2.2.2.2.2.2.2.1 _ hq) hT.2.2.2.2.2.2.2.2.2.2 (va_recv hK hP (ci := 10) (q0 := 0) (q := (RX14, TX14, 2)) rfl rfl) dX0_castToOne_39 (fun t ht => ?_)
  obtain ⟨t1, t2⟩ := ctxs_ok _ hq t ht
  refine vx_vm (nb := 1000) (names := chC) hx (st_off hfl) (by decide +kernel) (by decide +kernel) (by decide) (by decide) (words_cce hts hT) good_cce hE.1 hE.2 hS (hl.1.trans hml.symm) t1 t2 (Nat.le_refl _) (by decide) (Nat.le_of_ble_eq_true rfl) (by decide) (by decide) (by decide) B.notSynchronized (fun H1 q9 ce hz hk hS1 hce hv hcl => ?_)
  exact vx_out (E := "java/lang/ClassCastException") (fun x hx => (htab x hx).elim) B.notSynchronized hce hv hcl (fun t ht _ => ⟨rfl, by rw [ht]; exact hz, fun q hq _ => by rw [ht]; exact hk q hq⟩) hS1.2.2 (by decide) (by decide)
theorem nX0_castToOne_3_X12 (l : Launch) (hfl : l.flags = flags0) {a sz : Nat} {fs : List Value} : vx_Met l yX0_castToOne (ws_ yX0_castToOne cX0_castToOne 2 (some (.object "PerilSeat$One"))) rmT (tPc D cA [.ref a, .int 3] [(a, .inr (8, fs))] sz) (fun _ _ _ _ => False) (tXC "java/lang/ClassCastException" sz) 3 1010 (fun q => sz ≤ q) := by
  refine vx_ofW (cc := cX0_castToOne) (maxL := 2) (ret := some (.object "PerilSeat$One")) (by decide +kernel) rfl ?_
  intro p e s m args below meth c s₁ B hml htab hv
  obtain ⟨rfl, hsz, hP, hK, hT, hE⟩ := hv
  subst hsz
  have hts := atoms_spec (ws := ws_ yX0_castToOne cX0_castToOne 2 (some (.object "PerilSeat$One"))) B.pre
  have hts : ∀ w ∈ lw_all, w.before _ s = true := fun w h => hts w (List.mem_cons_of_mem _ h)
  have hx := B.exec
  have hb := B.bytes
  have hown : s.vm.findClass "PerilSeat" = some m.cls := findClass_of_methodNamed B.named
  rw [lg_entry_eq]
  have hl := lv_entry ([.ref a, .int 3]) (n := 2) (Nat.le_of_ble_eq_true rfl)
  generalize (lg_sl ([.ref a, .int 3]) ++ List.replicate (2 - (lg_sl ([.ref a, .int 3])).length) Slot.unset).toArray = ls at hl ⊢
  have hl : lv_has ls 2 [(0, .ref a), (1, .int 3)] := hl
  have hS : va_S (fun q => s.heap.size ≤ q) s.heap s.heap [] := va_S.rf
  refine lv_iload_n hx hb dX0_castToOne_0 rfl (lv_at hl 1 rfl) ?_
  refine lv_tableOut (x := 3) (tgt := 43) hx hb dX0_castToOne_1 (by decide) (by decide) ?_
  refine lv_aload_n hx hb dX0_castToOne_43 rfl (lv_at hl 0 rfl) ?_
  have hq : ("PerilSeat$Knight", "PerilSeat$King") ∈ DWn := by decide
  refine vx_castNo (own := "PerilSeat") (C := "PerilSeat$Knight") (nm := "PerilSeat$King") hx hb hown (hts _ q744) hq (hT.2.2.2.2.2.2.2.2.1 _ hq) hT.2.2.2.2.2.2.2.2.2.2 (va_recv hK hP (ci := 8) (q0 := 0) (q := (RX12, TX12, 2)) rfl rfl) dX0_castToOne_44 (fun t ht => ?_)
  obtain ⟨t1, t2⟩ := ctxs_ok _ hq t ht
  refine vx_vm (nb := 1000) (names := chC) hx (st_off hfl) (by decide +kernel) (by decide +kernel) (by decide) (by decide) (words_cce hts hT) good_cce hE.1 hE.2 hS (hl.1.trans hml.symm) t1 t2 (Nat.le_refl _) (by decide) (Nat.le_of_ble_eq_true rfl) (by decide) (by decide) (by decide) B.notSynchronized (fun H1 q9 ce hz hk hS1 hce hv hcl => ?_)
  exact vx_out (E := "java/lang/ClassCastException") (fun x hx => (htab x hx).elim) B.notSynchronized hce hv hcl (fun t ht _ => ⟨rfl, by rw [ht]; exact hz, fun q hq _ => by rw [ht]; exact hk q hq⟩) hS1.2.2 (by decide) (by decide)
theorem nX0_castToOne_3_X13 (l : Launch) (hfl : l.flags = flags0) {a sz : Nat} {fs : List Value} : vx_Met l yX0_castToOne (ws_ yX0_castToOne cX0_castToOne 2 (some (.object "PerilSeat$One"))) rmT (tPc D cA [.ref a, .int 3] [(a, .inr (9, fs))] sz) (fun _ _ _ _ => False) (tXC "java/lang/ClassCastException" sz) 3 1010 (fun q => sz ≤ q) := by
  refine vx_ofW (cc := cX0_castToOne) (maxL := 2) (ret := some (.object "PerilSeat$One")) (by decide +kernel) rfl ?_
  intro p e s m args below meth c s₁ B hml htab hv
  obtain ⟨rfl, hsz, hP, hK, hT, hE⟩ := hv
  subst hsz
  have hts := atoms_spec (ws := ws_ yX0_castToOne cX0_castToOne 2 (some (.object "PerilSeat$One"))) B.pre
  have hts : ∀ w ∈ lw_all, w.before _ s = true := fun w h => hts w (List.mem_cons_of_mem _ h)
  have hx := B.exec
  have hb := B.bytes
  have hown : s.vm.findClass "PerilSeat" = some m.cls := findClass_of_methodNamed B.named
  rw [lg_entry_eq]
  have hl := lv_entry ([.ref a, .int 3]) (n := 2) (Nat.le_of_ble_eq_true rfl)
  generalize (lg_sl ([.ref a, .int 3]) ++ List.replicate (2 - (lg_sl ([.ref a, .int 3])).length) Slot.unset).toArray = ls at hl ⊢
  have hl : lv_has ls 2 [(0, .ref a), (1, .int 3)] := hl
  have hS : va_S (fun q => s.heap.size ≤ q) s.heap s.heap [] := va_S.rf
  refine lv_iload_n hx hb dX0_castToOne_0 rfl (lv_at hl 1 rfl) ?_
  refine lv_tableOut (x := 3) (tgt := 43) hx hb dX0_castToOne_1 (by decide) (by decide) ?_
  refine lv_aload_n hx hb dX0_castToOne_43 rfl (lv_at hl 0 rfl) ?_
  have hq : ("PerilSeat$Squire", "PerilSeat$King") ∈ DWn := by decide
  refine vx_castNo (own := "PerilSeat") (C := "PerilSeat$Squire") (nm := "PerilSeat$King") hx hb hown (hts _ q744) hq (hT.2.2.2.2.2.2.2.2.1 _ hq) hT.2.2.2.2.2.2.2.2.2.2 (va_recv hK hP (ci := 9) (q0 := 0) (q := (RX13, TX13, 2)) rfl rfl) dX0_castToOne_44 (fun t ht => ?_)
  obtain ⟨t1, t2⟩ := ctxs_ok _ hq t ht
  refine vx_vm (nb := 1000) (names := chC) hx (st_off hfl) (by decide +kernel) (by decide +kernel) (by decide) (by decide) (words_cce hts hT) good_cce hE.1 hE.2 hS (hl.1.trans hml.symm) t1 t2 (Nat.le_refl _) (by decide) (Nat.le_of_ble_eq_true rfl) (by decide) (by decide) (by decide) B.notSynchronized (fun H1 q9 ce hz hk hS1 hce hv hcl => ?_)
  exact vx_out (E := "java/lang/ClassCastException") (fun x hx => (htab x hx).elim) B.notSynchronized hce hv hcl (fun t ht _ => ⟨rfl, by rw [ht]; exact hz, fun q hq _ => by rw [ht]; exact hk q hq⟩) hS1.2.2 (by decide) (by decide)
theorem yX0_castToOne_3_X14 (l : Launch) {a : Nat} {fs : List Value} : rMet l yX0_castToOne cX0_castToOne 2 (some (.object "PerilSeat$One")) (cR 0 0 0) [.ref a, .int 3] D cA [(a, .inr (10, fs))] (some (.ref a)) := by
  refine rMet_of (by decide +kernel) (Nat.le_of_ble_eq_true rfl) (fun {p e s m args below meth c ls} X Y hl => ?_)
  have hx := X.1.1
  have hb := X.1.2.1
  have hl : lv_has ls 2 [(0, .ref a), (1, .int 3)] := hl
  refine lv_iload_n hx hb dX0_castToOne_0 rfl (lv_at hl 1 rfl) ?_
  refine lv_tableOut (x := 3) (tgt := 43) hx hb dX0_castToOne_1 (by decide) (by decide) ?_
  refine lv_aload_n hx hb dX0_castToOne_43 rfl (lv_at hl 0 rfl) ?_
  refine va_castS (nm := "PerilSeat$King") (own := RX0) hx hb X.1.2.2.2.1 (X.1.2.2.2.2.1 _ q744) (X.2.1.1 10 (RX14, TX14, 2) rfl).2 (va_recv X.2.1 Y.1 (ci := 10) (q0 := 0) (q := (RX14, TX14, 2)) rfl rfl) dX0_castToOne_44 ?_
  exact r_aret X.1 Y.2 (Or.inl ⟨_, rfl⟩) dX0_castToOne_47
theorem yX0_castToName_0_X6 (l : Launch) {a : Nat} {fs : List Value} : rMet l yX0_castToName cX0_castToName 2 (some (.object "PerilSeat$Name")) (cR 0 0 0) [.ref a, .int 0] D cA [(a, .inr (3, fs))] (some (.ref a)) := by
  refine rMet_of (by decide +kernel) (Nat.le_of_ble_eq_true rfl) (fun {p e s m args below meth c ls} X Y hl => ?_)
  have hx := X.1.1
  have hb := X.1.2.1
  have hl : lv_has ls 2 [(0, .ref a), (1, .int 0)] := hl
  refine lv_iload_n hx hb dX0_castToName_0 rfl (lv_at hl 1 rfl) ?_
  refine lv_tableIn (x := 0) (tgt := 36) hx hb dX0_castToName_1 (by decide) (by decide) (show _ = some (35 : Int) from rfl) (by decide) ?_
  refine lv_aload_n hx hb dX0_castToName_36 rfl (lv_at hl 0 rfl) ?_
  refine va_castY (C := RX6) (nm := "PerilSeat$Name") (own := RX0) hx hb X.1.2.2.2.1 (X.1.2.2.2.2.1 _ q765) (X.2.2.1 ("PerilSeat$Open", "PerilSeat$Name") (by decide)) (va_recv X.2.1 Y.1 (ci := 3) (q0 := 0) (q := (RX6, TX6, 1)) rfl rfl) dX0_castToName_37 ?_
  exact r_aret X.1 Y.2 (Or.inl ⟨_, rfl⟩) dX0_castToName_40
theorem yX0_castToName_0_X7 (l : Launch) {a : Nat} {fs : List Value} : rMet l yX0_castToName cX0_castToName 2 (some (.object "PerilSeat$Name")) (cR 0 0 0) [.ref a, .int 0] D cA [(a, .inr (4, fs))] (some (.ref a)) := by
  refine rMet_of (by decide +kernel) (Nat.le_of_ble_eq_true rfl) (fun {p e s m args below meth c ls} X Y hl => ?_)
  have hx := X.1.1
  have hb := X.1.2.1
  have hl : lv_has ls 2 [(0, .ref a), (1, .int 0)] := hl
  refine lv_iload_n hx hb dX0_castToName_0 rfl (lv_at hl 1 rfl) ?_
  refine lv_tableIn (x := 0) (tgt := 36) hx hb dX0_castToName_1 (by decide) (by decide) (show _ = some (35 : Int) from rfl) (by decide) ?_
  refine lv_aload_n hx hb dX0_castToName_36 rfl (lv_at hl 0 rfl) ?_
  refine va_castY (C := RX7) (nm := "PerilSeat$Name") (own := RX0) hx hb X.1.2.2.2.1 (X.1.2.2.2.2.1 _ q765) (X.2.2.1 ("PerilSeat$Gold", "PerilSeat$Name") (by decide)) (va_recv X.2.1 Y.1 (ci := 4) (q0 := 0) (q := (RX7, TX7, 1)) rfl rfl) dX0_castToName_37 ?_
  exact r_aret X.1 Y.2 (Or.inl ⟨_, rfl⟩) dX0_castToName_40
theorem yX0_castToName_0_X8 (l : Launch) {a : Nat} {fs : List Value} : rMet l yX0_castToName cX0_castToName 2 (some (.object "PerilSeat$Name")) (cR 0 0 0) [.ref a, .int 0] D cA [(a, .inr (5, fs))] (some (.ref a)) := by
  refine rMet_of (by decide +kernel) (Nat.le_of_ble_eq_true rfl) (fun {p e s m args below meth c ls} X Y hl => ?_)
  have hx := X.1.1
  have hb := X.1.2.1
  have hl : lv_has ls 2 [(0, .ref a), (1, .int 0)] := hl
  refine lv_iload_n hx hb dX0_castToName_0 rfl (lv_at hl 1 rfl) ?_
  refine lv_tableIn (x := 0) (tgt := 36) hx hb dX0_castToName_1 (by decide) (by decide) (show _ = some (35 : Int) from rfl) (by decide) ?_
  refine lv_aload_n hx hb dX0_castToName_36 rfl (lv_at hl 0 rfl) ?_
  refine va_castY (C := RX8) (nm := "PerilSeat$Name") (own := RX0) hx hb X.1.2.2.2.1 (X.1.2.2.2.2.1 _ q765) (X.2.2.1 ("PerilSeat$Meek", "PerilSeat$Name") (by decide)) (va_recv X.2.1 Y.1 (ci := 5) (q0 := 0) (q := (RX8, TX8, 1)) rfl rfl) dX0_castToName_37 ?_
  exact r_aret X.1 Y.2 (Or.inl ⟨_, rfl⟩) dX0_castToName_40
theorem yX0_castToName_0_X9 (l : Launch) {a : Nat} {fs : List Value} : rMet l yX0_castToName cX0_castToName 2 (some (.object "PerilSeat$Name")) (cR 0 0 0) [.ref a, .int 0] D cA [(a, .inr (6, fs))] (some (.ref a)) := by
  refine rMet_of (by decide +kernel) (Nat.le_of_ble_eq_true rfl) (fun {p e s m args below meth c ls} X Y hl => ?_)
  have hx := X.1.1
  have hb := X.1.2.1
  have hl : lv_has ls 2 [(0, .ref a), (1, .int 0)] := hl
  refine lv_iload_n hx hb dX0_castToName_0 rfl (lv_at hl 1 rfl) ?_
  refine lv_tableIn (x := 0) (tgt := 36) hx hb dX0_castToName_1 (by decide) (by decide) (show _ = some (35 : Int) from rfl) (by decide) ?_
  refine lv_aload_n hx hb dX0_castToName_36 rfl (lv_at hl 0 rfl) ?_
  refine va_castY (C := RX9) (nm := "PerilSeat$Name") (own := RX0) hx hb X.1.2.2.2.1 (X.1.2.2.2.2.1 _ q765) (X.2.2.1 ("PerilSeat$Kin", "PerilSeat$Name") (by decide)) (va_recv X.2.1 Y.1 (ci := 6) (q0 := 0) (q := (RX9, TX9, 1)) rfl rfl) dX0_castToName_37 ?_
  exact r_aret X.1 Y.2 (Or.inl ⟨_, rfl⟩) dX0_castToName_40
theorem yX0_castToName_0_X10 (l : Launch) {a : Nat} {fs : List Value} : rMet l yX0_castToName cX0_castToName 2 (some (.object "PerilSeat$Name")) (cR 0 0 0) [.ref a, .int 0] D cA [(a, .inr (7, fs))] (some (.ref a)) := by
  refine rMet_of (by decide +kernel) (Nat.le_of_ble_eq_true rfl) (fun {p e s m args below meth c ls} X Y hl => ?_)
  have hx := X.1.1
  have hb := X.1.2.1
  have hl : lv_has ls 2 [(0, .ref a), (1, .int 0)] := hl
  refine lv_iload_n hx hb dX0_castToName_0 rfl (lv_at hl 1 rfl) ?_
  refine lv_tableIn (x := 0) (tgt := 36) hx hb dX0_castToName_1 (by decide) (by decide) (show _ = some (35 : Int) from rfl) (by decide) ?_
  refine lv_aload_n hx hb dX0_castToName_36 rfl (lv_at hl 0 rfl) ?_
  refine va_castY (C := RX10) (nm := "PerilSeat$Name") (own := RX0) hx hb X.1.2.2.2.1 (X.1.2.2.2.2.1 _ q765) (X.2.2.1 ("PerilSeat$Mourning", "PerilSeat$Name") (by decide)) (va_recv X.2.1 Y.1 (ci := 7) (q0 := 0) (q := (RX10, TX10, 1)) rfl rfl) dX0_castToName_37 ?_
  exact r_aret X.1 Y.2 (Or.inl ⟨_, rfl⟩) dX0_castToName_40
theorem yX0_castToName_1_X6 (l : Launch) {a : Nat} {fs : List Value} : rMet l yX0_castToName cX0_castToName 2 (some (.object "PerilSeat$Name")) (cR 0 0 0) [.ref a, .int 1] D cA [(a, .inr (3, fs))] (some (.ref a)) := by
  refine rMet_of (by decide +kernel) (Nat.le_of_ble_eq_true rfl) (fun {p e s m args below meth c ls} X Y hl => ?_)
  have hx := X.1.1
  have hb := X.1.2.1
  have hl : lv_has ls 2 [(0, .ref a), (1, .int 1)] := hl
  refine lv_iload_n hx hb dX0_castToName_0 rfl (lv_at hl 1 rfl) ?_
  refine lv_tableIn (x := 1) (tgt := 41) hx hb dX0_castToName_1 (by decide) (by decide) (show _ = some (40 : Int) from rfl) (by decide) ?_
  refine lv_aload_n hx hb dX0_castToName_41 rfl (lv_at hl 0 rfl) ?_
  refine va_castS (nm := "PerilSeat$Open") (own := RX0) hx hb X.1.2.2.2.1 (X.1.2.2.2.2.1 _ q662) (X.2.1.1 3 (RX6, TX6, 1) rfl).2 (va_recv X.2.1 Y.1 (ci := 3) (q0 := 0) (q := (RX6, TX6, 1)) rfl rfl) dX0_castToName_42 ?_
  exact r_aret X.1 Y.2 (Or.inl ⟨_, rfl⟩) dX0_castToName_45
theorem yX0_castToName_1_X7 (l : Launch) {a : Nat} {fs : List Value} : rMet l yX0_castToName cX0_castToName 2 (some (.object "PerilSeat$Name")) (cR 0 0 0) [.ref a, .int 1] D cA [(a, .inr (4, fs))] (some (.ref a)) := by
  refine rMet_of (by decide +kernel) (Nat.le_of_ble_eq_true rfl) (fun {p e s m args below meth c ls} X Y hl => ?_)
  have hx := X.1.1
  have hb := X.1.2.1
  have hl : lv_has ls 2 [(0, .ref a), (1, .int 1)] := hl
  refine lv_iload_n hx hb dX0_castToName_0 rfl (lv_at hl 1 rfl) ?_
  refine lv_tableIn (x := 1) (tgt := 41) hx hb dX0_castToName_1 (by decide) (by decide) (show _ = some (40 : Int) from rfl) (by decide) ?_
  refine lv_aload_n hx hb dX0_castToName_41 rfl (lv_at hl 0 rfl) ?_
  refine va_castY (C := RX7) (nm := "PerilSeat$Open") (own := RX0) hx hb X.1.2.2.2.1 (X.1.2.2.2.2.1 _ q662) (X.2.2.1 ("PerilSeat$Gold", "PerilSeat$Open") (by decide)) (va_recv X.2.1 Y.1 (ci := 4) (q0 := 0) (q := (RX7, TX7, 1)) rfl rfl) dX0_castToName_42 ?_
  exact r_aret X.1 Y.2 (Or.inl ⟨_, rfl⟩) dX0_castToName_45
theorem yX0_castToName_1_X8 (l : Launch) {a : Nat} {fs : List Value} : rMet l yX0_castToName cX0_castToName 2 (some (.object "PerilSeat$Name")) (cR 0 0 0) [.ref a, .int 1] D cA [(a, .inr (5, fs))] (some (.ref a)) := by
  refine rMet_of (by decide +kernel) (Nat.le_of_ble_eq_true rfl) (fun {p e s m args below meth c ls} X Y hl => ?_)
  have hx := X.1.1
  have hb := X.1.2.1
  have hl : lv_has ls 2 [(0, .ref a), (1, .int 1)] := hl
  refine lv_iload_n hx hb dX0_castToName_0 rfl (lv_at hl 1 rfl) ?_
  refine lv_tableIn (x := 1) (tgt := 41) hx hb dX0_castToName_1 (by decide) (by decide) (show _ = some (40 : Int) from rfl) (by decide) ?_
  refine lv_aload_n hx hb dX0_castToName_41 rfl (lv_at hl 0 rfl) ?_
  refine va_castY (C := RX8) (nm := "PerilSeat$Open") (own := RX0) hx hb X.1.2.2.2.1 (X.1.2.2.2.2.1 _ q662) (X.2.2.1 ("PerilSeat$Meek", "PerilSeat$Open") (by decide)) (va_recv X.2.1 Y.1 (ci := 5) (q0 := 0) (q := (RX8, TX8, 1)) rfl rfl) dX0_castToName_42 ?_
  exact r_aret X.1 Y.2 (Or.inl ⟨_, rfl⟩) dX0_castToName_45
theorem nX0_castToName_1_X9 (l : Launch) (hfl : l.flags = flags0) {a sz : Nat} {fs : List Value} : vx_Met l yX0_castToName (ws_ yX0_castToName cX0_castToName 2 (some (.object "PerilSeat$Name"))) rmT (tPc D cA [.ref a, .int 1] [(a, .inr (6, fs))] sz) (fun _ _ _ _ => False) (tXC "java/lang/ClassCastException" sz) 3 1010 (fun q => sz ≤ q) := by
  refine vx_ofW (cc := cX0_castToName) (maxL := 2) (ret := some (.object "PerilSeat$Name")) (by decide +kernel) rfl ?_
  intro p e s m args below meth c s₁ B hml htab hv
  obtain ⟨rfl, hsz, hP, hK, hT, hE⟩ := hv
  subst hsz
  have hts := atoms_spec (ws := ws_ yX0_castToName cX0_castToName 2 (some (.object "PerilSeat$Name"))) B.pre
  have hts : ∀ w ∈ lw_all, w.before _ s = true := fun w h => hts w (List.mem_cons_of_mem _ h)
  have hx := B.exec
  have hb := B.bytes
  have hown : s.vm.findClass "PerilSeat" = some m.cls := findClass_of_methodNamed B.named
  rw [lg_entry_eq]
  have hl := lv_entry ([.ref a, .int 1]) (n := 2) (Nat.le_of_ble_eq_true rfl)
  generalize (lg_sl ([.ref a, .int 1]) ++ List.replicate (2 - (lg_sl ([.ref a, .int 1])).length) Slot.unset).toArray = ls at hl ⊢
  have hl : lv_has ls 2 [(0, .ref a), (1, .int 1)] := hl
  have hS : va_S (fun q => s.heap.size ≤ q) s.heap s.heap [] := va_S.rf
  refine lv_iload_n hx hb dX0_castToName_0 rfl (lv_at hl 1 rfl) ?_
  refine lv_tableIn (x := 1) (tgt := 41) hx hb dX0_castToName_1 (by decide) (by decide) (show _ = some (40 : Int) from rfl) (by decide) ?_
  refine lv_aload_n hx hb dX0_castToName_41 rfl (lv_at hl 0 rfl) ?_
  have hq : ("PerilSeat$Kin", "PerilSeat$Open") ∈ DWn := by decide
  refine vx_castNo (own := "PerilSeat") (C := "PerilSeat$Kin") (nm := "PerilSeat$Open") hx hb hown (hts _ q662) hq (hT.2.2.2.2.2.2.2.2.1 _ hq) hT.2.2.2.2.2.2.2.2.2.2 (va_recv hK hP (ci := 6) (q0 := 0) (q := (RX9, TX9, 1)) rfl rfl) dX0_castToName_42 (fun t ht => ?_)
  obtain ⟨t1, t2⟩ := ctxs_ok _ hq t ht
  refine vx_vm (nb := 1000) (names := chC) hx (st_off hfl) (by decide +kernel) (by decide +kernel) (by decide) (by decide) (words_cce hts hT) good_cce hE.1 hE.2 hS (hl.1.trans hml.symm) t1 t2 (Nat.le_refl _) (by decide) (Nat.le_of_ble_eq_true rfl) (by decide) (by decide) (by decide) B.notSynchronized (fun H1 q9 ce hz hk hS1 hce hv hcl => ?_)
  exact vx_out (E := "java/lang/ClassCastException") (fun x hx => (htab x hx).elim) B.notSynchronized hce hv hcl (fun t ht _ => ⟨rfl, by rw [ht]; exact hz, fun q hq _ => by rw [ht]; exact hk q hq⟩) hS1.2.2 (by decide) (by decide)
theorem nX0_castToName_1_X10 (l : Launch) (hfl : l.flags = flags0) {a sz : Nat} {fs : List Value} : vx_Met l yX0_castToName (ws_ yX0_castToName cX0_castToName 2 (some (.object "PerilSeat$Name"))) rmT (tPc D cA [.ref a, .int 1] [(a, .inr (7, fs))] sz) (fun _ _ _ _ => False) (tXC "java/lang/ClassCastException" sz) 3 1010 (fun q => sz ≤ q) := by
  refine vx_ofW (cc := cX0_castToName) (maxL := 2) (ret := some (.object "PerilSeat$Name")) (by decide +kernel) rfl ?_
  intro p e s m args below meth c s₁ B hml htab hv
  obtain ⟨rfl, hsz, hP, hK, hT, hE⟩ := hv
  subst hsz
  have hts := atoms_spec (ws := ws_ yX0_castToName cX0_castToName 2 (some (.object "PerilSeat$Name"))) B.pre
  have hts : ∀ w ∈ lw_all, w.before _ s = true := fun w h => hts w (List.mem_cons_of_mem _ h)
  have hx := B.exec
  have hb := B.bytes
  have hown : s.vm.findClass "PerilSeat" = some m.cls := findClass_of_methodNamed B.named
  rw [lg_entry_eq]
  have hl := lv_entry ([.ref a, .int 1]) (n := 2) (Nat.le_of_ble_eq_true rfl)
  generalize (lg_sl ([.ref a, .int 1]) ++ List.replicate (2 - (lg_sl ([.ref a, .int 1])).length) Slot.unset).toArray = ls at hl ⊢
  have hl : lv_has ls 2 [(0, .ref a), (1, .int 1)] := hl
  have hS : va_S (fun q => s.heap.size ≤ q) s.heap s.heap [] := va_S.rf
  refine lv_iload_n hx hb dX0_castToName_0 rfl (lv_at hl 1 rfl) ?_
  refine lv_tableIn (x := 1) (tgt := 41) hx hb dX0_castToName_1 (by decide) (by decide) (show _ = some (40 : Int) from rfl) (by decide) ?_
  refine lv_aload_n hx hb dX0_castToName_41 rfl (lv_at hl 0 rfl) ?_
  have hq : ("PerilSeat$Mourning", "PerilSeat$Open") ∈ DWn := by decide
  refine vx_castNo (own := "PerilSeat") (C := "PerilSeat$Mourning") (nm := "PerilSeat$Open") hx hb hown (hts _ q662) hq (hT.2.2.2.2.2.2.2.2.1 _ hq) hT.2.2.2.2.2.2.2.2.2.2 (va_recv hK hP (ci := 7) (q0 := 0) (q := (RX10, TX10, 1)) rfl rfl) dX0_castToName_42 (fun t ht => ?_)
  obtain ⟨t1, t2⟩ := ctxs_ok _ hq t ht
  refine vx_vm (nb := 1000) (names := chC) hx (st_off hfl) (by decide +kernel) (by decide +kernel) (by decide) (by decide) (words_cce hts hT) good_cce hE.1 hE.2 hS (hl.1.trans hml.symm) t1 t2 (Nat.le_refl _) (by decide) (Nat.le_of_ble_eq_true rfl) (by decide) (by decide) (by decide) B.notSynchronized (fun H1 q9 ce hz hk hS1 hce hv hcl => ?_)
  exact vx_out (E := "java/lang/ClassCastException") (fun x hx => (htab x hx).elim) B.notSynchronized hce hv hcl (fun t ht _ => ⟨rfl, by rw [ht]; exact hz, fun q hq _ => by rw [ht]; exact hk q hq⟩) hS1.2.2 (by decide) (by decide)
theorem nX0_castToName_2_X6 (l : Launch) (hfl : l.flags = flags0) {a sz : Nat} {fs : List Value} : vx_Met l yX0_castToName (ws_ yX0_castToName cX0_castToName 2 (some (.object "PerilSeat$Name"))) rmT (tPc D cA [.ref a, .int 2] [(a, .inr (3, fs))] sz) (fun _ _ _ _ => False) (tXC "java/lang/ClassCastException" sz) 3 1010 (fun q => sz ≤ q) := by
  refine vx_ofW (cc := cX0_castToName) (maxL := 2) (ret := some (.object "PerilSeat$Name")) (by decide +kernel) rfl ?_
  intro p e s m args below meth c s₁ B hml htab hv
  obtain ⟨rfl, hsz, hP, hK, hT, hE⟩ := hv
  subst hsz
  have hts := atoms_spec (ws := ws_ yX0_castToName cX0_castToName 2 (some (.object "PerilSeat$Name"))) B.pre
  have hts : ∀ w ∈ lw_all, w.before _ s = true := fun w h => hts w (List.mem_cons_of_mem _ h)
  have hx := B.exec
  have hb := B.bytes
  have hown : s.vm.findClass "PerilSeat" = some m.cls := findClass_of_methodNamed B.named
  rw [lg_entry_eq]
  have hl := lv_entry ([.ref a, .int 2]) (n := 2) (Nat.le_of_ble_eq_true rfl)
  generalize (lg_sl ([.ref a, .int 2]) ++ List.replicate (2 - (lg_sl ([.ref a, .int 2])).length) Slot.unset).toArray = ls at hl ⊢
  have hl : lv_has ls 2 [(0, .ref a), (1, .int 2)] := hl
  have hS : va_S (fun q => s.heap.size ≤ q) s.heap s.heap [] := va_S.rf
  refine lv_iload_n hx hb dX0_castToName_0 rfl (lv_at hl 1 rfl) ?_
  refine lv_tableIn (x := 2) (tgt := 46) hx hb dX0_castToName_1 (by decide) (by decide) (show _ = some (45 : Int) from rfl) (by decide) ?_
  refine lv_aload_n hx hb dX0_castToName_46 rfl (lv_at hl 0 rfl) ?_
  have hq : ("PerilSeat$Open", "PerilSeat$Gold") ∈ DWn := by decide
  refine vx_castNo (own := "PerilSeat") (C := "PerilSeat$Open") (nm := "PerilSeat$Gold") hx hb hown (hts _ q682) hq (hT.2.2.2.2.2.2.2.2.1 _ hq) hT.2.2.2.2.2.2.2.2.2.2 (va_recv hK hP (ci := 3) (q0 := 0) (q := (RX6, TX6, 1)) rfl rfl) dX0_castToName_47 (fun t ht => ?_)
  obtain ⟨t1, t2⟩ := ctxs_ok _ hq t ht
  refine vx_vm (nb := 1000) (names := chC) hx (st_off hfl) (by decide +kernel) (by decide +kernel) (by decide) (by decide) (words_cce hts hT) good_cce hE.1 hE.2 hS (hl.1.trans hml.symm) t1 t2 (Nat.le_refl _) (by decide) (Nat.le_of_ble_eq_true rfl) (by decide) (by decide) (by decide) B.notSynchronized (fun H1 q9 ce hz hk hS1 hce hv hcl => ?_)
  exact vx_out (E := "java/lang/ClassCastException") (fun x hx => (htab x hx).elim) B.notSynchronized hce hv hcl (fun t ht _ => ⟨rfl, by rw [ht]; exact hz, fun q hq _ => by rw [ht]; exact hk q hq⟩) hS1.2.2 (by decide) (by decide)
theorem yX0_castToName_2_X7 (l : Launch) {a : Nat} {fs : List Value} : rMet l yX0_castToName cX0_castToName 2 (some (.object "PerilSeat$Name")) (cR 0 0 0) [.ref a, .int 2] D cA [(a, .inr (4, fs))] (some (.ref a)) := by
  refine rMet_of (by decide +kernel) (Nat.le_of_ble_eq_true rfl) (fun {p e s m args below meth c ls} X Y hl => ?_)
  have hx := X.1.1
  have hb := X.1.2.1
  have hl : lv_has ls 2 [(0, .ref a), (1, .int 2)] := hl
  refine lv_iload_n hx hb dX0_castToName_0 rfl (lv_at hl 1 rfl) ?_
  refine lv_tableIn (x := 2) (tgt := 46) hx hb dX0_castToName_1 (by decide) (by decide) (show _ = some (45 : Int) from rfl) (by decide) ?_
  refine lv_aload_n hx hb dX0_castToName_46 rfl (lv_at hl 0 rfl) ?_
  refine va_castS (nm := "PerilSeat$Gold") (own := RX0) hx hb X.1.2.2.2.1 (X.1.2.2.2.2.1 _ q682) (X.2.1.1 4 (RX7, TX7, 1) rfl).2 (va_recv X.2.1 Y.1 (ci := 4) (q0 := 0) (q := (RX7, TX7, 1)) rfl rfl) dX0_castToName_47 ?_
  exact r_aret X.1 Y.2 (Or.inl ⟨_, rfl⟩) dX0_castToName_50
theorem nX0_castToName_2_X8 (l : Launch) (hfl : l.flags = flags0) {a sz : Nat} {fs : List Value} : vx_Met l yX0_castToName (ws_ yX0_castToName cX0_castToName 2 (some (.object "PerilSeat$Name"))) rmT (tPc D cA [.ref a, .int 2] [(a, .inr (5, fs))] sz) (fun _ _ _ _ => False) (tXC "java/lang/ClassCastException" sz) 3 1010 (fun q => sz ≤ q) := by
  refine vx_ofW (cc := cX0_castToName) (maxL := 2) (ret := some (.object "PerilSeat$Name")) (by decide +kernel) rfl ?_
  intro p e s m args below meth c s₁ B hml htab hv
  obtain ⟨rfl, hsz, hP, hK, hT, hE⟩ := hv
  subst hsz
  have hts := atoms_spec (ws := ws_ yX0_castToName cX0_castToName 2 (some (.object "PerilSeat$Name"))) B.pre
  have hts : ∀ w ∈ lw_all, w.before _ s = true := fun w h => hts w (List.mem_cons_of_mem _ h)
  have hx := B.exec
  have hb := B.bytes
  have hown : s.vm.findClass "PerilSeat" = some m.cls := findClass_of_methodNamed B.named
  rw [lg_entry_eq]
  have hl := lv_entry ([.ref a, .int 2]) (n := 2) (Nat.le_of_ble_eq_true rfl)
  generalize (lg_sl ([.ref a, .int 2]) ++ List.replicate (2 - (lg_sl ([.ref a, .int 2])).length) Slot.unset).toArray = ls at hl ⊢
  have hl : lv_has ls 2 [(0, .ref a), (1, .int 2)] := hl
  have hS : va_S (fun q => s.heap.size ≤ q) s.heap s.heap [] := va_S.rf
  refine lv_iload_n hx hb dX0_castToName_0 rfl (lv_at hl 1 rfl) ?_
  refine lv_tableIn (x := 2) (tgt := 46) hx hb dX0_castToName_1 (by decide) (by decide) (show _ = some (45 : Int) from rfl) (by decide) ?_
  refine lv_aload_n hx hb dX0_castToName_46 rfl (lv_at hl 0 rfl) ?_
  have hq : ("PerilSeat$Meek", "PerilSeat$Gold") ∈ DWn := by decide
  refine vx_castNo (own := "PerilSeat") (C := "PerilSeat$Meek") (nm := "PerilSeat$Gold") hx hb hown (hts _ q682) hq (hT.2.2.2.2.2.2.2.2.1 _ hq) hT.2.2.2.2.2.2.2.2.2.2 (va_recv hK hP (ci := 5) (q0 := 0) (q := (RX8, TX8, 1)) rfl rfl) dX0_castToName_47 (fun t ht => ?_)
  obtain ⟨t1, t2⟩ := ctxs_ok _ hq t ht
  refine vx_vm (nb := 1000) (names := chC) hx (st_off hfl) (by decide +kernel) (by decide +kernel) (by decide) (by decide) (words_cce hts hT) good_cce hE.1 hE.2 hS (hl.1.trans hml.symm) t1 t2 (Nat.le_refl _) (by decide) (Nat.le_of_ble_eq_true rfl) (by decide) (by decide) (by decide) B.notSynchronized (fun H1 q9 ce hz hk hS1 hce hv hcl => ?_)
  exact vx_out (E := "java/lang/ClassCastException") (fun x hx => (htab x hx).elim) B.notSynchronized hce hv hcl (fun t ht _ => ⟨rfl, by rw [ht]; exact hz, fun q hq _ => by rw [ht]; exact hk q hq⟩) hS1.2.2 (by decide) (by decide)
theorem nX0_castToName_2_X9 (l : Launch) (hfl : l.flags = flags0) {a sz : Nat} {fs : List Value} : vx_Met l yX0_castToName (ws_ yX0_castToName cX0_castToName 2 (some (.object "PerilSeat$Name"))) rmT (tPc D cA [.ref a, .int 2] [(a, .inr (6, fs))] sz) (fun _ _ _ _ => False) (tXC "java/lang/ClassCastException" sz) 3 1010 (fun q => sz ≤ q) := by
  refine vx_ofW (cc := cX0_castToName) (maxL := 2) (ret := some (.object "PerilSeat$Name")) (by decide +kernel) rfl ?_
  intro p e s m args below meth c s₁ B hml htab hv
  obtain ⟨rfl, hsz, hP, hK, hT, hE⟩ := hv
  subst hsz
  have hts := atoms_spec (ws := ws_ yX0_castToName cX0_castToName 2 (some (.object "PerilSeat$Name"))) B.pre
  have hts : ∀ w ∈ lw_all, w.before _ s = true := fun w h => hts w (List.mem_cons_of_mem _ h)
  have hx := B.exec
  have hb := B.bytes
  have hown : s.vm.findClass "PerilSeat" = some m.cls := findClass_of_methodNamed B.named
  rw [lg_entry_eq]
  have hl := lv_entry ([.ref a, .int 2]) (n := 2) (Nat.le_of_ble_eq_true rfl)
  generalize (lg_sl ([.ref a, .int 2]) ++ List.replicate (2 - (lg_sl ([.ref a, .int 2])).length) Slot.unset).toArray = ls at hl ⊢
  have hl : lv_has ls 2 [(0, .ref a), (1, .int 2)] := hl
  have hS : va_S (fun q => s.heap.size ≤ q) s.heap s.heap [] := va_S.rf
  refine lv_iload_n hx hb dX0_castToName_0 rfl (lv_at hl 1 rfl) ?_
  refine lv_tableIn (x := 2) (tgt := 46) hx hb dX0_castToName_1 (by decide) (by decide) (show _ = some (45 : Int) from rfl) (by decide) ?_
  refine lv_aload_n hx hb dX0_castToName_46 rfl (lv_at hl 0 rfl) ?_
  have hq : ("PerilSeat$Kin", "PerilSeat$Gold") ∈ DWn := by decide
  refine vx_castNo (own := "PerilSeat") (C := "PerilSeat$Kin") (nm := "PerilSeat$Gold") hx hb hown (hts _ q682) hq (hT.2.2.2.2.2.2.2.2.1 _ hq) hT.2.2.2.2.2.2.2.2.2.2 (va_recv hK hP (ci := 6) (q0 := 0) (q := (RX9, TX9, 1)) rfl rfl) dX0_castToName_47 (fun t ht => ?_)
  obtain ⟨t1, t2⟩ := ctxs_ok _ hq t ht
  refine vx_vm (nb := 1000) (names := chC) hx (st_off hfl) (by decide +kernel) (by decide +kernel) (by decide) (by decide) (words_cce hts hT) good_cce hE.1 hE.2 hS (hl.1.trans hml.symm) t1 t2 (Nat.le_refl _) (by decide) (Nat.le_of_ble_eq_true rfl) (by decide) (by decide) (by decide) B.notSynchronized (fun H1 q9 ce hz hk hS1 hce hv hcl => ?_)
  exact vx_out (E := "java/lang/ClassCastException") (fun x hx => (htab x hx).elim) B.notSynchronized hce hv hcl (fun t ht _ => ⟨rfl, by rw [ht]; exact hz, fun q hq _ => by rw [ht]; exact hk q hq⟩) hS1.2.2 (by decide) (by decide)
theorem nX0_castToName_2_X10 (l : Launch) (hfl : l.flags = flags0) {a sz : Nat} {fs : List Value} : vx_Met l yX0_castToName (ws_ yX0_castToName cX0_castToName 2 (some (.object "PerilSeat$Name"))) rmT (tPc D cA [.ref a, .int 2] [(a, .inr (7, fs))] sz) (fun _ _ _ _ => False) (tXC "java/lang/ClassCastException" sz) 3 1010 (fun q => sz ≤ q) := by
  refine vx_ofW (cc := cX0_castToName) (maxL := 2) (ret := some (.object "PerilSeat$Name")) (by decide +kernel) rfl ?_
  intro p e s m args below meth c s₁ B hml htab hv
  obtain ⟨rfl, hsz, hP, hK, hT, hE⟩ := hv
  subst hsz
  have hts := atoms_spec (ws := ws_ yX0_castToName cX0_castToName 2 (some (.object "PerilSeat$Name"))) B.pre
  have hts : ∀ w ∈ lw_all, w.before _ s = true := fun w h => hts w (List.mem_cons_of_mem _ h)
  have hx := B.exec
  have hb := B.bytes
  have hown : s.vm.findClass "PerilSeat" = some m.cls := findClass_of_methodNamed B.named
  rw [lg_entry_eq]
  have hl := lv_entry ([.ref a, .int 2]) (n := 2) (Nat.le_of_ble_eq_true rfl)
  generalize (lg_sl ([.ref a, .int 2]) ++ List.replicate (2 - (lg_sl ([.ref a, .int 2])).length) Slot.unset).toArray = ls at hl ⊢
  have hl : lv_has ls 2 [(0, .ref a), (1, .int 2)] := hl
  have hS : va_S (fun q => s.heap.size ≤ q) s.heap s.heap [] := va_S.rf
  refine lv_iload_n hx hb dX0_castToName_0 rfl (lv_at hl 1 rfl) ?_
  refine lv_tableIn (x := 2) (tgt := 46) hx hb dX0_castToName_1 (by decide) (by decide) (show _ = some (45 : Int) from rfl) (by decide) ?_
  refine lv_aload_n hx hb dX0_castToName_46 rfl (lv_at hl 0 rfl) ?_
  have hq : ("PerilSeat$Mourning", "PerilSeat$Gold") ∈ DWn := by decide
  refine vx_castNo (own := "PerilSeat") (C := "PerilSeat$Mourning") (nm := "PerilSeat$Gold") hx hb hown (hts _ q682) hq (hT.2.2.2.2.2.2.2.2.1 _ hq) hT.2.2.2.2.2.2.2.2.2.2 (va_recv hK hP (ci := 7) (q0 := 0) (q := (RX10, TX10, 1)) rfl rfl) dX0_castToName_47 (fun t ht => ?_)
  obtain ⟨t1, t2⟩ := ctxs_ok _ hq t ht
  refine vx_vm (nb := 1000) (names := chC) hx (st_off hfl) (by decide +kernel) (by decide +kernel) (by decide) (by decide) (words_cce hts hT) good_cce hE.1 hE.2 hS (hl.1.trans hml.symm) t1 t2 (Nat.le_refl _) (by decide) (Nat.le_of_ble_eq_true rfl) (by decide) (by decide) (by decide) B.notSynchronized (fun H1 q9 ce hz hk hS1 hce hv hcl => ?_)
  exact vx_out (E := "java/lang/ClassCastException") (fun x hx => (htab x hx).elim) B.notSynchronized hce hv hcl (fun t ht _ => ⟨rfl, by rw [ht]; exact hz, fun q hq _ => by rw [ht]; exact hk q hq⟩) hS1.2.2 (by decide) (by decide)
theorem nX0_castToName_3_X6 (l : Launch) (hfl : l.flags = flags0) {a sz : Nat} {fs : List Value} : vx_Met l yX0_castToName (ws_ yX0_castToName cX0_castToName 2 (some (.object "PerilSeat$Name"))) rmT (tPc D cA [.ref a, .int 3] [(a, .inr (3, fs))] sz) (fun _ _ _ _ => False) (tXC "java/lang/ClassCastException" sz) 3 1010 (fun q => sz ≤ q) := by
  refine vx_ofW (cc := cX0_castToName) (maxL := 2) (ret := some (.object "PerilSeat$Name")) (by decide +kernel) rfl ?_
  intro p e s m args below meth c s₁ B hml htab hv
  obtain ⟨rfl, hsz, hP, hK, hT, hE⟩ := hv
  subst hsz
  have hts := atoms_spec (ws := ws_ yX0_castToName cX0_castToName 2 (some (.object "PerilSeat$Name"))) B.pre
  have hts : ∀ w ∈ lw_all, w.before _ s = true := fun w h => hts w (List.mem_cons_of_mem _ h)
  have hx := B.exec
  have hb := B.bytes
  have hown : s.vm.findClass "PerilSeat" = some m.cls := findClass_of_methodNamed B.named
  rw [lg_entry_eq]
  have hl := lv_entry ([.ref a, .int 3]) (n := 2) (Nat.le_of_ble_eq_true rfl)
  generalize (lg_sl ([.ref a, .int 3]) ++ List.replicate (2 - (lg_sl ([.ref a, .int 3])).length) Slot.unset).toArray = ls at hl ⊢
  have hl : lv_has ls 2 [(0, .ref a), (1, .int 3)] := hl
  have hS : va_S (fun q => s.heap.size ≤ q) s.heap s.heap [] := va_S.rf
  refine lv_iload_n hx hb dX0_castToName_0 rfl (lv_at hl 1 rfl) ?_
  refine lv_tableIn (x := 3) (tgt := 51) hx hb dX0_castToName_1 (by decide) (by decide) (show _ = some (50 : Int) from rfl) (by decide) ?_
  refine lv_aload_n hx hb dX0_castToName_51 rfl (lv_at hl 0 rfl) ?_
  have hq : ("PerilSeat$Open", "PerilSeat$Meek") ∈ DWn := by decide
  refine vx_castNo (own := "PerilSeat") (C := "PerilSeat$Open") (nm := "PerilSeat$Meek") hx hb hown (hts _ q690) hq (hT.2.2.2.2.2.2.2.2.1 _ hq) hT.2.2.2.2.2.2.2.2.2.2 (va_recv hK hP (ci := 3) (q0 := 0) (q := (RX6, TX6, 1)) rfl rfl) dX0_castToName_52 (fun t ht => ?_)
  obtain ⟨t1, t2⟩ := ctxs_ok _ hq t ht
  refine vx_vm (nb := 1000) (names := chC) hx (st_off hfl) (by decide +kernel) (by decide +kernel) (by decide) (by decide) (words_cce hts hT) good_cce hE.1 hE.2 hS (hl.1.trans hml.symm) t1 t2 (Nat.le_refl _) (by decide) (Nat.le_of_ble_eq_true rfl) (by decide) (by decide) (by decide) B.notSynchronized (fun H1 q9 ce hz hk hS1 hce hv hcl => ?_)
  exact vx_out (E := "java/lang/ClassCastException") (fun x hx => (htab x hx).elim) B.notSynchronized hce hv hcl (fun t ht _ => ⟨rfl, by rw [ht]; exact hz, fun q hq _ => by rw [ht]; exact hk q hq⟩) hS1.2.2 (by decide) (by decide)
theorem nX0_castToName_3_X7 (l : Launch) (hfl : l.flags = flags0) {a sz : Nat} {fs : List Value} : vx_Met l yX0_castToName (ws_ yX0_castToName cX0_castToName 2 (some (.object "PerilSeat$Name"))) rmT (tPc D cA [.ref a, .int 3] [(a, .inr (4, fs))] sz) (fun _ _ _ _ => False) (tXC "java/lang/ClassCastException" sz) 3 1010 (fun q => sz ≤ q) := by
  refine vx_ofW (cc := cX0_castToName) (maxL := 2) (ret := some (.object "PerilSeat$Name")) (by decide +kernel) rfl ?_
  intro p e s m args below meth c s₁ B hml htab hv
  obtain ⟨rfl, hsz, hP, hK, hT, hE⟩ := hv
  subst hsz
  have hts := atoms_spec (ws := ws_ yX0_castToName cX0_castToName 2 (some (.object "PerilSeat$Name"))) B.pre
  have hts : ∀ w ∈ lw_all, w.before _ s = true := fun w h => hts w (List.mem_cons_of_mem _ h)
  have hx := B.exec
  have hb := B.bytes
  have hown : s.vm.findClass "PerilSeat" = some m.cls := findClass_of_methodNamed B.named
  rw [lg_entry_eq]
  have hl := lv_entry ([.ref a, .int 3]) (n := 2) (Nat.le_of_ble_eq_true rfl)
  generalize (lg_sl ([.ref a, .int 3]) ++ List.replicate (2 - (lg_sl ([.ref a, .int 3])).length) Slot.unset).toArray = ls at hl ⊢
  have hl : lv_has ls 2 [(0, .ref a), (1, .int 3)] := hl
  have hS : va_S (fun q => s.heap.size ≤ q) s.heap s.heap [] := va_S.rf
  refine lv_iload_n hx hb dX0_castToName_0 rfl (lv_at hl 1 rfl) ?_
  refine lv_tableIn (x := 3) (tgt := 51) hx hb dX0_castToName_1 (by decide) (by decide) (show _ = some (50 : Int) from rfl) (by decide) ?_
  refine lv_aload_n hx hb dX0_castToName_51 rfl (lv_at hl 0 rfl) ?_
  have hq : ("PerilSeat$Gold", "PerilSeat$Meek") ∈ DWn := by decide
  refine vx_castNo (own := "PerilSeat") (C := "PerilSeat$Gold") (nm := "PerilSeat$Meek") hx hb hown (hts _ q690) hq (hT.2.2.2.2.2.2.2.2.1 _ hq) hT.2.2.2.2.2.2.2.2.2.2 (va_recv hK hP (ci := 4) (q0 := 0) (q := (RX7, TX7, 1)) rfl rfl) dX0_castToName_52 (fun t ht => ?_)
  obtain ⟨t1, t2⟩ := ctxs_ok _ hq t ht
  refine vx_vm (nb := 1000) (names := chC) hx (st_off hfl) (by decide +kernel) (by decide +kernel) (by decide) (by decide) (words_cce hts hT) good_cce hE.1 hE.2 hS (hl.1.trans hml.symm) t1 t2 (Nat.le_refl _) (by decide) (Nat.le_of_ble_eq_true rfl) (by decide) (by decide) (by decide) B.notSynchronized (fun H1 q9 ce hz hk hS1 hce hv hcl => ?_)
  exact vx_out (E := "java/lang/ClassCastException") (fun x hx => (htab x hx).elim) B.notSynchronized hce hv hcl (fun t ht _ => ⟨rfl, by rw [ht]; exact hz, fun q hq _ => by rw [ht]; exact hk q hq⟩) hS1.2.2 (by decide) (by decide)
theorem yX0_castToName_3_X8 (l : Launch) {a : Nat} {fs : List Value} : rMet l yX0_castToName cX0_castToName 2 (some (.object "PerilSeat$Name")) (cR 0 0 0) [.ref a, .int 3] D cA [(a, .inr (5, fs))] (some (.ref a)) := by
  refine rMet_of (by decide +kernel) (Nat.le_of_ble_eq_true rfl) (fun {p e s m args below meth c ls} X Y hl => ?_)
  have hx := X.1.1
  have hb := X.1.2.1
  have hl : lv_has ls 2 [(0, .ref a), (1, .int 3)] := hl
  refine lv_iload_n hx hb dX0_castToName_0 rfl (lv_at hl 1 rfl) ?_
  refine lv_tableIn (x := 3) (tgt := 51) hx hb dX0_castToName_1 (by decide) (by decide) (show _ = some (50 : Int) from rfl) (by decide) ?_
  refine lv_aload_n hx hb dX0_castToName_51 rfl (lv_at hl 0 rfl) ?_
  refine va_castS (nm := "PerilSeat$Meek") (own := RX0) hx hb X.1.2.2.2.1 (X.1.2.2.2.2.1 _ q690) (X.2.1.1 5 (RX8, TX8, 1) rfl).2 (va_recv X.2.1 Y.1 (ci := 5) (q0 := 0) (q := (RX8, TX8, 1)) rfl rfl) dX0_castToName_52 ?_
  exact r_aret X.1 Y.2 (Or.inl ⟨_, rfl⟩) dX0_castToName_55
theorem nX0_castToName_3_X9 (l : Launch) (hfl : l.flags = flags0) {a sz : Nat} {fs : List Value} : vx_Met l yX0_castToName (ws_ yX0_castToName cX0_castToName 2 (some (.object "PerilSeat$Name"))) rmT (tPc D cA [.ref a, .int 3] [(a, .inr (6, fs))] sz) (fun _ _ _ _ => False) (tXC "java/lang/ClassCastException" sz) 3 1010 (fun q => sz ≤ q) := by
  refine vx_ofW (cc := cX0_castToName) (maxL := 2) (ret := some (.object "PerilSeat$Name")) (by decide +kernel) rfl ?_
  intro p e s m args below meth c s₁ B hml htab hv
  obtain ⟨rfl, hsz, hP, hK, hT, hE⟩ := hv
  subst hsz
  have hts := atoms_spec (ws := ws_ yX0_castToName cX0_castToName 2 (some (.object "PerilSeat$Name"))) B.pre
  have hts : ∀ w ∈ lw_all, w.before _ s = true := fun w h => hts w (List.mem_cons_of_mem _ h)
  have hx := B.exec
  have hb := B.bytes
  have hown : s.vm.findClass "PerilSeat" = some m.cls := findClass_of_methodNamed B.named
  rw [lg_entry_eq]
  have hl := lv_entry ([.ref a, .int 3]) (n := 2) (Nat.le_of_ble_eq_true rfl)
  generalize (lg_sl ([.ref a, .int 3]) ++ List.replicate (2 - (lg_sl ([.ref a, .int 3])).length) Slot.unset).toArray = ls at hl ⊢
  have hl : lv_has ls 2 [(0, .ref a), (1, .int 3)] := hl
  have hS : va_S (fun q => s.heap.size ≤ q) s.heap s.heap [] := va_S.rf
  refine lv_iload_n hx hb dX0_castToName_0 rfl (lv_at hl 1 rfl) ?_
  refine lv_tableIn (x := 3) (tgt := 51) hx hb dX0_castToName_1 (by decide) (by decide) (show _ = some (50 : Int) from rfl) (by decide) ?_
  refine lv_aload_n hx hb dX0_castToName_51 rfl (lv_at hl 0 rfl) ?_
  have hq : ("PerilSeat$Kin", "PerilSeat$Meek") ∈ DWn := by decide
  refine vx_castNo (own := "PerilSeat") (C := "PerilSeat$Kin") (nm := "PerilSeat$Meek") hx hb hown (hts _ q690) hq (hT.2.2.2.2.2.2.2.2.1 _ hq) hT.2.2.2.2.2.2.2.2.2.2 (va_recv hK hP (ci := 6) (q0 := 0) (q := (RX9, TX9, 1)) rfl rfl) dX0_castToName_52 (fun t ht => ?_)
  obtain ⟨t1, t2⟩ := ctxs_ok _ hq t ht
  refine vx_vm (nb := 1000) (names := chC) hx (st_off hfl) (by decide +kernel) (by decide +kernel) (by decide) (by decide) (words_cce hts hT) good_cce hE.1 hE.2 hS (hl.1.trans hml.symm) t1 t2 (Nat.le_refl _) (by decide) (Nat.le_of_ble_eq_true rfl) (by decide) (by decide) (by decide) B.notSynchronized (fun H1 q9 ce hz hk hS1 hce hv hcl => ?_)
  exact vx_out (E := "java/lang/ClassCastException") (fun x hx => (htab x hx).elim) B.notSynchronized hce hv hcl (fun t ht _ => ⟨rfl, by rw [ht]; exact hz, fun q hq _ => by rw [ht]; exact hk q hq⟩) hS1.2.2 (by decide) (by decide)
theorem nX0_castToName_3_X10 (l : Launch) (hfl : l.flags = flags0) {a sz : Nat} {fs : List Value} : vx_Met l yX0_castToName (ws_ yX0_castToName cX0_castToName 2 (some (.object "PerilSeat$Name"))) rmT (tPc D cA [.ref a, .int 3] [(a, .inr (7, fs))] sz) (fun _ _ _ _ => False) (tXC "java/lang/ClassCastException" sz) 3 1010 (fun q => sz ≤ q) := by
  refine vx_ofW (cc := cX0_castToName) (maxL := 2) (ret := some (.object "PerilSeat$Name")) (by decide +kernel) rfl ?_
  intro p e s m args below meth c s₁ B hml htab hv
  obtain ⟨rfl, hsz, hP, hK, hT, hE⟩ := hv
  subst hsz
  have hts := atoms_spec (ws := ws_ yX0_castToName cX0_castToName 2 (some (.object "PerilSeat$Name"))) B.pre
  have hts : ∀ w ∈ lw_all, w.before _ s = true := fun w h => hts w (List.mem_cons_of_mem _ h)
  have hx := B.exec
  have hb := B.bytes
  have hown : s.vm.findClass "PerilSeat" = some m.cls := findClass_of_methodNamed B.named
  rw [lg_entry_eq]
  have hl := lv_entry ([.ref a, .int 3]) (n := 2) (Nat.le_of_ble_eq_true rfl)
  generalize (lg_sl ([.ref a, .int 3]) ++ List.replicate (2 - (lg_sl ([.ref a, .int 3])).length) Slot.unset).toArray = ls at hl ⊢
  have hl : lv_has ls 2 [(0, .ref a), (1, .int 3)] := hl
  have hS : va_S (fun q => s.heap.size ≤ q) s.heap s.heap [] := va_S.rf
  refine lv_iload_n hx hb dX0_castToName_0 rfl (lv_at hl 1 rfl) ?_
  refine lv_tableIn (x := 3) (tgt := 51) hx hb dX0_castToName_1 (by decide) (by decide) (show _ = some (50 : Int) from rfl) (by decide) ?_
  refine lv_aload_n hx hb dX0_castToName_51 rfl (lv_at hl 0 rfl) ?_
  have hq : ("PerilSeat$Mourning", "PerilSeat$Meek") ∈ DWn := by decide
  refine vx_castNo (own := "PerilSeat") (C := "PerilSeat$Mourning") (nm := "PerilSeat$Meek") hx hb hown (hts _ q690) hq (hT.2.2.2.2.2.2.2.2.1 _ hq) hT.2.2.2.2.2.2.2.2.2.2 (va_recv hK hP (ci := 7) (q0 := 0) (q := (RX10, TX10, 1)) rfl rfl) dX0_castToName_52 (fun t ht => ?_)
  obtain ⟨t1, t2⟩ := ctxs_ok _ hq t ht
  refine vx_vm (nb := 1000) (names := chC) hx (st_off hfl) (by decide +kernel) (by decide +kernel) (by decide) (by decide) (words_cce hts hT) good_cce hE.1 hE.2 hS (hl.1.trans hml.symm) t1 t2 (Nat.le_refl _) (by decide) (Nat.le_of_ble_eq_true rfl) (by decide) (by decide) (by decide) B.notSynchronized (fun H1 q9 ce hz hk hS1 hce hv hcl => ?_)
  exact vx_out (E := "java/lang/ClassCastException") (fun x hx => (htab x hx).elim) B.notSynchronized hce hv hcl (fun t ht _ => ⟨rfl, by rw [ht]; exact hz, fun q hq _ => by rw [ht]; exact hk q hq⟩) hS1.2.2 (by decide) (by decide)
theorem nX0_castToName_4_X6 (l : Launch) (hfl : l.flags = flags0) {a sz : Nat} {fs : List Value} : vx_Met l yX0_castToName (ws_ yX0_castToName cX0_castToName 2 (some (.object "PerilSeat$Name"))) rmT (tPc D cA [.ref a, .int 4] [(a, .inr (3, fs))] sz) (fun _ _ _ _ => False) (tXC "java/lang/ClassCastException" sz) 3 1010 (fun q => sz ≤ q) := by
  refine vx_ofW (cc := cX0_castToName) (maxL := 2) (ret := some (.object "PerilSeat$Name")) (by decide +kernel) rfl ?_
  intro p e s m args below meth c s₁ B hml htab hv
  obtain ⟨rfl, hsz, hP, hK, hT, hE⟩ := hv
  subst hsz
  have hts := atoms_spec (ws := ws_ yX0_castToName cX0_castToName 2 (some (.object "PerilSeat$Name"))) B.pre
  have hts : ∀ w ∈ lw_all, w.before _ s = true := fun w h => hts w (List.mem_cons_of_mem _ h)
  have hx := B.exec
  have hb := B.bytes
  have hown : s.vm.findClass "PerilSeat" = some m.cls := findClass_of_methodNamed B.named
  rw [lg_entry_eq]
  have hl := lv_entry ([.ref a, .int 4]) (n := 2) (Nat.le_of_ble_eq_true rfl)
  generalize (lg_sl ([.ref a, .int 4]) ++ List.replicate (2 - (lg_sl ([.ref a, .int 4])).length) Slot.unset).toArray = ls at hl ⊢
  have hl : lv_has ls 2 [(0, .ref a), (1, .int 4)] := hl
  have hS : va_S (fun q => s.heap.size ≤ q) s.heap s.heap [] := va_S.rf
  refine lv_iload_n hx hb dX0_castToName_0 rfl (lv_at hl 1 rfl) ?_
  refine lv_tableIn (x := 4) (tgt := 56) hx hb dX0_castToName_1 (by decide) (by decide) (show _ = some (55 : Int) from rfl) (by decide) ?_
  refine lv_aload_n hx hb dX0_castToName_56 rfl (lv_at hl 0 rfl) ?_
  have hq : ("PerilSeat$Open", "PerilSeat$Kin") ∈ DWn := by decide
  refine vx_castNo (own := "PerilSeat") (C := "PerilSeat$Open") (nm := "PerilSeat$Kin") hx hb hown (hts _ q698) hq (hT.2.2.2.2.2.2.2.2.1 _ hq) hT.2.2.2.2.2.2.2.2.2.2 (va_recv hK hP (ci := 3) (q0 := 0) (q := (RX6, TX6, 1)) rfl rfl) dX0_castToName_57 (fun t ht => ?_)
  obtain ⟨t1, t2⟩ := ctxs_ok _ hq t ht
  refine vx_vm (nb := 1000) (names := chC) hx (st_off hfl) (by decide +kernel) (by decide +kernel) (by decide) (by decide) (words_cce hts hT) good_cce hE.1 hE.2 hS (hl.1.trans hml.symm) t1 t2 (Nat.le_refl _) (by decide) (Nat.le_of_ble_eq_true rfl) (by decide) (by decide) (by decide) B.notSynchronized (fun H1 q9 ce hz hk hS1 hce hv hcl => ?_)
  exact vx_out (E := "java/lang/ClassCastException") (fun x hx => (htab x hx).elim) B.notSynchronized hce hv hcl (fun t ht _ => ⟨rfl, by rw [ht]; exact hz, fun q hq _ => by rw [ht]; exact hk q hq⟩) hS1.2.2 (by decide) (by decide)
theorem nX0_castToName_4_X7 (l : Launch) (hfl : l.flags = flags0) {a sz : Nat} {fs : List Value} : vx_Met l yX0_castToName (ws_ yX0_castToName cX0_castToName 2 (some (.object "PerilSeat$Name"))) rmT (tPc D cA [.ref a, .int 4] [(a, .inr (4, fs))] sz) (fun _ _ _ _ => False) (tXC "java/lang/ClassCastException" sz) 3 1010 (fun q => sz ≤ q) := by
  refine vx_ofW (cc := cX0_castToName) (maxL := 2) (ret := some (.object "PerilSeat$Name")) (by decide +kernel) rfl ?_
  intro p e s m args below meth c s₁ B hml htab hv
  obtain ⟨rfl, hsz, hP, hK, hT, hE⟩ := hv
  subst hsz
  have hts := atoms_spec (ws := ws_ yX0_castToName cX0_castToName 2 (some (.object "PerilSeat$Name"))) B.pre
  have hts : ∀ w ∈ lw_all, w.before _ s = true := fun w h => hts w (List.mem_cons_of_mem _ h)
  have hx := B.exec
  have hb := B.bytes
  have hown : s.vm.findClass "PerilSeat" = some m.cls := findClass_of_methodNamed B.named
  rw [lg_entry_eq]
  have hl := lv_entry ([.ref a, .int 4]) (n := 2) (Nat.le_of_ble_eq_true rfl)
  generalize (lg_sl ([.ref a, .int 4]) ++ List.replicate (2 - (lg_sl ([.ref a, .int 4])).length) Slot.unset).toArray = ls at hl ⊢
  have hl : lv_has ls 2 [(0, .ref a), (1, .int 4)] := hl
  have hS : va_S (fun q => s.heap.size ≤ q) s.heap s.heap [] := va_S.rf
  refine lv_iload_n hx hb dX0_castToName_0 rfl (lv_at hl 1 rfl) ?_
  refine lv_tableIn (x := 4) (tgt := 56) hx hb dX0_castToName_1 (by decide) (by decide) (show _ = some (55 : Int) from rfl) (by decide) ?_
  refine lv_aload_n hx hb dX0_castToName_56 rfl (lv_at hl 0 rfl) ?_
  have hq : ("PerilSeat$Gold", "PerilSeat$Kin") ∈ DWn := by decide
  refine vx_castNo (own := "PerilSeat") (C := "PerilSeat$Gold") (nm := "PerilSeat$Kin") hx hb hown (hts _ q698) hq (hT.2.2.2.2.2.2.2.2.1 _ hq) hT.2.2.2.2.2.2.2.2.2.2 (va_recv hK hP (ci := 4) (q0 := 0) (q := (RX7, TX7, 1)) rfl rfl) dX0_castToName_57 (fun t ht => ?_)
  obtain ⟨t1, t2⟩ := ctxs_ok _ hq t ht
  refine vx_vm (nb := 1000) (names := chC) hx (st_off hfl) (by decide +kernel) (by decide +kernel) (by decide) (by decide) (words_cce hts hT) good_cce hE.1 hE.2 hS (hl.1.trans hml.symm) t1 t2 (Nat.le_refl _) (by decide) (Nat.le_of_ble_eq_true rfl) (by decide) (by decide) (by decide) B.notSynchronized (fun H1 q9 ce hz hk hS1 hce hv hcl => ?_)
  exact vx_out (E := "java/lang/ClassCastException") (fun x hx => (htab x hx).elim) B.notSynchronized hce hv hcl (fun t ht _ => ⟨rfl, by rw [ht]; exact hz, fun q hq _ => by rw [ht]; exact hk q hq⟩) hS1.2.2 (by decide) (by decide)
theorem nX0_castToName_4_X8 (l : Launch) (hfl : l.flags = flags0) {a sz : Nat} {fs : List Value} : vx_Met l yX0_castToName (ws_ yX0_castToName cX0_castToName 2 (some (.object "PerilSeat$Name"))) rmT (tPc D cA [.ref a, .int 4] [(a, .inr (5, fs))] sz) (fun _ _ _ _ => False) (tXC "java/lang/ClassCastException" sz) 3 1010 (fun q => sz ≤ q) := by
  refine vx_ofW (cc := cX0_castToName) (maxL := 2) (ret := some (.object "PerilSeat$Name")) (by decide +kernel) rfl ?_
  intro p e s m args below meth c s₁ B hml htab hv
  obtain ⟨rfl, hsz, hP, hK, hT, hE⟩ := hv
  subst hsz
  have hts := atoms_spec (ws := ws_ yX0_castToName cX0_castToName 2 (some (.object "PerilSeat$Name"))) B.pre
  have hts : ∀ w ∈ lw_all, w.before _ s = true := fun w h => hts w (List.mem_cons_of_mem _ h)
  have hx := B.exec
  have hb := B.bytes
  have hown : s.vm.findClass "PerilSeat" = some m.cls := findClass_of_methodNamed B.named
  rw [lg_entry_eq]
  have hl := lv_entry ([.ref a, .int 4]) (n := 2) (Nat.le_of_ble_eq_true rfl)
  generalize (lg_sl ([.ref a, .int 4]) ++ List.replicate (2 - (lg_sl ([.ref a, .int 4])).length) Slot.unset).toArray = ls at hl ⊢
  have hl : lv_has ls 2 [(0, .ref a), (1, .int 4)] := hl
  have hS : va_S (fun q => s.heap.size ≤ q) s.heap s.heap [] := va_S.rf
  refine lv_iload_n hx hb dX0_castToName_0 rfl (lv_at hl 1 rfl) ?_
  refine lv_tableIn (x := 4) (tgt := 56) hx hb dX0_castToName_1 (by decide) (by decide) (show _ = some (55 : Int) from rfl) (by decide) ?_
  refine lv_aload_n hx hb dX0_castToName_56 rfl (lv_at hl 0 rfl) ?_
  have hq : ("PerilSeat$Meek", "PerilSeat$Kin") ∈ DWn := by decide
  refine vx_castNo (own := "PerilSeat") (C := "PerilSeat$Meek") (nm := "PerilSeat$Kin") hx hb hown (hts _ q698) hq (hT.2.2.2.2.2.2.2.2.1 _ hq) hT.2.2.2.2.2.2.2.2.2.2 (va_recv hK hP (ci := 5) (q0 := 0) (q := (RX8, TX8, 1)) rfl rfl) dX0_castToName_57 (fun t ht => ?_)
  obtain ⟨t1, t2⟩ := ctxs_ok _ hq t ht
  refine vx_vm (nb := 1000) (names := chC) hx (st_off hfl) (by decide +kernel) (by decide +kernel) (by decide) (by decide) (words_cce hts hT) good_cce hE.1 hE.2 hS (hl.1.trans hml.symm) t1 t2 (Nat.le_refl _) (by decide) (Nat.le_of_ble_eq_true rfl) (by decide) (by decide) (by decide) B.notSynchronized (fun H1 q9 ce hz hk hS1 hce hv hcl => ?_)
  exact vx_out (E := "java/lang/ClassCastException") (fun x hx => (htab x hx).elim) B.notSynchronized hce hv hcl (fun t ht _ => ⟨rfl, by rw [ht]; exact hz, fun q hq _ => by rw [ht]; exact hk q hq⟩) hS1.2.2 (by decide) (by decide)
theorem yX0_castToName_4_X9 (l : Launch) {a : Nat} {fs : List Value} : rMet l yX0_castToName cX0_castToName 2 (some (.object "PerilSeat$Name")) (cR 0 0 0) [.ref a, .int 4] D cA [(a, .inr (6, fs))] (some (.ref a)) := by
  refine rMet_of (by decide +kernel) (Nat.le_of_ble_eq_true rfl) (fun {p e s m args below meth c ls} X Y hl => ?_)
  have hx := X.1.1
  have hb := X.1.2.1
  have hl : lv_has ls 2 [(0, .ref a), (1, .int 4)] := hl
  refine lv_iload_n hx hb dX0_castToName_0 rfl (lv_at hl 1 rfl) ?_
  refine lv_tableIn (x := 4) (tgt := 56) hx hb dX0_castToName_1 (by decide) (by decide) (show _ = some (55 : Int) from rfl) (by decide) ?_
  refine lv_aload_n hx hb dX0_castToName_56 rfl (lv_at hl 0 rfl) ?_
  refine va_castS (nm := "PerilSeat$Kin") (own := RX0) hx hb X.1.2.2.2.1 (X.1.2.2.2.2.1 _ q698) (X.2.1.1 6 (RX9, TX9, 1) rfl).2 (va_recv X.2.1 Y.1 (ci := 6) (q0 := 0) (q := (RX9, TX9, 1)) rfl rfl) dX0_castToName_57 ?_
  exact r_aret X.1 Y.2 (Or.inl ⟨_, rfl⟩) dX0_castToName_60
theorem nX0_castToName_4_X10 (l : Launch) (hfl : l.flags = flags0) {a sz : Nat} {fs : List Value} : vx_Met l yX0_castToName (ws_ yX0_castToName cX0_castToName 2 (some (.object "PerilSeat$Name"))) rmT (tPc D cA [.ref a, .int 4] [(a, .inr (7, fs))] sz) (fun _ _ _ _ => False) (tXC "java/lang/ClassCastException" sz) 3 1010 (fun q => sz ≤ q) := by
  refine vx_ofW (cc := cX0_castToName) (maxL := 2) (ret := some (.object "PerilSeat$Name")) (by decide +kernel) rfl ?_
  intro p e s m args below meth c s₁ B hml htab hv
  obtain ⟨rfl, hsz, hP, hK, hT, hE⟩ := hv
  subst hsz
  have hts := atoms_spec (ws := ws_ yX0_castToName cX0_castToName 2 (some (.object "PerilSeat$Name"))) B.pre
  have hts : ∀ w ∈ lw_all, w.before _ s = true := fun w h => hts w (List.mem_cons_of_mem _ h)
  have hx := B.exec
  have hb := B.bytes
  have hown : s.vm.findClass "PerilSeat" = some m.cls := findClass_of_methodNamed B.named
  rw [lg_entry_eq]
  have hl := lv_entry ([.ref a, .int 4]) (n := 2) (Nat.le_of_ble_eq_true rfl)
  generalize (lg_sl ([.ref a, .int 4]) ++ List.replicate (2 - (lg_sl ([.ref a, .int 4])).length) Slot.unset).toArray = ls at hl ⊢
  have hl : lv_has ls 2 [(0, .ref a), (1, .int 4)] := hl
  have hS : va_S (fun q => s.heap.size ≤ q) s.heap s.heap [] := va_S.rf
  refine lv_iload_n hx hb dX0_castToName_0 rfl (lv_at hl 1 rfl) ?_
  refine lv_tableIn (x := 4) (tgt := 56) hx hb dX0_castToName_1 (by decide) (by decide) (show _ = some (55 : Int) from rfl) (by decide) ?_
  refine lv_aload_n hx hb dX0_castToName_56 rfl (lv_at hl 0 rfl) ?_
  have hq : ("PerilSeat$Mourning", "PerilSeat$Kin") ∈ DWn := by decide
  refine vx_castNo (own := "PerilSeat") (C := "PerilSeat$Mourning") (nm := "PerilSeat$Kin") hx hb hown (hts _ q698) hq (hT.2.2.2.2.2.2.2.2.1 _ hq) hT.2.2.2.2.2.2.2.2.2.2 (va_recv hK hP (ci := 7) (q0 := 0) (q := (RX10, TX10, 1)) rfl rfl) dX0_castToName_57 (fun t ht => ?_)
  obtain ⟨t1, t2⟩ := ctxs_ok _ hq t ht
  refine vx_vm (nb := 1000) (names := chC) hx (st_off hfl) (by decide +kernel) (by decide +kernel) (by decide) (by decide) (words_cce hts hT) good_cce hE.1 hE.2 hS (hl.1.trans hml.symm) t1 t2 (Nat.le_refl _) (by decide) (Nat.le_of_ble_eq_true rfl) (by decide) (by decide) (by decide) B.notSynchronized (fun H1 q9 ce hz hk hS1 hce hv hcl => ?_)
  exact vx_out (E := "java/lang/ClassCastException") (fun x hx => (htab x hx).elim) B.notSynchronized hce hv hcl (fun t ht _ => ⟨rfl, by rw [ht]; exact hz, fun q hq _ => by rw [ht]; exact hk q hq⟩) hS1.2.2 (by decide) (by decide)
theorem nX0_castToName_5_X6 (l : Launch) (hfl : l.flags = flags0) {a sz : Nat} {fs : List Value} : vx_Met l yX0_castToName (ws_ yX0_castToName cX0_castToName 2 (some (.object "PerilSeat$Name"))) rmT (tPc D cA [.ref a, .int 5] [(a, .inr (3, fs))] sz) (fun _ _ _ _ => False) (tXC "java/lang/ClassCastException" sz) 3 1010 (fun q => sz ≤ q) := by
  refine vx_ofW (cc := cX0_castToName) (maxL := 2) (ret := some (.object "PerilSeat$Name")) (by decide +kernel) rfl ?_
  intro p e s m args below meth c s₁ B hml htab hv
  obtain ⟨rfl, hsz, hP, hK, hT, hE⟩ := hv
  subst hsz
  have hts := atoms_spec (ws := ws_ yX0_castToName cX0_castToName 2 (some (.object "PerilSeat$Name"))) B.pre
  have hts : ∀ w ∈ lw_all, w.before _ s = true := fun w h => hts w (List.mem_cons_of_mem _ h)
  have hx := B.exec
  have hb := B.bytes
  have hown : s.vm.findClass "PerilSeat" = some m.cls := findClass_of_methodNamed B.named
  rw [lg_entry_eq]
  have hl := lv_entry ([.ref a, .int 5]) (n := 2) (Nat.le_of_ble_eq_true rfl)
  generalize (lg_sl ([.ref a, .int 5]) ++ List.replicate (2 - (lg_sl ([.ref a, .int 5])).length) Slot.unset).toArray = ls at hl ⊢
  have hl : lv_has ls 2 [(0, .ref a), (1, .int 5)] := hl
  have hS : va_S (fun q => s.heap.size ≤ q) s.heap s.heap [] := va_S.rf
  refine lv_iload_n hx hb dX0_castToName_0 rfl (lv_at hl 1 rfl) ?_
  refine lv_tableOut (x := 5) (tgt := 61) hx hb dX0_castToName_1 (by decide) (by decide) ?_
  refine lv_aload_n hx hb dX0_castToName_61 rfl (lv_at hl 0 rfl) ?_
  have hq : ("PerilSeat$Open", "PerilSeat$Mourning") ∈ DWn := by decide
  refine vx_castNo (own := "PerilSeat") (C := "PerilSeat$Open") (nm := "PerilSeat$Mourning") hx hb hown (hts _ q706) hq (hT.2.2.2.2.2.2.2.2.1 _ hq) hT.2.2.2.2.2.2.2.2.2.2 (va_recv hK hP (ci := 3) (q0 := 0) (q := (RX6, TX6, 1)) rfl rfl) dX0_castToName_62 (fun t ht => ?_)
  obtain ⟨t1, t2⟩ := ctxs_ok _ hq t ht
  refine vx_vm (nb := 1000) (names := chC) hx (st_off hfl) (by decide +kernel) (by decide +kernel) (by decide) (by decide) (words_cce hts hT) good_cce hE.1 hE.2 hS (hl.1.trans hml.symm) t1 t2 (Nat.le_refl _) (by decide) (Nat.le_of_ble_eq_true rfl) (by decide) (by decide) (by decide) B.notSynchronized (fun H1 q9 ce hz hk hS1 hce hv hcl => ?_)
  exact vx_out (E := "java/lang/ClassCastException") (fun x hx => (htab x hx).elim) B.notSynchronized hce hv hcl (fun t ht _ => ⟨rfl, by rw [ht]; exact hz, fun q hq _ => by rw [ht]; exact hk q hq⟩) hS1.2.2 (by decide) (by decide)
theorem nX0_castToName_5_X7 (l : Launch) (hfl : l.flags = flags0) {a sz : Nat} {fs : List Value} : vx_Met l yX0_castToName (ws_ yX0_castToName cX0_castToName 2 (some (.object "PerilSeat$Name"))) rmT (tPc D cA [.ref a, .int 5] [(a, .inr (4, fs))] sz) (fun _ _ _ _ => False) (tXC "java/lang/ClassCastException" sz) 3 1010 (fun q => sz ≤ q) := by
  refine vx_ofW (cc := cX0_castToName) (maxL := 2) (ret := some (.object "PerilSeat$Name")) (by decide +kernel) rfl ?_
  intro p e s m args below meth c s₁ B hml htab hv
  obtain ⟨rfl, hsz, hP, hK, hT, hE⟩ := hv
  subst hsz
  have hts := atoms_spec (ws := ws_ yX0_castToName cX0_castToName 2 (some (.object "PerilSeat$Name"))) B.pre
  have hts : ∀ w ∈ lw_all, w.before _ s = true := fun w h => hts w (List.mem_cons_of_mem _ h)
  have hx := B.exec
  have hb := B.bytes
  have hown : s.vm.findClass "PerilSeat" = some m.cls := findClass_of_methodNamed B.named
  rw [lg_entry_eq]
  have hl := lv_entry ([.ref a, .int 5]) (n := 2) (Nat.le_of_ble_eq_true rfl)
  generalize (lg_sl ([.ref a, .int 5]) ++ List.replicate (2 - (lg_sl ([.ref a, .int 5])).length) Slot.unset).toArray = ls at hl ⊢
  have hl : lv_has ls 2 [(0, .ref a), (1, .int 5)] := hl
  have hS : va_S (fun q => s.heap.size ≤ q) s.heap s.heap [] := va_S.rf
  refine lv_iload_n hx hb dX0_castToName_0 rfl (lv_at hl 1 rfl) ?_
  refine lv_tableOut (x := 5) (tgt := 61) hx hb dX0_castToName_1 (by decide) (by decide) ?_
  refine lv_aload_n hx hb dX0_castToName_61 rfl (lv_at hl 0 rfl) ?_
  have hq : ("PerilSeat$Gold", "PerilSeat$Mourning") ∈ DWn := by decide
  refine vx_castNo (own := "PerilSeat") (C := "PerilSeat$Gold") (nm := "PerilSeat$Mourning") hx hb hown (hts _ q706) hq (hT.2.2.2.2.2.2.2.2.1 _ hq) hT.2.2.2.2.2.2.2.2.2.2 (va_recv hK hP (ci := 4) (q0 := 0) (q := (RX7, TX7, 1)) rfl rfl) dX0_castToName_62 (fun t ht => ?_)
  obtain ⟨t1, t2⟩ := ctxs_ok _ hq t ht
  refine vx_vm (nb := 1000) (names := chC) hx (st_off hfl) (by decide +kernel) (by decide +kernel) (by decide) (by decide) (words_cce hts hT) good_cce hE.1 hE.2 hS (hl.1.trans hml.symm) t1 t2 (Nat.le_refl _) (by decide) (Nat.le_of_ble_eq_true rfl) (by decide) (by decide) (by decide) B.notSynchronized (fun H1 q9 ce hz hk hS1 hce hv hcl => ?_)
  exact vx_out (E := "java/lang/ClassCastException") (fun x hx => (htab x hx).elim) B.notSynchronized hce hv hcl (fun t ht _ => ⟨rfl, by rw [ht]; exact hz, fun q hq _ => by rw [ht]; exact hk q hq⟩) hS1.2.2 (by decide) (by decide)
theorem nX0_castToName_5_X8 (l : Launch) (hfl : l.flags = flags0) {a sz : Nat} {fs : List Value} : vx_Met l yX0_castToName (ws_ yX0_castToName cX0_castToName 2 (some (.object "PerilSeat$Name"))) rmT (tPc D cA [.ref a, .int 5] [(a, .inr (5, fs))] sz) (fun _ _ _ _ => False) (tXC "java/lang/ClassCastException" sz) 3 1010 (fun q => sz ≤ q) := by
  refine vx_ofW (cc := cX0_castToName) (maxL := 2) (ret := some (.object "PerilSeat$Name")) (by decide +kernel) rfl ?_
  intro p e s m args below meth c s₁ B hml htab hv
  obtain ⟨rfl, hsz, hP, hK, hT, hE⟩ := hv
  subst hsz
  have hts := atoms_spec (ws := ws_ yX0_castToName cX0_castToName 2 (some (.object "PerilSeat$Name"))) B.pre
  have hts : ∀ w ∈ lw_all, w.before _ s = true := fun w h => hts w (List.mem_cons_of_mem _ h)
  have hx := B.exec
  have hb := B.bytes
  have hown : s.vm.findClass "PerilSeat" = some m.cls := findClass_of_methodNamed B.named
  rw [lg_entry_eq]
  have hl := lv_entry ([.ref a, .int 5]) (n := 2) (Nat.le_of_ble_eq_true rfl)
  generalize (lg_sl ([.ref a, .int 5]) ++ List.replicate (2 - (lg_sl ([.ref a, .int 5])).length) Slot.unset).toArray = ls at hl ⊢
  have hl : lv_has ls 2 [(0, .ref a), (1, .int 5)] := hl
  have hS : va_S (fun q => s.heap.size ≤ q) s.heap s.heap [] := va_S.rf
  refine lv_iload_n hx hb dX0_castToName_0 rfl (lv_at hl 1 rfl) ?_
  refine lv_tableOut (x := 5) (tgt := 61) hx hb dX0_castToName_1 (by decide) (by decide) ?_
  refine lv_aload_n hx hb dX0_castToName_61 rfl (lv_at hl 0 rfl) ?_
  have hq : ("PerilSeat$Meek", "PerilSeat$Mourning") ∈ DWn := by decide
  refine vx_castNo (own := "PerilSeat") (C := "PerilSeat$Meek") (nm := "PerilSeat$Mourning") hx hb hown (hts _ q706) hq (hT.2.2.2.2.2.2.2.2.1 _ hq) hT.2.2.2.2.2.2.2.2.2.2 (va_recv hK hP (ci := 5) (q0 := 0) (q := (RX8, TX8, 1)) rfl rfl) dX0_castToName_62 (fun t ht => ?_)
  obtain ⟨t1, t2⟩ := ctxs_ok _ hq t ht
  refine vx_vm (nb := 1000) (names := chC) hx (st_off hfl) (by decide +kernel) (by decide +kernel) (by decide) (by decide) (words_cce hts hT) good_cce hE.1 hE.2 hS (hl.1.trans hml.symm) t1 t2 (Nat.le_refl _) (by decide) (Nat.le_of_ble_eq_true rfl) (by decide) (by decide) (by decide) B.notSynchronized (fun H1 q9 ce hz hk hS1 hce hv hcl => ?_)
  exact vx_out (E := "java/lang/ClassCastException") (fun x hx => (htab x hx).elim) B.notSynchronized hce hv hcl (fun t ht _ => ⟨rfl, by rw [ht]; exact hz, fun q hq _ => by rw [ht]; exact hk q hq⟩) hS1.2.2 (by decide) (by decide)
theorem nX0_castToName_5_X9 (l : Launch) (hfl : l.flags = flags0) {a sz : Nat} {fs : List Value} : vx_Met l yX0_castToName (ws_ yX0_castToName cX0_castToName 2 (some (.object "PerilSeat$Name"))) rmT (tPc D cA [.ref a, .int 5] [(a, .inr (6, fs))] sz) (fun _ _ _ _ => False) (tXC "java/lang/ClassCastException" sz) 3 1010 (fun q => sz ≤ q) := by
  refine vx_ofW (cc := cX0_castToName) (maxL := 2) (ret := some (.object "PerilSeat$Name")) (by decide +kernel) rfl ?_
  intro p e s m args below meth c s₁ B hml htab hv
  obtain ⟨rfl, hsz, hP, hK, hT, hE⟩ := hv
  subst hsz
  have hts := atoms_spec (ws := ws_ yX0_castToName cX0_castToName 2 (some (.object "PerilSeat$Name"))) B.pre
  have hts : ∀ w ∈ lw_all, w.before _ s = true := fun w h => hts w (List.mem_cons_of_mem _ h)
  have hx := B.exec
  have hb := B.bytes
  have hown : s.vm.findClass "PerilSeat" = some m.cls := findClass_of_methodNamed B.named
  rw [lg_entry_eq]
  have hl := lv_entry ([.ref a, .int 5]) (n := 2) (Nat.le_of_ble_eq_true rfl)
  generalize (lg_sl ([.ref a, .int 5]) ++ List.replicate (2 - (lg_sl ([.ref a, .int 5])).length) Slot.unset).toArray = ls at hl ⊢
  have hl : lv_has ls 2 [(0, .ref a), (1, .int 5)] := hl
  have hS : va_S (fun q => s.heap.size ≤ q) s.heap s.heap [] := va_S.rf
  refine lv_iload_n hx hb dX0_castToName_0 rfl (lv_at hl 1 rfl) ?_
  refine lv_tableOut (x := 5) (tgt := 61) hx hb dX0_castToName_1 (by decide) (by decide) ?_
  refine lv_aload_n hx hb dX0_castToName_61 rfl (lv_at hl 0 rfl) ?_
  have hq : ("PerilSeat$Kin", "PerilSeat$Mourning") ∈ DWn := by decide
  refine vx_castNo (own := "PerilSeat") (C := "PerilSeat$Kin") (nm := "PerilSeat$Mourning") hx hb hown (hts _ q706) hq (hT.2.2.2.2.2.2.2.2.1 _ hq) hT.2.2.2.2.2.2.2.2.2.2 (va_recv hK hP (ci := 6) (q0 := 0) (q := (RX9, TX9, 1)) rfl rfl) dX0_castToName_62 (fun t ht => ?_)
  obtain ⟨t1, t2⟩ := ctxs_ok _ hq t ht
  refine vx_vm (nb := 1000) (names := chC) hx (st_off hfl) (by decide +kernel) (by decide +kernel) (by decide) (by decide) (words_cce hts hT) good_cce hE.1 hE.2 hS (hl.1.trans hml.symm) t1 t2 (Nat.le_refl _) (by decide) (Nat.le_of_ble_eq_true rfl) (by decide) (by decide) (by decide) B.notSynchronized (fun H1 q9 ce hz hk hS1 hce hv hcl => ?_)
  exact vx_out (E := "java/lang/ClassCastException") (fun x hx => (htab x hx).elim) B.notSynchronized hce hv hcl (fun t ht _ => ⟨rfl, by rw [ht]; exact hz, fun q hq _ => by rw [ht]; exact hk q hq⟩) hS1.2.2 (by decide) (by decide)
theorem yX0_castToName_5_X10 (l : Launch) {a : Nat} {fs : List Value} : rMet l yX0_castToName cX0_castToName 2 (some (.object "PerilSeat$Name")) (cR 0 0 0) [.ref a, .int 5] D cA [(a, .inr (7, fs))] (some (.ref a)) := by
  refine rMet_of (by decide +kernel) (Nat.le_of_ble_eq_true rfl) (fun {p e s m args below meth c ls} X Y hl => ?_)
  have hx := X.1.1
  have hb := X.1.2.1
  have hl : lv_has ls 2 [(0, .ref a), (1, .int 5)] := hl
  refine lv_iload_n hx hb dX0_castToName_0 rfl (lv_at hl 1 rfl) ?_
  refine lv_tableOut (x := 5) (tgt := 61) hx hb dX0_castToName_1 (by decide) (by decide) ?_
  refine lv_aload_n hx hb dX0_castToName_61 rfl (lv_at hl 0 rfl) ?_
  refine va_castS (nm := "PerilSeat$Mourning") (own := RX0) hx hb X.1.2.2.2.1 (X.1.2.2.2.2.1 _ q706) (X.2.1.1 7 (RX10, TX10, 1) rfl).2 (va_recv X.2.1 Y.1 (ci := 7) (q0 := 0) (q := (RX10, TX10, 1)) rfl rfl) dX0_castToName_62 ?_
  exact r_aret X.1 Y.2 (Or.inl ⟨_, rfl⟩) dX0_castToName_65
end CASTS
section CASTR
variable {p : Program} {l : Launch} {e : Env} {R : Room} {s : State} {m : MethodId} {args : Array Value} {below : List Frame} {meth : Method} {c : Code} {H : Heap} {locs : List Loc} {cells slots : Nat} {Q : State → Prop}
variable {cc : ByteArray} {nL : Nat} {rt : Option FieldType} {pc : Nat} {ls : Array Slot} {rest : List Value} {D : va_G} {cA : Nat → ClassId} {h : Nat} {ad : Nat → Nat} {A : Nat → Prop} {G G1 : GS} {Z Z0 Z1 : ZT}
theorem c_castYes {y : MethodName} {cc' : ByteArray} {nL' : Nat} {rt' : Option FieldType} {a ci q index : Nat} {fs : List Value} {k : Int32} (X : CC RX0 cc nL rt D cA A p s m args meth c) (Y : CY D cA A s h ad G Z H locs) (hq : (cW h ad cA G Z)[q]? = some (a, .inr (ci, fs))) (hM : rMet l y cc' nL' rt' (cR 0 0 0) [.ref a, .int k] D cA [(a, .inr (ci, fs))] (some (.ref a))) (hG : GoodIn lw_all (va_wsS RX0 index y (ws_ y cc' nL' rt'))) (hd : y.cls ≠ "java/lang/invoke/MethodHandle" ∧ y.cls ≠ "java/lang/invoke/VarHandle" ∧ (parseMethodDescriptor y.desc).map (fun d => d.parameters.length) = some 2) (hrm : 1 ≤ R.frames ∧ 8 + (nL' + 11) ≤ R.locals) (hl : ls.size = nL) (hW : (rest.map fun v => v.category).sum ≤ 8) (hc : cells ≤ R.cells ∧ slots ≤ R.slots) (hdg : decode cc pc = .ok (.invokestatic index, 3))
    (kk : ∀ (H1 : Heap) (locs1 : List Loc), CY D cA A s h ad G Z H1 locs1 → W p l e R s m args below meth c H1 locs1 cells slots Q (F0 m (pc + 3) ls (.ref a :: rest))) : W p l e R s m args below meth c H locs cells slots Q (F0 m pc ls (.int k :: .ref a :: rest)) := by
  obtain ⟨hx, hb, hml, hown, hts, hrt, hlk⟩ := X.1.1
  have hPc : va_P D cls [(a, (.inr (ci, fs) : va_E))] H := fun k' z hz => by
    have hk : k' = 0 := by
      have := (List.getElem?_eq_some_iff.mp hz).1
      simpa using this
    subst hk
    cases hz
    exact Y.1.1 q _ hq
  refine r_tail (va_runS (l := l) (e := e) (R := R) (below := below) (meth := meth) (H := H) (locs := locs) (cells := cells) (slots := slots) (mc := 0) (ms := 0) (g := F0 m pc ls (.int k :: .ref a :: rest)) (rest := rest) (As := [.ref a, .int k]) (Ts := lw_all) (cc := cc) (nL := nL) ⟨hx, hb, hml, hown, hts⟩ hM
    (va_cwS 2 hts hG rfl rfl rfl hd ⟨by show 0 + 1 ≤ R.frames; omega, by show 8 + (nL' + 11) + 40 * 0 ≤ R.locals; omega⟩) ⟨fun a U g mk q => ⟨q.1, q.2.1, va_K.moved (u := U) (U := U.calling g mk a) (Vm.Alike.refl U.vm) q.2.2.1, q.2.2.2.same (u := U) rfl⟩, fun U hU hW => ⟨rfl, by rw [hU]; exact hPc, va_K.moved hW.alike X.1.2.1, X.2.1.warm hW⟩⟩ rfl rfl hl rfl (lv_room hW) hdg hc) Y.1.2.2 (fun H1 locs1 hz hk hS => kk H1 locs1 (Y.kept hk hS))
theorem c_castNo {y : MethodName} {cc' : ByteArray} {nL' : Nat} {rt' : Option FieldType} {a ci q index : Nat} {fs : List Value} {k : Int32} (X : CC RX0 cc nL rt D cA A p s m args meth c) (Y : CY D cA A s h ad G Z H locs) (hq : (cW h ad cA G Z)[q]? = some (a, .inr (ci, fs))) (hM : vx_Met l y (ws_ y cc' nL' rt') rmT (tPc D cA [.ref a, .int k] [(a, .inr (ci, fs))] H.size) (fun _ _ _ _ => False) (tXC "java/lang/ClassCastException" H.size) 3 1010 (fun q => H.size ≤ q)) (hd0 : y.cls = RX0) (hG : GoodIn lw_all (wsS RX0 index y (ws_ y cc' nL' rt'))) (hd : y.cls ≠ "java/lang/invoke/MethodHandle" ∧ y.cls ≠ "java/lang/invoke/VarHandle" ∧ (parseMethodDescriptor y.desc).map (fun d => d.parameters.length) = some 2) (hrm : 9 ≤ R.frames ∧ 8 + (nL' + 11) + 10400 ≤ R.locals) (hl : ls.size = nL) (hW : (rest.map fun v => v.category).sum ≤ 8) (hc : cells + 3 ≤ R.cells ∧ slots + 1010 ≤ R.slots) (hdg : decode cc pc = .ok (.invokestatic index, 3))
    (kk : ∀ (H1 : Heap) (locs1 : List Loc) (q9 : Addr) (ce : Cell), CY D cA A s h ad G Z H1 locs1 → H1[q9]? = some ce → ce.vm = .none → s.vm.findClass "java/lang/ClassCastException" = some ce.cls → vx_W p l e R s m args below meth c H1 locs1 (cells + 3) (slots + 1010) Q (F0 m pc ls rest) q9) : W p l e R s m args below meth c H locs cells slots Q (F0 m pc ls (.int k :: .ref a :: rest)) := by
  obtain ⟨hx, hb, hml, hown, hts, hrt, hlk⟩ := X.1.1
  have hPc : va_P D cls [(a, (.inr (ci, fs) : va_E))] H := fun k' z hz => by
    have hk : k' = 0 := by
      have := (List.getElem?_eq_some_iff.mp hz).1
      simpa using this
    subst hk
    cases hz
    exact Y.1.1 q _ hq
  exact x_tail (E0 := "java/lang/ClassCastException") (mc := 3) (ms := 1010) (rest := rest) X Y (vx_runS (l := l) (e := e) (R := R) (below := below) (meth := meth) (H := H) (locs := locs) (cells := cells) (slots := slots) (mc := 3) (ms := 1010) (rest := rest) (As := [.ref a, .int k]) (Ts := lw_all) (cc := cc) (nL := nL) ⟨hx, hb, hml, hown, hts⟩ hM
    (cwS 2 hts hG rfl rfl rfl ⟨hd0, hd⟩ ⟨by show 8 + 1 ≤ R.frames; omega, hrm.2⟩) ⟨fun a' U g mk q => ⟨q.1, q.2.1, q.2.2.1, va_K.moved (u := U) (U := U.calling g mk a') (Vm.Alike.refl U.vm) q.2.2.2.1, q.2.2.2.2.1.same (u := U) rfl, q.2.2.2.2.2.same (u := U) rfl rfl⟩, fun U hU hW => ⟨rfl, by rw [hU], by rw [hU]; exact hPc, va_K.moved hW.alike X.1.2.1, X.2.1.warm hW, X.2.2.call Y.1.2.2 (fun q hq => X.1.2.2 q (Nat.le_trans Y.1.2.2.1 hq)) hU hW⟩⟩ rfl rfl hl rfl (lv_room hW) hdg hc) (fun _ _ _ h => h) (fun E st t h0 hE => ⟨hE.1, by rw [← h0]; exact hE.2.1, fun q hq => by rw [← h0] at hq ⊢; exact hE.2.2 q hq (by rw [h0] at hq; omega)⟩) (fun q hq => hq) kk
end CASTR
