/-! THE STATE: set and <init> over a few cells; rows for states made, stored, set (printed by tools/gen_state.py, hand part behind it) -/
set_option maxRecDepth 100000
section STATE
variable {p : Program} {l : Launch} {e : Env} {R : Room} {s : State} {m : MethodId} {args : Array Value} {below : List Frame} {meth : Method} {c : Code} {H : Heap} {locs : List Loc} {cells slots : Nat} {Q : State → Prop}
variable {own : String} {cc : ByteArray} {nL : Nat} {rt : Option FieldType} {pc : Nat} {ls : Array Slot} {rest : List Value} {D : va_G} {cA : Nat → ClassId} {ws : va_W}
/-- the cells of a state -/
abbrev stW (cA : Nat → ClassId) (a r n w : Nat) (f g k : Nat → Int32) (th dy : Int32) : va_W := [(a, .inr (2, [.ref r, .ref n, .ref w, .int th, .int dy])), (r, .inl (cA 0, 6, .inl f)), (n, .inl (cA 0, 6, .inl g)), (w, .inl (cA 0, 8, .inl k))]
theorem k_aret {a : Nat} {ty : FieldType} {A : Nat → Prop} {w' : va_W} (B : BX own cc nL (some ty) p s m args meth c) (hP : va_P D cls w' H) (hS : va_S A s.heap H locs) (hty : (∃ n, ty = .object n) ∨ ∃ t, ty = .array t) (hdg : decode cc pc = .ok (.areturn, 1)) : W p l e R s m args below meth c H locs 0 0 (MQ below (fun _ st oc t => oc = .returned (some (.ref a)) ∧ va_P D cls w' t.heap ∧ va_F A st t) args s 0 0 A) (F0 m pc ls [.ref a]) :=
  W.aret (v := .ref a) B.1 B.2.1 B.2.2.2.2.2.1 hty (Or.inr ⟨a, rfl⟩) (fun t ht _ => ⟨rfl, by rw [ht]; exact hP, hS.F ht⟩) hS.2.2 hdg B.2.2.2.2.2.2
set_option maxHeartbeats 4000000 in
theorem kSet (l : Launch) {a r n w o r2 n2 w2 : Nat} {f1 f2 f3 g1 g2 g3 k1 k2 k3 : Nat → Int32} {th dy th2 dy2 : Int32} (e1 : ∀ i, i < 6 → g1 i = k1 i) (e2 : ∀ i, i < 6 → g2 i = k2 i) (e3 : ∀ i, i < 8 → g3 i = k3 i) : kMet l yX1_set cX1_set 2 (some (.object "PerilSeat$State")) (cR 1 0 0) [.ref a, .ref o] D cA (stW cA a r n w f1 f2 f3 th dy ++ stW cA o r2 n2 w2 g1 g2 g3 th2 dy2) (some (.ref a)) (stW cA a r n w k1 k2 k3 th2 dy2 ++ stW cA o r2 n2 w2 g1 g2 g3 th2 dy2) := by
  refine kMet_of (by decide +kernel) (Nat.le_of_ble_eq_true rfl) (fun {p e s m args below meth c ls A} X Y hl => ?_)
  have hx := X.1.1
  have hb := X.1.2.1
  obtain ⟨H, hH⟩ : ∃ H, H = s.heap := ⟨_, rfl⟩
  obtain ⟨hP, hD, hS⟩ := Y
  have hl : lv_has ls 2 [(0, .ref a), (1, .ref o)] := hl
  refine lv_aload_n hx hb dX1_set_0 rfl (lv_at hl 1 rfl) ?_
  refine va_get (D := D) (ci := 2) (v := .ref r2) (C := RX1) (T := TX1) (N := 5) (ref := RX1) hx hb X.1.2.2.2.2.1 in_X1 X.1.2.2.2.1 X.2.1 hP 4 rfl rfl 0 (by decide) (X.1.2.2.2.2.1 _ q118) (fun _ h9 => h9) rfl dX1_set_1 ?_
  refine lv_iconst (v := 0) hx hb dX1_set_4 (by decide) ?_
  refine lv_aload_n hx hb dX1_set_5 rfl (lv_at hl 0 rfl) ?_
  refine va_get (D := D) (ci := 2) (v := .ref r) (C := RX1) (T := TX1) (N := 5) (ref := RX1) hx hb X.1.2.2.2.2.1 in_X1 X.1.2.2.2.1 X.2.1 hP 0 rfl rfl 0 (by decide) (X.1.2.2.2.2.1 _ q118) (fun _ h9 => h9) rfl dX1_set_6 ?_
  refine lv_iconst (v := 0) hx hb dX1_set_9 (by decide) ?_
  refine lv_bipush (v := 6) hx hb dX1_set_10 (by decide) ?_
  refine va_copyi hx hb (X.1.2.2.1.trans hl.1.symm) X.1.2.2.2.1 (X.1.2.2.2.2.1 _ q919) (X.1.2.2.2.2.1 _ q375) (X.1.2.2.2.2.1 _ q374) (X.1.2.2.2.2.1 _ q78) X.2.1 hP hD hS 5 1 0 0 rfl rfl rfl rfl rfl (by decide) (by decide) (by decide) (Nat.le_of_ble_eq_true rfl) (Nat.le_of_ble_eq_true rfl) (fun i _ => rfl) (Nat.le_of_ble_eq_true rfl) (by
    have e : nativeFrameWords "java/lang/System" "arraycopy" 5 = 7 := by decide
    rw [e]; exact Nat.le_of_ble_eq_true rfl) dX1_set_12 (fun H locs hP hD hS => ?_)
  refine lv_aload_n hx hb dX1_set_15 rfl (lv_at hl 1 rfl) ?_
  refine va_get (D := D) (ci := 2) (v := .ref n2) (C := RX1) (T := TX1) (N := 5) (ref := RX1) hx hb X.1.2.2.2.2.1 in_X1 X.1.2.2.2.1 X.2.1 hP 4 rfl rfl 1 (by decide) (X.1.2.2.2.2.1 _ q120) (fun _ h9 => h9) rfl dX1_set_16 ?_
  refine lv_iconst (v := 0) hx hb dX1_set_19 (by decide) ?_
  refine lv_aload_n hx hb dX1_set_20 rfl (lv_at hl 0 rfl) ?_
  refine va_get (D := D) (ci := 2) (v := .ref n) (C := RX1) (T := TX1) (N := 5) (ref := RX1) hx hb X.1.2.2.2.2.1 in_X1 X.1.2.2.2.1 X.2.1 hP 0 rfl rfl 1 (by decide) (X.1.2.2.2.2.1 _ q120) (fun _ h9 => h9) rfl dX1_set_21 ?_
  refine lv_iconst (v := 0) hx hb dX1_set_24 (by decide) ?_
  refine lv_bipush (v := 6) hx hb dX1_set_25 (by decide) ?_
  refine va_copyi hx hb (X.1.2.2.1.trans hl.1.symm) X.1.2.2.2.1 (X.1.2.2.2.2.1 _ q919) (X.1.2.2.2.2.1 _ q375) (X.1.2.2.2.2.1 _ q374) (X.1.2.2.2.2.1 _ q78) X.2.1 hP hD hS 6 2 0 0 rfl rfl rfl rfl rfl (by decide) (by decide) (by decide) (Nat.le_of_ble_eq_true rfl) (Nat.le_of_ble_eq_true rfl) (fun i _ => rfl) (Nat.le_of_ble_eq_true rfl) (by
    have e : nativeFrameWords "java/lang/System" "arraycopy" 5 = 7 := by decide
    rw [e]; exact Nat.le_of_ble_eq_true rfl) dX1_set_27 (fun H locs hP hD hS => ?_)
  refine lv_aload_n hx hb dX1_set_30 rfl (lv_at hl 1 rfl) ?_
  refine va_get (D := D) (ci := 2) (v := .ref w2) (C := RX1) (T := TX1) (N := 5) (ref := RX1) hx hb X.1.2.2.2.2.1 in_X1 X.1.2.2.2.1 X.2.1 hP 4 rfl rfl 2 (by decide) (X.1.2.2.2.2.1 _ q122) (fun _ h9 => h9) rfl dX1_set_31 ?_
  refine lv_iconst (v := 0) hx hb dX1_set_34 (by decide) ?_
  refine lv_aload_n hx hb dX1_set_35 rfl (lv_at hl 0 rfl) ?_
  refine va_get (D := D) (ci := 2) (v := .ref w) (C := RX1) (T := TX1) (N := 5) (ref := RX1) hx hb X.1.2.2.2.2.1 in_X1 X.1.2.2.2.1 X.2.1 hP 0 rfl rfl 2 (by decide) (X.1.2.2.2.2.1 _ q122) (fun _ h9 => h9) rfl dX1_set_36 ?_
  refine lv_iconst (v := 0) hx hb dX1_set_39 (by decide) ?_
  refine lv_bipush (v := 8) hx hb dX1_set_40 (by decide) ?_
  refine va_copyi hx hb (X.1.2.2.1.trans hl.1.symm) X.1.2.2.2.1 (X.1.2.2.2.2.1 _ q919) (X.1.2.2.2.2.1 _ q375) (X.1.2.2.2.2.1 _ q374) (X.1.2.2.2.2.1 _ q78) X.2.1 hP hD hS 7 3 0 0 rfl rfl rfl rfl rfl (by decide) (by decide) (by decide) (Nat.le_of_ble_eq_true rfl) (Nat.le_of_ble_eq_true rfl) (fun i _ => rfl) (Nat.le_of_ble_eq_true rfl) (by
    have e : nativeFrameWords "java/lang/System" "arraycopy" 5 = 7 := by decide
    rw [e]; exact Nat.le_of_ble_eq_true rfl) dX1_set_42 (fun H locs hP hD hS => ?_)
  refine lv_aload_n hx hb dX1_set_45 rfl (lv_at hl 0 rfl) ?_
  refine lv_aload_n hx hb dX1_set_46 rfl (lv_at hl 1 rfl) ?_
  refine va_get (D := D) (ci := 2) (v := .int th2) (C := RX1) (T := TX1) (N := 5) (ref := RX1) hx hb X.1.2.2.2.2.1 in_X1 X.1.2.2.2.1 X.2.1 hP 4 rfl rfl 3 (by decide) (X.1.2.2.2.2.1 _ q124) (fun _ h9 => h9) rfl dX1_set_47 ?_
  refine va_put (D := D) (ci := 2) (v := .int th2) (ty := .int) (C := RX1) (T := TX1) (N := 5) (ref := RX1) hx hb X.1.2.2.2.2.1 in_X1 tyX1 tyX1_ok nmX1 X.1.2.2.2.1 X.2.1 hP hD hS 0 rfl rfl 3 (by decide) (X.1.2.2.2.2.1 _ q124) (fun _ h9 => h9) rfl (tyX1_ok 3 (by decide)) rfl rfl (Nat.le_of_ble_eq_true rfl) dX1_set_50 (fun H locs hP hD hS => ?_)
  refine lv_aload_n hx hb dX1_set_53 rfl (lv_at hl 0 rfl) ?_
  refine lv_aload_n hx hb dX1_set_54 rfl (lv_at hl 1 rfl) ?_
  refine va_get (D := D) (ci := 2) (v := .int dy2) (C := RX1) (T := TX1) (N := 5) (ref := RX1) hx hb X.1.2.2.2.2.1 in_X1 X.1.2.2.2.1 X.2.1 hP 4 rfl rfl 4 (by decide) (X.1.2.2.2.2.1 _ q126) (fun _ h9 => h9) rfl dX1_set_55 ?_
  refine va_put (D := D) (ci := 2) (v := .int dy2) (ty := .int) (C := RX1) (T := TX1) (N := 5) (ref := RX1) hx hb X.1.2.2.2.2.1 in_X1 tyX1 tyX1_ok nmX1 X.1.2.2.2.1 X.2.1 hP hD hS 0 rfl rfl 4 (by decide) (X.1.2.2.2.2.1 _ q126) (fun _ h9 => h9) rfl (tyX1_ok 4 (by decide)) rfl rfl (Nat.le_of_ble_eq_true rfl) dX1_set_58 (fun H locs hP hD hS => ?_)
  refine lv_aload_n hx hb dX1_set_61 rfl (lv_at hl 0 rfl) ?_
  refine k_aret X.1 (fun k z hz => ?_) hS (Or.inl ⟨_, rfl⟩) dX1_set_62
  match k, hz with
  | 0, hz => cases hz; exact hP 0 _ rfl
  | 1, hz => cases hz; exact at_ext (fun i hi => by show va_cpy g1 f1 0 0 6 i = k1 i; unfold va_cpy; rw [if_pos ⟨Nat.zero_le _, by omega⟩, ← e1 i hi]; simp) (hP 1 _ rfl)
  | 2, hz => cases hz; exact at_ext (fun i hi => by show va_cpy g2 f2 0 0 6 i = k2 i; unfold va_cpy; rw [if_pos ⟨Nat.zero_le _, by omega⟩, ← e2 i hi]; simp) (hP 2 _ rfl)
  | 3, hz => cases hz; exact at_ext (fun i hi => by show va_cpy g3 f3 0 0 8 i = k3 i; unfold va_cpy; rw [if_pos ⟨Nat.zero_le _, by omega⟩, ← e3 i hi]; simp) (hP 3 _ rfl)
  | 4, hz => cases hz; exact hP 4 _ rfl
  | 5, hz => cases hz; exact hP 5 _ rfl
  | 6, hz => cases hz; exact hP 6 _ rfl
  | 7, hz => cases hz; exact hP 7 _ rfl
  | k + 8, hz => simp at hz
/-- a contract of a method over a few cells that may make cells -/
def nMet (l : Launch) (y : MethodName) (cc : ByteArray) (nL : Nat) (rt : Option FieldType) (rm : Room) (av : List Value) (D : va_G) (cA : Nat → ClassId) (ws : va_W) (Post : Option Value → va_W → Prop) : Prop :=
  ∀ sz : Nat, Met l y (ws_ y cc nL rt) rm (va_Pc av (fun U => U.heap.size = sz ∧ va_P D cls ws U.heap ∧ va_K D cls (tyL cA) U ∧ va_D (fun _ => True) ws ∧ TWs U)) (fun _ st oc t => ∃ o ws', oc = .returned o ∧ Post o ws' ∧ va_P D cls ws' t.heap ∧ va_D (va_A ws sz) ws' ∧ va_F (va_A ws sz) st t) rm.cells rm.slots (va_A ws sz)
theorem nMet_of {y : MethodName} {rm : Room} {av : List Value} {Post : Option Value → va_W → Prop} (hy : plainName y.cls = true) (hlen : (lg_sl av).length ≤ nL)
    (body : ∀ {p : Program} {e : Env} {s : State} {m : MethodId} {args : Array Value} {below : List Frame} {meth : Method} {c : Code} {ls : Array Slot} {A : Nat → Prop}, RX y.cls cc nL rt D cA p s m args meth c → WX D A s ws s.heap [] → (∀ q, s.heap.size ≤ q → A q) → meth.name = y.name → lv_has ls nL (lv_args 0 av) →
      W p l e rm s m args below meth c s.heap [] 0 0 (MQ below (fun _ st oc t => ∃ o ws', oc = .returned o ∧ Post o ws' ∧ va_P D cls ws' t.heap ∧ va_D A ws' ∧ va_F A st t) args s rm.cells rm.slots A) (F0 m 0 ls [])) : nMet l y cc nL rt rm av D cA ws Post := by
  intro sz
  refine Met.ofW (cc := cc) (maxL := nL) (ret := rt) hy rfl ?_
  intro p e s m args below meth c s₁ B hml hv
  obtain ⟨rfl, hsz, hP, hK, hD, hT⟩ := hv
  subst hsz
  have hts := atoms_spec (ws := ws_ y cc nL rt) B.pre
  rw [lg_entry_eq]
  exact body ⟨⟨B.exec, B.bytes, hml, findClass_of_methodNamed B.named, fun w h => hts w (List.mem_cons_of_mem _ h), B.returns, B.notSynchronized⟩, hK, hT⟩ ⟨hP, hD.self, va_S.rf⟩ (fun q h => Or.inr h) (name_of_methodNamed B.named B.method).1 (lv_entry av hlen)
theorem n_vret {A : Nat → Prop} {w' : va_W} {Post : Option Value → va_W → Prop} (B : BX own cc nL none p s m args meth c) (hpost : Post none w') (hP : va_P D cls w' H) (hD : va_D A w') (hS : va_S A s.heap H locs) (hdg : decode cc pc = .ok (.return_, 1)) : W p l e R s m args below meth c H locs cells slots (MQ below (fun _ st oc t => ∃ o ws', oc = .returned o ∧ Post o ws' ∧ va_P D cls ws' t.heap ∧ va_D A ws' ∧ va_F A st t) args s cells slots A) (F0 m pc ls []) :=
  W.vret B.1 B.2.1 B.2.2.2.2.2.1 (fun t ht _ => ⟨none, w', rfl, hpost, by rw [ht]; exact hP, hD, hS.F ht⟩) hS.2.2 hdg B.2.2.2.2.2.2
/-- a new array of ints -/
theorem n_newI {A : Nat → Prop} {n : Int32} {N : Nat} (X : RX own cc nL rt D cA p s m args meth c) (Y : WX D A s ws H locs) (hA : ∀ q, s.heap.size ≤ q → A q) (hn : ¬ n < 0) (hN : n.toNatClampNeg = N) (hbig : N ≤ 100000) (hcells : cells + 1 ≤ R.cells) (hslots : slots + N ≤ R.slots) (hdg : decode cc pc = .ok (.newarray .int, 2))
    (kk : ∀ (q : Nat) (H1 : Heap), WX D A s (ws ++ [(q, .inl (cA 0, N, .inl (fun _ => 0)))]) H1 locs → W p l e R s m args below meth c H1 locs (cells + 1) (slots + N) Q (F0 m (pc + 2) ls (.ref q :: rest))) : W p l e R s m args below meth c H locs cells slots Q (F0 m pc ls (.int n :: rest)) := by
  refine va_newa (atype := .int) (ty := .int) (a0 := (N, .inl (fun _ => 0))) X.1.1 X.1.2.1 (X.1.2.2.2.2.1 _ q139) rfl X.2.1 Y.1 Y.2.1 Y.2.2 hA (fun _ => rfl) hn hN (by show N * 4 ≤ _; omega) hcells hslots hdg (fun q cA' H1 hK1 hP1 hD1 hS1 => ?_)
  have h1 := (hK1.2 (tyL cA).length (cA', .int) (by simp)).2
  have h2 := (X.2.1.2 0 (cA 0, .int) rfl).2
  have e : cA' = cA 0 := Option.some.inj (h1.symm.trans h2)
  subst e
  exact kk q H1 ⟨hP1, hD1, hS1⟩
set_option maxHeartbeats 4000000 in
theorem nStateInit (l : Launch) {a : Nat} : nMet l yX1_init cX1_init 1 none (cR 1 3 20) [.ref a] D cA [(a, .inr (2, [.null, .null, .null, .int 0, .int 0]))] (fun o ws' => o = none ∧ ∃ r n w : Nat, ws' = stW cA a r n w (fun _ => 0) (fun _ => 0) (fun _ => 0) 0 0) := by
  refine nMet_of (by decide +kernel) (Nat.le_of_ble_eq_true rfl) (fun {p e s m args below meth c ls A} X Y hA hnm hl => ?_)
  have hx := X.1.1
  have hb := X.1.2.1
  have hl : lv_has ls 1 [(0, .ref a)] := hl
  refine lv_aload_n hx hb dX1_init_0 rfl (lv_at hl 0 rfl) ?_
  refine W.objInit hx hb X.1.2.2.2.1 (X.1.2.2.2.2.1 _ q117) (X.1.2.2.2.2.1 _ q108) (X.1.2.2.2.2.1 _ q109) (g := F0 m 1 ls [.ref a]) rfl (hl.1.trans X.1.2.2.1.symm) rfl dX1_init_1 (Nat.le_of_ble_eq_true rfl) (Nat.le_trans (Nat.add_le_add_right (lv_room (m := m) (pc := 1) (ls := ls) (rest := [.ref a]) (st := []) (Nat.le_of_ble_eq_true rfl)) 12) (Nat.le_of_ble_eq_true rfl)) ?_
  refine lv_aload_n hx hb dX1_init_4 rfl (lv_at hl 0 rfl) ?_
  refine lv_bipush (v := 6) hx hb dX1_init_5 (by decide) ?_
  refine n_newI (n := 6) (N := 6) X Y hA (by decide) (by decide) (by decide) (Nat.le_of_ble_eq_true rfl) (Nat.le_of_ble_eq_true rfl) dX1_init_7 (fun r H Y => ?_)
  refine va_putF (D := D) (ci := 2) (v := .ref r) (ty := .array .int) (C := RX1) (T := TX1) (N := 5) (ref := RX1) hx hb X.1.2.2.2.2.1 in_X1 tyX1 tyX1_ok nmX1 X.1.2.2.2.1 X.2.1 Y.1 Y.2.1 Y.2.2 0 rfl rfl 0 (by decide) (X.1.2.2.2.2.1 _ q118) (fun _ h9 => h9) rfl hnm rfl (tyX1_ok 0 (by decide)) rfl rfl (Nat.le_of_ble_eq_true rfl) dX1_init_9 (fun H locs hP hD hS => ?_)
  have Y : WX D A s _ H locs := ⟨hP, hD, hS⟩
  refine lv_aload_n hx hb dX1_init_12 rfl (lv_at hl 0 rfl) ?_
  refine lv_bipush (v := 6) hx hb dX1_init_13 (by decide) ?_
  refine n_newI (n := 6) (N := 6) X Y hA (by decide) (by decide) (by decide) (Nat.le_of_ble_eq_true rfl) (Nat.le_of_ble_eq_true rfl) dX1_init_15 (fun n H Y => ?_)
  refine va_putF (D := D) (ci := 2) (v := .ref n) (ty := .array .int) (C := RX1) (T := TX1) (N := 5) (ref := RX1) hx hb X.1.2.2.2.2.1 in_X1 tyX1 tyX1_ok nmX1 X.1.2.2.2.1 X.2.1 Y.1 Y.2.1 Y.2.2 0 rfl rfl 1 (by decide) (X.1.2.2.2.2.1 _ q120) (fun _ h9 => h9) rfl hnm rfl (tyX1_ok 1 (by decide)) rfl rfl (Nat.le_of_ble_eq_true rfl) dX1_init_17 (fun H locs hP hD hS => ?_)
  have Y : WX D A s _ H locs := ⟨hP, hD, hS⟩
  refine lv_aload_n hx hb dX1_init_20 rfl (lv_at hl 0 rfl) ?_
  refine lv_bipush (v := 8) hx hb dX1_init_21 (by decide) ?_
  refine n_newI (n := 8) (N := 8) X Y hA (by decide) (by decide) (by decide) (Nat.le_of_ble_eq_true rfl) (Nat.le_of_ble_eq_true rfl) dX1_init_23 (fun w H Y => ?_)
  refine va_putF (D := D) (ci := 2) (v := .ref w) (ty := .array .int) (C := RX1) (T := TX1) (N := 5) (ref := RX1) hx hb X.1.2.2.2.2.1 in_X1 tyX1 tyX1_ok nmX1 X.1.2.2.2.1 X.2.1 Y.1 Y.2.1 Y.2.2 0 rfl rfl 2 (by decide) (X.1.2.2.2.2.1 _ q122) (fun _ h9 => h9) rfl hnm rfl (tyX1_ok 2 (by decide)) rfl rfl (Nat.le_of_ble_eq_true rfl) dX1_init_25 (fun H locs hP hD hS => ?_)
  have Y : WX D A s _ H locs := ⟨hP, hD, hS⟩
  exact n_vret (R := cR 1 3 20) (cells := 3) (slots := 20) X.1 ⟨rfl, r, n, w, rfl⟩ Y.1 Y.2.1 Y.2.2 dX1_init_28
end STATE
