/-! NAMES AND KNIGHTS MADE: constructors, named, oned (printed by tools/gen_made.py) -/
set_option maxRecDepth 100000
section MADE
variable {p : Program} {l : Launch} {e : Env} {R : Room} {s : State} {m : MethodId} {args : Array Value} {below : List Frame} {meth : Method} {c : Code} {H : Heap} {locs : List Loc} {cells slots : Nat} {Q : State → Prop}
variable {own : String} {cc : ByteArray} {nL : Nat} {rt : Option FieldType} {pc : Nat} {ls : Array Slot} {rest : List Value} {D : va_G} {cA : Nat → ClassId} {ws : va_W}
/-- .. where the callee is told of all cells -/
theorem n_tailW {mc ms : Nat} {st0 : List Value} {A : Nat → Prop} {w : va_W} {Post : Option Value → va_W → Prop} (hr : va_Run p l e R s m args below meth c H locs cells slots mc ms (F0 m pc ls st0) rest (fun st oc t => ∃ o ws', oc = .returned o ∧ Post o ws' ∧ va_P D cls ws' t.heap ∧ va_D (va_A w H.size) ws' ∧ va_F (va_A w H.size) st t) (va_A w H.size)) (Y : WX D A s w H locs) (hA : ∀ q, s.heap.size ≤ q → A q)
    (kk : ∀ (o : Option Value) (ws' : va_W) (H1 : Heap) (locs1 : List Loc), Post o ws' → WX D A s ws' H1 locs1 → W p l e R s m args below meth c H1 locs1 (cells + mc) (slots + ms) Q (F0 m (pc + 3) ls (o.toList ++ rest))) : W p l e R s m args below meth c H locs cells slots Q (F0 m pc ls st0) := by
  refine n_tail hr Y hA (fun _ h => h) (fun o ws' H1 locs1 hpost hP1 hD1 hz hk hS1 => kk o ws' H1 locs1 hpost ⟨hP1, hD1.weaken (fun k z _ hx => ?_), hS1⟩)
  rcases hx with ⟨i, e, hi⟩ | hx
  · exact Y.2.1.2 i (z.1, e) hi
  · exact hA _ (Nat.le_trans Y.2.2.1 hx)
theorem n_aret {A : Nat → Prop} {a : Nat} {ty : FieldType} {w' : va_W} {Post : Option Value → va_W → Prop} (B : BX own cc nL (some ty) p s m args meth c) (hpost : Post (some (.ref a)) w') (hP : va_P D cls w' H) (hD : va_D A w') (hS : va_S A s.heap H locs) (hty : (∃ n, ty = .object n) ∨ ∃ t, ty = .array t) (hdg : decode cc pc = .ok (.areturn, 1)) : W p l e R s m args below meth c H locs cells slots (MQ below (fun _ st oc t => ∃ o ws', oc = .returned o ∧ Post o ws' ∧ va_P D cls ws' t.heap ∧ va_D A ws' ∧ va_F A st t) args s cells slots A) (F0 m pc ls [.ref a]) :=
  W.aret (v := .ref a) B.1 B.2.1 B.2.2.2.2.2.1 hty (Or.inr ⟨a, rfl⟩) (fun t ht _ => ⟨some (.ref a), w', rfl, hpost, by rw [ht]; exact hP, hD, hS.F ht⟩) hS.2.2 hdg B.2.2.2.2.2.2
theorem one_D {a : Nat} {e : va_E} : va_D (fun _ => True) [(a, e)] := ⟨fun i j x y hi hj _ => by
    have h1 := (List.getElem?_eq_some_iff.mp hi).1
    have h2 := (List.getElem?_eq_some_iff.mp hj).1
    simp only [List.length_cons, List.length_nil] at h1 h2
    omega, fun _ _ _ => trivial⟩
theorem nX5_init_X6 (l : Launch) {a : Nat} {x0 : Int32} : nMet l yX5_init cX5_init 2 none (cR 1 0 0) [.ref a, .int x0] D cA [(a, .inr (3, [.int 0]))] (fun o ws' => o = none ∧ ws' = [(a, .inr (3, [.int x0]))]) := by
  refine nMet_of (by decide +kernel) (Nat.le_of_ble_eq_true rfl) (fun {p e s m args below meth c ls A} X Y hA hnm hl => ?_)
  have hx := X.1.1
  have hb := X.1.2.1
  have hl : lv_has ls 2 [(0, .ref a), (1, .int x0)] := hl
  refine lv_aload_n hx hb dX5_init_0 rfl (lv_at hl 0 rfl) ?_
  refine W.objInit hx hb X.1.2.2.2.1 (X.1.2.2.2.2.1 _ q670) (X.1.2.2.2.2.1 _ q108) (X.1.2.2.2.2.1 _ q109) (g := F0 m 1 ls [.ref a]) rfl (hl.1.trans X.1.2.2.1.symm) rfl dX5_init_1 (Nat.le_of_ble_eq_true rfl) (Nat.le_trans (Nat.add_le_add_right (lv_room (m := m) (pc := 1) (ls := ls) (rest := [.ref a]) (st := []) (Nat.le_of_ble_eq_true rfl)) 12) (Nat.le_of_ble_eq_true rfl)) ?_
  refine lv_aload_n hx hb dX5_init_4 rfl (lv_at hl 0 rfl) ?_
  refine lv_iload_n hx hb dX5_init_5 rfl (lv_at hl 1 rfl) ?_
  refine va_putF (D := D) (ci := 3) (v := .int x0) (ty := .int) (C := RX6) (T := TX6) (N := 1) (ref := RX5) hx hb X.1.2.2.2.2.1 in_X6 tyX6 tyX6_ok nmX6 X.1.2.2.2.1 X.2.1 Y.1 Y.2.1 Y.2.2 0 rfl rfl 0 (by decide) (X.1.2.2.2.2.1 _ q671) (fun _ h9 => h9) rfl hnm rfl (tyX6_ok 0 (by decide)) rfl rfl (Nat.le_of_ble_eq_true rfl) dX5_init_6 (fun H locs hP hD hS => ?_)
  have Y : WX D A s _ H locs := ⟨hP, hD, hS⟩
  exact n_vret (R := cR 1 0 0) (cells := 0) (slots := 0) X.1 ⟨rfl, rfl⟩ Y.1 Y.2.1 Y.2.2 dX5_init_9
theorem nX5_init_X7 (l : Launch) {a : Nat} {x0 : Int32} : nMet l yX5_init cX5_init 2 none (cR 1 0 0) [.ref a, .int x0] D cA [(a, .inr (4, [.int 0]))] (fun o ws' => o = none ∧ ws' = [(a, .inr (4, [.int x0]))]) := by
  refine nMet_of (by decide +kernel) (Nat.le_of_ble_eq_true rfl) (fun {p e s m args below meth c ls A} X Y hA hnm hl => ?_)
  have hx := X.1.1
  have hb := X.1.2.1
  have hl : lv_has ls 2 [(0, .ref a), (1, .int x0)] := hl
  refine lv_aload_n hx hb dX5_init_0 rfl (lv_at hl 0 rfl) ?_
  refine W.objInit hx hb X.1.2.2.2.1 (X.1.2.2.2.2.1 _ q670) (X.1.2.2.2.2.1 _ q108) (X.1.2.2.2.2.1 _ q109) (g := F0 m 1 ls [.ref a]) rfl (hl.1.trans X.1.2.2.1.symm) rfl dX5_init_1 (Nat.le_of_ble_eq_true rfl) (Nat.le_trans (Nat.add_le_add_right (lv_room (m := m) (pc := 1) (ls := ls) (rest := [.ref a]) (st := []) (Nat.le_of_ble_eq_true rfl)) 12) (Nat.le_of_ble_eq_true rfl)) ?_
  refine lv_aload_n hx hb dX5_init_4 rfl (lv_at hl 0 rfl) ?_
  refine lv_iload_n hx hb dX5_init_5 rfl (lv_at hl 1 rfl) ?_
  refine va_putF (D := D) (ci := 4) (v := .int x0) (ty := .int) (C := RX7) (T := TX7) (N := 1) (ref := RX5) hx hb X.1.2.2.2.2.1 in_X7 tyX7 tyX7_ok nmX7 X.1.2.2.2.1 X.2.1 Y.1 Y.2.1 Y.2.2 0 rfl rfl 0 (by decide) (X.1.2.2.2.2.1 _ q671) (fun _ h9 => h9) rfl hnm rfl (tyX7_ok 0 (by decide)) rfl rfl (Nat.le_of_ble_eq_true rfl) dX5_init_6 (fun H locs hP hD hS => ?_)
  have Y : WX D A s _ H locs := ⟨hP, hD, hS⟩
  exact n_vret (R := cR 1 0 0) (cells := 0) (slots := 0) X.1 ⟨rfl, rfl⟩ Y.1 Y.2.1 Y.2.2 dX5_init_9
theorem nX5_init_X8 (l : Launch) {a : Nat} {x0 : Int32} : nMet l yX5_init cX5_init 2 none (cR 1 0 0) [.ref a, .int x0] D cA [(a, .inr (5, [.int 0]))] (fun o ws' => o = none ∧ ws' = [(a, .inr (5, [.int x0]))]) := by
  refine nMet_of (by decide +kernel) (Nat.le_of_ble_eq_true rfl) (fun {p e s m args below meth c ls A} X Y hA hnm hl => ?_)
  have hx := X.1.1
  have hb := X.1.2.1
  have hl : lv_has ls 2 [(0, .ref a), (1, .int x0)] := hl
  refine lv_aload_n hx hb dX5_init_0 rfl (lv_at hl 0 rfl) ?_
  refine W.objInit hx hb X.1.2.2.2.1 (X.1.2.2.2.2.1 _ q670) (X.1.2.2.2.2.1 _ q108) (X.1.2.2.2.2.1 _ q109) (g := F0 m 1 ls [.ref a]) rfl (hl.1.trans X.1.2.2.1.symm) rfl dX5_init_1 (Nat.le_of_ble_eq_true rfl) (Nat.le_trans (Nat.add_le_add_right (lv_room (m := m) (pc := 1) (ls := ls) (rest := [.ref a]) (st := []) (Nat.le_of_ble_eq_true rfl)) 12) (Nat.le_of_ble_eq_true rfl)) ?_
  refine lv_aload_n hx hb dX5_init_4 rfl (lv_at hl 0 rfl) ?_
  refine lv_iload_n hx hb dX5_init_5 rfl (lv_at hl 1 rfl) ?_
  refine va_putF (D := D) (ci := 5) (v := .int x0) (ty := .int) (C := RX8) (T := TX8) (N := 1) (ref := RX5) hx hb X.1.2.2.2.2.1 in_X8 tyX8 tyX8_ok nmX8 X.1.2.2.2.1 X.2.1 Y.1 Y.2.1 Y.2.2 0 rfl rfl 0 (by decide) (X.1.2.2.2.2.1 _ q671) (fun _ h9 => h9) rfl hnm rfl (tyX8_ok 0 (by decide)) rfl rfl (Nat.le_of_ble_eq_true rfl) dX5_init_6 (fun H locs hP hD hS => ?_)
  have Y : WX D A s _ H locs := ⟨hP, hD, hS⟩
  exact n_vret (R := cR 1 0 0) (cells := 0) (slots := 0) X.1 ⟨rfl, rfl⟩ Y.1 Y.2.1 Y.2.2 dX5_init_9
theorem nX5_init_X9 (l : Launch) {a : Nat} {x0 : Int32} : nMet l yX5_init cX5_init 2 none (cR 1 0 0) [.ref a, .int x0] D cA [(a, .inr (6, [.int 0]))] (fun o ws' => o = none ∧ ws' = [(a, .inr (6, [.int x0]))]) := by
  refine nMet_of (by decide +kernel) (Nat.le_of_ble_eq_true rfl) (fun {p e s m args below meth c ls A} X Y hA hnm hl => ?_)
  have hx := X.1.1
  have hb := X.1.2.1
  have hl : lv_has ls 2 [(0, .ref a), (1, .int x0)] := hl
  refine lv_aload_n hx hb dX5_init_0 rfl (lv_at hl 0 rfl) ?_
  refine W.objInit hx hb X.1.2.2.2.1 (X.1.2.2.2.2.1 _ q670) (X.1.2.2.2.2.1 _ q108) (X.1.2.2.2.2.1 _ q109) (g := F0 m 1 ls [.ref a]) rfl (hl.1.trans X.1.2.2.1.symm) rfl dX5_init_1 (Nat.le_of_ble_eq_true rfl) (Nat.le_trans (Nat.add_le_add_right (lv_room (m := m) (pc := 1) (ls := ls) (rest := [.ref a]) (st := []) (Nat.le_of_ble_eq_true rfl)) 12) (Nat.le_of_ble_eq_true rfl)) ?_
  refine lv_aload_n hx hb dX5_init_4 rfl (lv_at hl 0 rfl) ?_
  refine lv_iload_n hx hb dX5_init_5 rfl (lv_at hl 1 rfl) ?_
  refine va_putF (D := D) (ci := 6) (v := .int x0) (ty := .int) (C := RX9) (T := TX9) (N := 1) (ref := RX5) hx hb X.1.2.2.2.2.1 in_X9 tyX9 tyX9_ok nmX9 X.1.2.2.2.1 X.2.1 Y.1 Y.2.1 Y.2.2 0 rfl rfl 0 (by decide) (X.1.2.2.2.2.1 _ q671) (fun _ h9 => h9) rfl hnm rfl (tyX9_ok 0 (by decide)) rfl rfl (Nat.le_of_ble_eq_true rfl) dX5_init_6 (fun H locs hP hD hS => ?_)
  have Y : WX D A s _ H locs := ⟨hP, hD, hS⟩
  exact n_vret (R := cR 1 0 0) (cells := 0) (slots := 0) X.1 ⟨rfl, rfl⟩ Y.1 Y.2.1 Y.2.2 dX5_init_9
theorem nX5_init_X10 (l : Launch) {a : Nat} {x0 : Int32} : nMet l yX5_init cX5_init 2 none (cR 1 0 0) [.ref a, .int x0] D cA [(a, .inr (7, [.int 0]))] (fun o ws' => o = none ∧ ws' = [(a, .inr (7, [.int x0]))]) := by
  refine nMet_of (by decide +kernel) (Nat.le_of_ble_eq_true rfl) (fun {p e s m args below meth c ls A} X Y hA hnm hl => ?_)
  have hx := X.1.1
  have hb := X.1.2.1
  have hl : lv_has ls 2 [(0, .ref a), (1, .int x0)] := hl
  refine lv_aload_n hx hb dX5_init_0 rfl (lv_at hl 0 rfl) ?_
  refine W.objInit hx hb X.1.2.2.2.1 (X.1.2.2.2.2.1 _ q670) (X.1.2.2.2.2.1 _ q108) (X.1.2.2.2.2.1 _ q109) (g := F0 m 1 ls [.ref a]) rfl (hl.1.trans X.1.2.2.1.symm) rfl dX5_init_1 (Nat.le_of_ble_eq_true rfl) (Nat.le_trans (Nat.add_le_add_right (lv_room (m := m) (pc := 1) (ls := ls) (rest := [.ref a]) (st := []) (Nat.le_of_ble_eq_true rfl)) 12) (Nat.le_of_ble_eq_true rfl)) ?_
  refine lv_aload_n hx hb dX5_init_4 rfl (lv_at hl 0 rfl) ?_
  refine lv_iload_n hx hb dX5_init_5 rfl (lv_at hl 1 rfl) ?_
  refine va_putF (D := D) (ci := 7) (v := .int x0) (ty := .int) (C := RX10) (T := TX10) (N := 1) (ref := RX5) hx hb X.1.2.2.2.2.1 in_X10 tyX10 tyX10_ok nmX10 X.1.2.2.2.1 X.2.1 Y.1 Y.2.1 Y.2.2 0 rfl rfl 0 (by decide) (X.1.2.2.2.2.1 _ q671) (fun _ h9 => h9) rfl hnm rfl (tyX10_ok 0 (by decide)) rfl rfl (Nat.le_of_ble_eq_true rfl) dX5_init_6 (fun H locs hP hD hS => ?_)
  have Y : WX D A s _ H locs := ⟨hP, hD, hS⟩
  exact n_vret (R := cR 1 0 0) (cells := 0) (slots := 0) X.1 ⟨rfl, rfl⟩ Y.1 Y.2.1 Y.2.2 dX5_init_9
theorem nX6_init_X6 (l : Launch) {a : Nat} {x0 : Int32} : nMet l yX6_init cX6_init 2 none (cR 2 0 0) [.ref a, .int x0] D cA [(a, .inr (3, [.int 0]))] (fun o ws' => o = none ∧ ws' = [(a, .inr (3, [.int x0]))]) := by
  refine nMet_of (by decide +kernel) (Nat.le_of_ble_eq_true rfl) (fun {p e s m args below meth c ls A} X Y hA hnm hl => ?_)
  have hx := X.1.1
  have hb := X.1.2.1
  have hl : lv_has ls 2 [(0, .ref a), (1, .int x0)] := hl
  refine lv_aload_n hx hb dX6_init_0 rfl (lv_at hl 0 rfl) ?_
  refine lv_iload_n hx hb dX6_init_1 rfl (lv_at hl 1 rfl) ?_
  refine n_tailW (rest := []) (va_runI (mc := 0) (ms := 0) (rest := []) (b := a) (As := [.int x0]) (Ts := lw_all) (cc := cX6_init) (nL := 2) ⟨hx, hb, X.1.2.2.1, X.1.2.2.2.1, X.1.2.2.2.2.1⟩ (nX5_init_X6 (D := D) (cA := cA) l s.heap.size)
    (cwI 1 X.1.2.2.2.2.1 (lw_meth q669) rfl rfl rfl (X.1.2.2.2.2.1 _ q89) (X.1.2.2.2.2.1 _ q667) (X.1.2.2.2.2.1 _ q668) rfl ⟨by decide, by decide, by decide +kernel⟩ ⟨by decide, by decide⟩) (k_pre X.2.1 X.2.2 Y Y.1 one_D [.ref a, .int x0]) rfl rfl hl.1 rfl (lv_room (Nat.le_of_ble_eq_true rfl)) dX6_init_2 ⟨by decide, by decide⟩) Y hA (fun o ws' H locs hpost Y => ?_)
  obtain ⟨rfl, rfl⟩ := hpost
  exact n_vret (R := cR 2 0 0) (cells := 0) (slots := 0) X.1 ⟨rfl, rfl⟩ Y.1 Y.2.1 Y.2.2 dX6_init_5
theorem nX6_init_X7 (l : Launch) {a : Nat} {x0 : Int32} : nMet l yX6_init cX6_init 2 none (cR 2 0 0) [.ref a, .int x0] D cA [(a, .inr (4, [.int 0]))] (fun o ws' => o = none ∧ ws' = [(a, .inr (4, [.int x0]))]) := by
  refine nMet_of (by decide +kernel) (Nat.le_of_ble_eq_true rfl) (fun {p e s m args below meth c ls A} X Y hA hnm hl => ?_)
  have hx := X.1.1
  have hb := X.1.2.1
  have hl : lv_has ls 2 [(0, .ref a), (1, .int x0)] := hl
  refine lv_aload_n hx hb dX6_init_0 rfl (lv_at hl 0 rfl) ?_
  refine lv_iload_n hx hb dX6_init_1 rfl (lv_at hl 1 rfl) ?_
  refine n_tailW (rest := []) (va_runI (mc := 0) (ms := 0) (rest := []) (b := a) (As := [.int x0]) (Ts := lw_all) (cc := cX6_init) (nL := 2) ⟨hx, hb, X.1.2.2.1, X.1.2.2.2.1, X.1.2.2.2.2.1⟩ (nX5_init_X7 (D := D) (cA := cA) l s.heap.size)
    (cwI 1 X.1.2.2.2.2.1 (lw_meth q669) rfl rfl rfl (X.1.2.2.2.2.1 _ q89) (X.1.2.2.2.2.1 _ q667) (X.1.2.2.2.2.1 _ q668) rfl ⟨by decide, by decide, by decide +kernel⟩ ⟨by decide, by decide⟩) (k_pre X.2.1 X.2.2 Y Y.1 one_D [.ref a, .int x0]) rfl rfl hl.1 rfl (lv_room (Nat.le_of_ble_eq_true rfl)) dX6_init_2 ⟨by decide, by decide⟩) Y hA (fun o ws' H locs hpost Y => ?_)
  obtain ⟨rfl, rfl⟩ := hpost
  exact n_vret (R := cR 2 0 0) (cells := 0) (slots := 0) X.1 ⟨rfl, rfl⟩ Y.1 Y.2.1 Y.2.2 dX6_init_5
theorem nX6_init_X8 (l : Launch) {a : Nat} {x0 : Int32} : nMet l yX6_init cX6_init 2 none (cR 2 0 0) [.ref a, .int x0] D cA [(a, .inr (5, [.int 0]))] (fun o ws' => o = none ∧ ws' = [(a, .inr (5, [.int x0]))]) := by
  refine nMet_of (by decide +kernel) (Nat.le_of_ble_eq_true rfl) (fun {p e s m args below meth c ls A} X Y hA hnm hl => ?_)
  have hx := X.1.1
  have hb := X.1.2.1
  have hl : lv_has ls 2 [(0, .ref a), (1, .int x0)] := hl
  refine lv_aload_n hx hb dX6_init_0 rfl (lv_at hl 0 rfl) ?_
  refine lv_iload_n hx hb dX6_init_1 rfl (lv_at hl 1 rfl) ?_
  refine n_tailW (rest := []) (va_runI (mc := 0) (ms := 0) (rest := []) (b := a) (As := [.int x0]) (Ts := lw_all) (cc := cX6_init) (nL := 2) ⟨hx, hb, X.1.2.2.1, X.1.2.2.2.1, X.1.2.2.2.2.1⟩ (nX5_init_X8 (D := D) (cA := cA) l s.heap.size)
    (cwI 1 X.1.2.2.2.2.1 (lw_meth q669) rfl rfl rfl (X.1.2.2.2.2.1 _ q89) (X.1.2.2.2.2.1 _ q667) (X.1.2.2.2.2.1 _ q668) rfl ⟨by decide, by decide, by decide +kernel⟩ ⟨by decide, by decide⟩) (k_pre X.2.1 X.2.2 Y Y.1 one_D [.ref a, .int x0]) rfl rfl hl.1 rfl (lv_room (Nat.le_of_ble_eq_true rfl)) dX6_init_2 ⟨by decide, by decide⟩) Y hA (fun o ws' H locs hpost Y => ?_)
  obtain ⟨rfl, rfl⟩ := hpost
  exact n_vret (R := cR 2 0 0) (cells := 0) (slots := 0) X.1 ⟨rfl, rfl⟩ Y.1 Y.2.1 Y.2.2 dX6_init_5
theorem nX7_init_X7 (l : Launch) {a : Nat} {x0 : Int32} : nMet l yX7_init cX7_init 2 none (cR 3 0 0) [.ref a, .int x0] D cA [(a, .inr (4, [.int 0]))] (fun o ws' => o = none ∧ ws' = [(a, .inr (4, [.int x0]))]) := by
  refine nMet_of (by decide +kernel) (Nat.le_of_ble_eq_true rfl) (fun {p e s m args below meth c ls A} X Y hA hnm hl => ?_)
  have hx := X.1.1
  have hb := X.1.2.1
  have hl : lv_has ls 2 [(0, .ref a), (1, .int x0)] := hl
  refine lv_aload_n hx hb dX7_init_0 rfl (lv_at hl 0 rfl) ?_
  refine lv_iload_n hx hb dX7_init_1 rfl (lv_at hl 1 rfl) ?_
  refine n_tailW (rest := []) (va_runI (mc := 0) (ms := 0) (rest := []) (b := a) (As := [.int x0]) (Ts := lw_all) (cc := cX7_init) (nL := 2) ⟨hx, hb, X.1.2.2.1, X.1.2.2.2.1, X.1.2.2.2.2.1⟩ (nX6_init_X7 (D := D) (cA := cA) l s.heap.size)
    (cwI 1 X.1.2.2.2.2.1 (lw_meth q666) rfl rfl rfl (X.1.2.2.2.2.1 _ q90) (X.1.2.2.2.2.1 _ q687) (X.1.2.2.2.2.1 _ q665) rfl ⟨by decide, by decide, by decide +kernel⟩ ⟨by decide, by decide⟩) (k_pre X.2.1 X.2.2 Y Y.1 one_D [.ref a, .int x0]) rfl rfl hl.1 rfl (lv_room (Nat.le_of_ble_eq_true rfl)) dX7_init_2 ⟨by decide, by decide⟩) Y hA (fun o ws' H locs hpost Y => ?_)
  obtain ⟨rfl, rfl⟩ := hpost
  exact n_vret (R := cR 3 0 0) (cells := 0) (slots := 0) X.1 ⟨rfl, rfl⟩ Y.1 Y.2.1 Y.2.2 dX7_init_5
theorem nX8_init_X8 (l : Launch) {a : Nat} {x0 : Int32} : nMet l yX8_init cX8_init 2 none (cR 3 0 0) [.ref a, .int x0] D cA [(a, .inr (5, [.int 0]))] (fun o ws' => o = none ∧ ws' = [(a, .inr (5, [.int x0]))]) := by
  refine nMet_of (by decide +kernel) (Nat.le_of_ble_eq_true rfl) (fun {p e s m args below meth c ls A} X Y hA hnm hl => ?_)
  have hx := X.1.1
  have hb := X.1.2.1
  have hl : lv_has ls 2 [(0, .ref a), (1, .int x0)] := hl
  refine lv_aload_n hx hb dX8_init_0 rfl (lv_at hl 0 rfl) ?_
  refine lv_iload_n hx hb dX8_init_1 rfl (lv_at hl 1 rfl) ?_
  refine n_tailW (rest := []) (va_runI (mc := 0) (ms := 0) (rest := []) (b := a) (As := [.int x0]) (Ts := lw_all) (cc := cX8_init) (nL := 2) ⟨hx, hb, X.1.2.2.1, X.1.2.2.2.1, X.1.2.2.2.2.1⟩ (nX6_init_X8 (D := D) (cA := cA) l s.heap.size)
    (cwI 1 X.1.2.2.2.2.1 (lw_meth q666) rfl rfl rfl (X.1.2.2.2.2.1 _ q90) (X.1.2.2.2.2.1 _ q695) (X.1.2.2.2.2.1 _ q665) rfl ⟨by decide, by decide, by decide +kernel⟩ ⟨by decide, by decide⟩) (k_pre X.2.1 X.2.2 Y Y.1 one_D [.ref a, .int x0]) rfl rfl hl.1 rfl (lv_room (Nat.le_of_ble_eq_true rfl)) dX8_init_2 ⟨by decide, by decide⟩) Y hA (fun o ws' H locs hpost Y => ?_)
  obtain ⟨rfl, rfl⟩ := hpost
  exact n_vret (R := cR 3 0 0) (cells := 0) (slots := 0) X.1 ⟨rfl, rfl⟩ Y.1 Y.2.1 Y.2.2 dX8_init_5
theorem nX9_init_X9 (l : Launch) {a : Nat} {x0 : Int32} : nMet l yX9_init cX9_init 2 none (cR 2 0 0) [.ref a, .int x0] D cA [(a, .inr (6, [.int 0]))] (fun o ws' => o = none ∧ ws' = [(a, .inr (6, [.int x0]))]) := by
  refine nMet_of (by decide +kernel) (Nat.le_of_ble_eq_true rfl) (fun {p e s m args below meth c ls A} X Y hA hnm hl => ?_)
  have hx := X.1.1
  have hb := X.1.2.1
  have hl : lv_has ls 2 [(0, .ref a), (1, .int x0)] := hl
  refine lv_aload_n hx hb dX9_init_0 rfl (lv_at hl 0 rfl) ?_
  refine lv_iload_n hx hb dX9_init_1 rfl (lv_at hl 1 rfl) ?_
  refine n_tailW (rest := []) (va_runI (mc := 0) (ms := 0) (rest := []) (b := a) (As := [.int x0]) (Ts := lw_all) (cc := cX9_init) (nL := 2) ⟨hx, hb, X.1.2.2.1, X.1.2.2.2.1, X.1.2.2.2.2.1⟩ (nX5_init_X9 (D := D) (cA := cA) l s.heap.size)
    (cwI 1 X.1.2.2.2.2.1 (lw_meth q669) rfl rfl rfl (X.1.2.2.2.2.1 _ q89) (X.1.2.2.2.2.1 _ q703) (X.1.2.2.2.2.1 _ q668) rfl ⟨by decide, by decide, by decide +kernel⟩ ⟨by decide, by decide⟩) (k_pre X.2.1 X.2.2 Y Y.1 one_D [.ref a, .int x0]) rfl rfl hl.1 rfl (lv_room (Nat.le_of_ble_eq_true rfl)) dX9_init_2 ⟨by decide, by decide⟩) Y hA (fun o ws' H locs hpost Y => ?_)
  obtain ⟨rfl, rfl⟩ := hpost
  exact n_vret (R := cR 2 0 0) (cells := 0) (slots := 0) X.1 ⟨rfl, rfl⟩ Y.1 Y.2.1 Y.2.2 dX9_init_5
theorem nX10_init_X10 (l : Launch) {a : Nat} : nMet l yX10_init cX10_init 1 none (cR 2 0 0) [.ref a] D cA [(a, .inr (7, [.int 0]))] (fun o ws' => o = none ∧ ws' = [(a, .inr (7, [.int 0]))]) := by
  refine nMet_of (by decide +kernel) (Nat.le_of_ble_eq_true rfl) (fun {p e s m args below meth c ls A} X Y hA hnm hl => ?_)
  have hx := X.1.1
  have hb := X.1.2.1
  have hl : lv_has ls 1 [(0, .ref a)] := hl
  refine lv_aload_n hx hb dX10_init_0 rfl (lv_at hl 0 rfl) ?_
  refine lv_iconst (v := 0) hx hb dX10_init_1 (by decide) ?_
  refine n_tailW (rest := []) (va_runI (mc := 0) (ms := 0) (rest := []) (b := a) (As := [.int 0]) (Ts := lw_all) (cc := cX10_init) (nL := 1) ⟨hx, hb, X.1.2.2.1, X.1.2.2.2.1, X.1.2.2.2.2.1⟩ (nX5_init_X10 (D := D) (cA := cA) l s.heap.size)
    (cwI 1 X.1.2.2.2.2.1 (lw_meth q669) rfl rfl rfl (X.1.2.2.2.2.1 _ q89) (X.1.2.2.2.2.1 _ q711) (X.1.2.2.2.2.1 _ q668) rfl ⟨by decide, by decide, by decide +kernel⟩ ⟨by decide, by decide⟩) (k_pre X.2.1 X.2.2 Y Y.1 one_D [.ref a, .int 0]) rfl rfl hl.1 rfl (lv_room (Nat.le_of_ble_eq_true rfl)) dX10_init_2 ⟨by decide, by decide⟩) Y hA (fun o ws' H locs hpost Y => ?_)
  obtain ⟨rfl, rfl⟩ := hpost
  exact n_vret (R := cR 2 0 0) (cells := 0) (slots := 0) X.1 ⟨rfl, rfl⟩ Y.1 Y.2.1 Y.2.2 dX10_init_5
theorem nX11_init_X12 (l : Launch) {a : Nat} {x0 x1 : Int32} : nMet l yX11_init cX11_init 3 none (cR 1 0 0) [.ref a, .int x0, .int x1] D cA [(a, .inr (8, [.int 0, .int 0]))] (fun o ws' => o = none ∧ ws' = [(a, .inr (8, [.int x0, .int x1]))]) := by
  refine nMet_of (by decide +kernel) (Nat.le_of_ble_eq_true rfl) (fun {p e s m args below meth c ls A} X Y hA hnm hl => ?_)
  have hx := X.1.1
  have hb := X.1.2.1
  have hl : lv_has ls 3 [(0, .ref a), (1, .int x0), (2, .int x1)] := hl
  refine lv_aload_n hx hb dX11_init_0 rfl (lv_at hl 0 rfl) ?_
  refine W.objInit hx hb X.1.2.2.2.1 (X.1.2.2.2.2.1 _ q725) (X.1.2.2.2.2.1 _ q108) (X.1.2.2.2.2.1 _ q109) (g := F0 m 1 ls [.ref a]) rfl (hl.1.trans X.1.2.2.1.symm) rfl dX11_init_1 (Nat.le_of_ble_eq_true rfl) (Nat.le_trans (Nat.add_le_add_right (lv_room (m := m) (pc := 1) (ls := ls) (rest := [.ref a]) (st := []) (Nat.le_of_ble_eq_true rfl)) 12) (Nat.le_of_ble_eq_true rfl)) ?_
  refine lv_aload_n hx hb dX11_init_4 rfl (lv_at hl 0 rfl) ?_
  refine lv_iload_n hx hb dX11_init_5 rfl (lv_at hl 1 rfl) ?_
  refine va_putF (D := D) (ci := 8) (v := .int x0) (ty := .int) (C := RX12) (T := TX12) (N := 2) (ref := RX11) hx hb X.1.2.2.2.2.1 in_X12 tyX12 tyX12_ok nmX12 X.1.2.2.2.1 X.2.1 Y.1 Y.2.1 Y.2.2 0 rfl rfl 0 (by decide) (X.1.2.2.2.2.1 _ q726) (fun _ h9 => h9) rfl hnm rfl (tyX12_ok 0 (by decide)) rfl rfl (Nat.le_of_ble_eq_true rfl) dX11_init_6 (fun H locs hP hD hS => ?_)
  have Y : WX D A s _ H locs := ⟨hP, hD, hS⟩
  refine lv_aload_n hx hb dX11_init_9 rfl (lv_at hl 0 rfl) ?_
  refine lv_iload_n hx hb dX11_init_10 rfl (lv_at hl 2 rfl) ?_
  refine va_putF (D := D) (ci := 8) (v := .int x1) (ty := .int) (C := RX12) (T := TX12) (N := 2) (ref := RX11) hx hb X.1.2.2.2.2.1 in_X12 tyX12 tyX12_ok nmX12 X.1.2.2.2.1 X.2.1 Y.1 Y.2.1 Y.2.2 0 rfl rfl 1 (by decide) (X.1.2.2.2.2.1 _ q728) (fun _ h9 => h9) rfl hnm rfl (tyX12_ok 1 (by decide)) rfl rfl (Nat.le_of_ble_eq_true rfl) dX11_init_11 (fun H locs hP hD hS => ?_)
  have Y : WX D A s _ H locs := ⟨hP, hD, hS⟩
  exact n_vret (R := cR 1 0 0) (cells := 0) (slots := 0) X.1 ⟨rfl, rfl⟩ Y.1 Y.2.1 Y.2.2 dX11_init_14
theorem nX11_init_X13 (l : Launch) {a : Nat} {x0 x1 : Int32} : nMet l yX11_init cX11_init 3 none (cR 1 0 0) [.ref a, .int x0, .int x1] D cA [(a, .inr (9, [.int 0, .int 0]))] (fun o ws' => o = none ∧ ws' = [(a, .inr (9, [.int x0, .int x1]))]) := by
  refine nMet_of (by decide +kernel) (Nat.le_of_ble_eq_true rfl) (fun {p e s m args below meth c ls A} X Y hA hnm hl => ?_)
  have hx := X.1.1
  have hb := X.1.2.1
  have hl : lv_has ls 3 [(0, .ref a), (1, .int x0), (2, .int x1)] := hl
  refine lv_aload_n hx hb dX11_init_0 rfl (lv_at hl 0 rfl) ?_
  refine W.objInit hx hb X.1.2.2.2.1 (X.1.2.2.2.2.1 _ q725) (X.1.2.2.2.2.1 _ q108) (X.1.2.2.2.2.1 _ q109) (g := F0 m 1 ls [.ref a]) rfl (hl.1.trans X.1.2.2.1.symm) rfl dX11_init_1 (Nat.le_of_ble_eq_true rfl) (Nat.le_trans (Nat.add_le_add_right (lv_room (m := m) (pc := 1) (ls := ls) (rest := [.ref a]) (st := []) (Nat.le_of_ble_eq_true rfl)) 12) (Nat.le_of_ble_eq_true rfl)) ?_
  refine lv_aload_n hx hb dX11_init_4 rfl (lv_at hl 0 rfl) ?_
  refine lv_iload_n hx hb dX11_init_5 rfl (lv_at hl 1 rfl) ?_
  refine va_putF (D := D) (ci := 9) (v := .int x0) (ty := .int) (C := RX13) (T := TX13) (N := 2) (ref := RX11) hx hb X.1.2.2.2.2.1 in_X13 tyX13 tyX13_ok nmX13 X.1.2.2.2.1 X.2.1 Y.1 Y.2.1 Y.2.2 0 rfl rfl 0 (by decide) (X.1.2.2.2.2.1 _ q726) (fun _ h9 => h9) rfl hnm rfl (tyX13_ok 0 (by decide)) rfl rfl (Nat.le_of_ble_eq_true rfl) dX11_init_6 (fun H locs hP hD hS => ?_)
  have Y : WX D A s _ H locs := ⟨hP, hD, hS⟩
  refine lv_aload_n hx hb dX11_init_9 rfl (lv_at hl 0 rfl) ?_
  refine lv_iload_n hx hb dX11_init_10 rfl (lv_at hl 2 rfl) ?_
  refine va_putF (D := D) (ci := 9) (v := .int x1) (ty := .int) (C := RX13) (T := TX13) (N := 2) (ref := RX11) hx hb X.1.2.2.2.2.1 in_X13 tyX13 tyX13_ok nmX13 X.1.2.2.2.1 X.2.1 Y.1 Y.2.1 Y.2.2 0 rfl rfl 1 (by decide) (X.1.2.2.2.2.1 _ q728) (fun _ h9 => h9) rfl hnm rfl (tyX13_ok 1 (by decide)) rfl rfl (Nat.le_of_ble_eq_true rfl) dX11_init_11 (fun H locs hP hD hS => ?_)
  have Y : WX D A s _ H locs := ⟨hP, hD, hS⟩
  exact n_vret (R := cR 1 0 0) (cells := 0) (slots := 0) X.1 ⟨rfl, rfl⟩ Y.1 Y.2.1 Y.2.2 dX11_init_14
theorem nX11_init_X14 (l : Launch) {a : Nat} {x0 x1 : Int32} : nMet l yX11_init cX11_init 3 none (cR 1 0 0) [.ref a, .int x0, .int x1] D cA [(a, .inr (10, [.int 0, .int 0]))] (fun o ws' => o = none ∧ ws' = [(a, .inr (10, [.int x0, .int x1]))]) := by
  refine nMet_of (by decide +kernel) (Nat.le_of_ble_eq_true rfl) (fun {p e s m args below meth c ls A} X Y hA hnm hl => ?_)
  have hx := X.1.1
  have hb := X.1.2.1
  have hl : lv_has ls 3 [(0, .ref a), (1, .int x0), (2, .int x1)] := hl
  refine lv_aload_n hx hb dX11_init_0 rfl (lv_at hl 0 rfl) ?_
  refine W.objInit hx hb X.1.2.2.2.1 (X.1.2.2.2.2.1 _ q725) (X.1.2.2.2.2.1 _ q108) (X.1.2.2.2.2.1 _ q109) (g := F0 m 1 ls [.ref a]) rfl (hl.1.trans X.1.2.2.1.symm) rfl dX11_init_1 (Nat.le_of_ble_eq_true rfl) (Nat.le_trans (Nat.add_le_add_right (lv_room (m := m) (pc := 1) (ls := ls) (rest := [.ref a]) (st := []) (Nat.le_of_ble_eq_true rfl)) 12) (Nat.le_of_ble_eq_true rfl)) ?_
  refine lv_aload_n hx hb dX11_init_4 rfl (lv_at hl 0 rfl) ?_
  refine lv_iload_n hx hb dX11_init_5 rfl (lv_at hl 1 rfl) ?_
  refine va_putF (D := D) (ci := 10) (v := .int x0) (ty := .int) (C := RX14) (T := TX14) (N := 2) (ref := RX11) hx hb X.1.2.2.2.2.1 in_X14 tyX14 tyX14_ok nmX14 X.1.2.2.2.1 X.2.1 Y.1 Y.2.1 Y.2.2 0 rfl rfl 0 (by decide) (X.1.2.2.2.2.1 _ q726) (fun _ h9 => h9) rfl hnm rfl (tyX14_ok 0 (by decide)) rfl rfl (Nat.le_of_ble_eq_true rfl) dX11_init_6 (fun H locs hP hD hS => ?_)
  have Y : WX D A s _ H locs := ⟨hP, hD, hS⟩
  refine lv_aload_n hx hb dX11_init_9 rfl (lv_at hl 0 rfl) ?_
  refine lv_iload_n hx hb dX11_init_10 rfl (lv_at hl 2 rfl) ?_
  refine va_putF (D := D) (ci := 10) (v := .int x1) (ty := .int) (C := RX14) (T := TX14) (N := 2) (ref := RX11) hx hb X.1.2.2.2.2.1 in_X14 tyX14 tyX14_ok nmX14 X.1.2.2.2.1 X.2.1 Y.1 Y.2.1 Y.2.2 0 rfl rfl 1 (by decide) (X.1.2.2.2.2.1 _ q728) (fun _ h9 => h9) rfl hnm rfl (tyX14_ok 1 (by decide)) rfl rfl (Nat.le_of_ble_eq_true rfl) dX11_init_11 (fun H locs hP hD hS => ?_)
  have Y : WX D A s _ H locs := ⟨hP, hD, hS⟩
  exact n_vret (R := cR 1 0 0) (cells := 0) (slots := 0) X.1 ⟨rfl, rfl⟩ Y.1 Y.2.1 Y.2.2 dX11_init_14
theorem nX12_init_X12 (l : Launch) {a : Nat} {x0 x1 : Int32} : nMet l yX12_init cX12_init 3 none (cR 2 0 0) [.ref a, .int x0, .int x1] D cA [(a, .inr (8, [.int 0, .int 0]))] (fun o ws' => o = none ∧ ws' = [(a, .inr (8, [.int x0, .int x1]))]) := by
  refine nMet_of (by decide +kernel) (Nat.le_of_ble_eq_true rfl) (fun {p e s m args below meth c ls A} X Y hA hnm hl => ?_)
  have hx := X.1.1
  have hb := X.1.2.1
  have hl : lv_has ls 3 [(0, .ref a), (1, .int x0), (2, .int x1)] := hl
  refine lv_aload_n hx hb dX12_init_0 rfl (lv_at hl 0 rfl) ?_
  refine lv_iload_n hx hb dX12_init_1 rfl (lv_at hl 1 rfl) ?_
  refine lv_iload_n hx hb dX12_init_2 rfl (lv_at hl 2 rfl) ?_
  refine n_tailW (rest := []) (va_runI (mc := 0) (ms := 0) (rest := []) (b := a) (As := [.int x0, .int x1]) (Ts := lw_all) (cc := cX12_init) (nL := 3) ⟨hx, hb, X.1.2.2.1, X.1.2.2.2.1, X.1.2.2.2.2.1⟩ (nX11_init_X12 (D := D) (cA := cA) l s.heap.size)
    (cwI 2 X.1.2.2.2.2.1 (lw_meth q724) rfl rfl rfl (X.1.2.2.2.2.1 _ q95) (X.1.2.2.2.2.1 _ q722) (X.1.2.2.2.2.1 _ q723) rfl ⟨by decide, by decide, by decide +kernel⟩ ⟨by decide, by decide⟩) (k_pre X.2.1 X.2.2 Y Y.1 one_D [.ref a, .int x0, .int x1]) rfl rfl hl.1 rfl (lv_room (Nat.le_of_ble_eq_true rfl)) dX12_init_3 ⟨by decide, by decide⟩) Y hA (fun o ws' H locs hpost Y => ?_)
  obtain ⟨rfl, rfl⟩ := hpost
  exact n_vret (R := cR 2 0 0) (cells := 0) (slots := 0) X.1 ⟨rfl, rfl⟩ Y.1 Y.2.1 Y.2.2 dX12_init_6
theorem nX12_init_X14 (l : Launch) {a : Nat} {x0 x1 : Int32} : nMet l yX12_init cX12_init 3 none (cR 2 0 0) [.ref a, .int x0, .int x1] D cA [(a, .inr (10, [.int 0, .int 0]))] (fun o ws' => o = none ∧ ws' = [(a, .inr (10, [.int x0, .int x1]))]) := by
  refine nMet_of (by decide +kernel) (Nat.le_of_ble_eq_true rfl) (fun {p e s m args below meth c ls A} X Y hA hnm hl => ?_)
  have hx := X.1.1
  have hb := X.1.2.1
  have hl : lv_has ls 3 [(0, .ref a), (1, .int x0), (2, .int x1)] := hl
  refine lv_aload_n hx hb dX12_init_0 rfl (lv_at hl 0 rfl) ?_
  refine lv_iload_n hx hb dX12_init_1 rfl (lv_at hl 1 rfl) ?_
  refine lv_iload_n hx hb dX12_init_2 rfl (lv_at hl 2 rfl) ?_
  refine n_tailW (rest := []) (va_runI (mc := 0) (ms := 0) (rest := []) (b := a) (As := [.int x0, .int x1]) (Ts := lw_all) (cc := cX12_init) (nL := 3) ⟨hx, hb, X.1.2.2.1, X.1.2.2.2.1, X.1.2.2.2.2.1⟩ (nX11_init_X14 (D := D) (cA := cA) l s.heap.size)
    (cwI 2 X.1.2.2.2.2.1 (lw_meth q724) rfl rfl rfl (X.1.2.2.2.2.1 _ q95) (X.1.2.2.2.2.1 _ q722) (X.1.2.2.2.2.1 _ q723) rfl ⟨by decide, by decide, by decide +kernel⟩ ⟨by decide, by decide⟩) (k_pre X.2.1 X.2.2 Y Y.1 one_D [.ref a, .int x0, .int x1]) rfl rfl hl.1 rfl (lv_room (Nat.le_of_ble_eq_true rfl)) dX12_init_3 ⟨by decide, by decide⟩) Y hA (fun o ws' H locs hpost Y => ?_)
  obtain ⟨rfl, rfl⟩ := hpost
  exact n_vret (R := cR 2 0 0) (cells := 0) (slots := 0) X.1 ⟨rfl, rfl⟩ Y.1 Y.2.1 Y.2.2 dX12_init_6
theorem nX13_init_X13 (l : Launch) {a : Nat} {x0 x1 : Int32} : nMet l yX13_init cX13_init 3 none (cR 2 0 0) [.ref a, .int x0, .int x1] D cA [(a, .inr (9, [.int 0, .int 0]))] (fun o ws' => o = none ∧ ws' = [(a, .inr (9, [.int x0, .int x1]))]) := by
  refine nMet_of (by decide +kernel) (Nat.le_of_ble_eq_true rfl) (fun {p e s m args below meth c ls A} X Y hA hnm hl => ?_)
  have hx := X.1.1
  have hb := X.1.2.1
  have hl : lv_has ls 3 [(0, .ref a), (1, .int x0), (2, .int x1)] := hl
  refine lv_aload_n hx hb dX13_init_0 rfl (lv_at hl 0 rfl) ?_
  refine lv_iload_n hx hb dX13_init_1 rfl (lv_at hl 1 rfl) ?_
  refine lv_iload_n hx hb dX13_init_2 rfl (lv_at hl 2 rfl) ?_
  refine n_tailW (rest := []) (va_runI (mc := 0) (ms := 0) (rest := []) (b := a) (As := [.int x0, .int x1]) (Ts := lw_all) (cc := cX13_init) (nL := 3) ⟨hx, hb, X.1.2.2.1, X.1.2.2.2.1, X.1.2.2.2.2.1⟩ (nX11_init_X13 (D := D) (cA := cA) l s.heap.size)
    (cwI 2 X.1.2.2.2.2.1 (lw_meth q724) rfl rfl rfl (X.1.2.2.2.2.1 _ q95) (X.1.2.2.2.2.1 _ q740) (X.1.2.2.2.2.1 _ q723) rfl ⟨by decide, by decide, by decide +kernel⟩ ⟨by decide, by decide⟩) (k_pre X.2.1 X.2.2 Y Y.1 one_D [.ref a, .int x0, .int x1]) rfl rfl hl.1 rfl (lv_room (Nat.le_of_ble_eq_true rfl)) dX13_init_3 ⟨by decide, by decide⟩) Y hA (fun o ws' H locs hpost Y => ?_)
  obtain ⟨rfl, rfl⟩ := hpost
  exact n_vret (R := cR 2 0 0) (cells := 0) (slots := 0) X.1 ⟨rfl, rfl⟩ Y.1 Y.2.1 Y.2.2 dX13_init_6
theorem nX14_init_X14 (l : Launch) {a : Nat} {x0 x1 : Int32} : nMet l yX14_init cX14_init 3 none (cR 3 0 0) [.ref a, .int x0, .int x1] D cA [(a, .inr (10, [.int 0, .int 0]))] (fun o ws' => o = none ∧ ws' = [(a, .inr (10, [.int x0, .int x1]))]) := by
  refine nMet_of (by decide +kernel) (Nat.le_of_ble_eq_true rfl) (fun {p e s m args below meth c ls A} X Y hA hnm hl => ?_)
  have hx := X.1.1
  have hb := X.1.2.1
  have hl : lv_has ls 3 [(0, .ref a), (1, .int x0), (2, .int x1)] := hl
  refine lv_aload_n hx hb dX14_init_0 rfl (lv_at hl 0 rfl) ?_
  refine lv_iload_n hx hb dX14_init_1 rfl (lv_at hl 1 rfl) ?_
  refine lv_iload_n hx hb dX14_init_2 rfl (lv_at hl 2 rfl) ?_
  refine n_tailW (rest := []) (va_runI (mc := 0) (ms := 0) (rest := []) (b := a) (As := [.int x0, .int x1]) (Ts := lw_all) (cc := cX14_init) (nL := 3) ⟨hx, hb, X.1.2.2.1, X.1.2.2.2.1, X.1.2.2.2.2.1⟩ (nX12_init_X14 (D := D) (cA := cA) l s.heap.size)
    (cwI 2 X.1.2.2.2.2.1 (lw_meth q721) rfl rfl rfl (X.1.2.2.2.2.1 _ q96) (X.1.2.2.2.2.1 _ q749) (X.1.2.2.2.2.1 _ q720) rfl ⟨by decide, by decide, by decide +kernel⟩ ⟨by decide, by decide⟩) (k_pre X.2.1 X.2.2 Y Y.1 one_D [.ref a, .int x0, .int x1]) rfl rfl hl.1 rfl (lv_room (Nat.le_of_ble_eq_true rfl)) dX14_init_3 ⟨by decide, by decide⟩) Y hA (fun o ws' H locs hpost Y => ?_)
  obtain ⟨rfl, rfl⟩ := hpost
  exact n_vret (R := cR 3 0 0) (cells := 0) (slots := 0) X.1 ⟨rfl, rfl⟩ Y.1 Y.2.1 Y.2.2 dX14_init_6
def nmv (k n : Int32) : Int32 := if k = 0 then 0 else if k = 4 then 0 else n
set_option maxHeartbeats 1000000 in
theorem nX0_named (l : Launch) {k x0 : Int32} (hk : kN k) : nMet l yX0_named cX0_named 2 (some (.object "PerilSeat$Name")) (cR 4 1 1) [.int k, .int x0] D cA [] (fun o ws' => ∃ q : Nat, o = some (.ref q) ∧ ws' = [(q, .inr (nameCi k, [.int (nmv k x0)]))]) := by
  refine nMet_of (by decide +kernel) (Nat.le_of_ble_eq_true rfl) (fun {p e s m args below meth c ls A} X Y hA hnm hl => ?_)
  have hx := X.1.1
  have hb := X.1.2.1
  have hl : lv_has ls 2 [(0, .int k), (1, .int x0)] := hl
  refine lv_iload_n hx hb dX0_named_0 rfl (lv_at hl 0 rfl) ?_
  rcases hk with h2 | h2 | h2 | h2 | h2
  · subst h2
    refine lv_tableIn (x := 0) (tgt := 32) hx hb dX0_named_1 (by decide) (by decide) (show _ = some (31 : Int) from rfl) (by decide) ?_
    refine va_new (D := D) (C := RX6) (T := TX6) (N := 1) (ci := 3) (fs := [.int 0]) hx hb X.1.2.2.2.2.1 in_X6 tyX6 tyX6_ok X.1.2.2.2.1 (X.1.2.2.2.2.1 _ q662) (X.1.2.2.2.2.1 _ q663) (X.1.2.2.2.2.1 _ q90) X.2.1 Y.1 Y.2.1 Y.2.2 hA rfl (fun j hj => ?_) (by decide) (by decide) dX0_named_32 (fun q H hP hD hS => ?_)
    · match j, hj with
      | 0, _ => rfl
      | j + 1, hj => omega
    have Y : WX D A s [(q, .inr (3, [.int 0]))] H [] := ⟨hP, hD, hS⟩
    refine lv_dup hx hb dX0_named_35 rfl ?_
    refine lv_iconst (v := 0) hx hb dX0_named_36 (by decide) ?_
    refine n_tailW (rest := [.ref q]) (va_runI (mc := 0) (ms := 0) (rest := [.ref q]) (b := q) (As := [.int 0]) (Ts := lw_all) (cc := cX0_named) (nL := 2) ⟨hx, hb, X.1.2.2.1, X.1.2.2.2.1, X.1.2.2.2.2.1⟩ (nX6_init_X6 (D := D) (cA := cA) l H.size)
      (cwI 1 X.1.2.2.2.2.1 (lw_meth q666) rfl rfl rfl (X.1.2.2.2.2.1 _ q90) (X.1.2.2.2.2.1 _ q664) (X.1.2.2.2.2.1 _ q665) rfl ⟨by decide, by decide, by decide +kernel⟩ ⟨by decide, by decide⟩) (k_pre X.2.1 X.2.2 Y Y.1 one_D [.ref q, .int 0]) rfl rfl hl.1 rfl (lv_room (Nat.le_of_ble_eq_true rfl)) dX0_named_37 ⟨by decide, by decide⟩) Y hA (fun o ws' H locs hpost Y => ?_)
    obtain ⟨rfl, rfl⟩ := hpost
    exact n_aret (R := cR 4 1 1) (cells := 1) (slots := 1) X.1 ⟨q, rfl, rfl⟩ Y.1 Y.2.1 Y.2.2 (Or.inl ⟨_, rfl⟩) dX0_named_40
  · subst h2
    refine lv_tableIn (x := 1) (tgt := 41) hx hb dX0_named_1 (by decide) (by decide) (show _ = some (40 : Int) from rfl) (by decide) ?_
    refine va_new (D := D) (C := RX7) (T := TX7) (N := 1) (ci := 4) (fs := [.int 0]) hx hb X.1.2.2.2.2.1 in_X7 tyX7 tyX7_ok X.1.2.2.2.1 (X.1.2.2.2.2.1 _ q682) (X.1.2.2.2.2.1 _ q683) (X.1.2.2.2.2.1 _ q91) X.2.1 Y.1 Y.2.1 Y.2.2 hA rfl (fun j hj => ?_) (by decide) (by decide) dX0_named_41 (fun q H hP hD hS => ?_)
    · match j, hj with
      | 0, _ => rfl
      | j + 1, hj => omega
    have Y : WX D A s [(q, .inr (4, [.int 0]))] H [] := ⟨hP, hD, hS⟩
    refine lv_dup hx hb dX0_named_44 rfl ?_
    refine lv_iload_n hx hb dX0_named_45 rfl (lv_at hl 1 rfl) ?_
    refine n_tailW (rest := [.ref q]) (va_runI (mc := 0) (ms := 0) (rest := [.ref q]) (b := q) (As := [.int x0]) (Ts := lw_all) (cc := cX0_named) (nL := 2) ⟨hx, hb, X.1.2.2.1, X.1.2.2.2.1, X.1.2.2.2.2.1⟩ (nX7_init_X7 (D := D) (cA := cA) l H.size)
      (cwI 1 X.1.2.2.2.2.1 (lw_meth q686) rfl rfl rfl (X.1.2.2.2.2.1 _ q91) (X.1.2.2.2.2.1 _ q684) (X.1.2.2.2.2.1 _ q685) rfl ⟨by decide, by decide, by decide +kernel⟩ ⟨by decide, by decide⟩) (k_pre X.2.1 X.2.2 Y Y.1 one_D [.ref q, .int x0]) rfl rfl hl.1 rfl (lv_room (Nat.le_of_ble_eq_true rfl)) dX0_named_46 ⟨by decide, by decide⟩) Y hA (fun o ws' H locs hpost Y => ?_)
    obtain ⟨rfl, rfl⟩ := hpost
    exact n_aret (R := cR 4 1 1) (cells := 1) (slots := 1) X.1 ⟨q, rfl, rfl⟩ Y.1 Y.2.1 Y.2.2 (Or.inl ⟨_, rfl⟩) dX0_named_49
  · subst h2
    refine lv_tableIn (x := 2) (tgt := 50) hx hb dX0_named_1 (by decide) (by decide) (show _ = some (49 : Int) from rfl) (by decide) ?_
    refine va_new (D := D) (C := RX8) (T := TX8) (N := 1) (ci := 5) (fs := [.int 0]) hx hb X.1.2.2.2.2.1 in_X8 tyX8 tyX8_ok X.1.2.2.2.1 (X.1.2.2.2.2.1 _ q690) (X.1.2.2.2.2.1 _ q691) (X.1.2.2.2.2.1 _ q92) X.2.1 Y.1 Y.2.1 Y.2.2 hA rfl (fun j hj => ?_) (by decide) (by decide) dX0_named_50 (fun q H hP hD hS => ?_)
    · match j, hj with
      | 0, _ => rfl
      | j + 1, hj => omega
    have Y : WX D A s [(q, .inr (5, [.int 0]))] H [] := ⟨hP, hD, hS⟩
    refine lv_dup hx hb dX0_named_53 rfl ?_
    refine lv_iload_n hx hb dX0_named_54 rfl (lv_at hl 1 rfl) ?_
    refine n_tailW (rest := [.ref q]) (va_runI (mc := 0) (ms := 0) (rest := [.ref q]) (b := q) (As := [.int x0]) (Ts := lw_all) (cc := cX0_named) (nL := 2) ⟨hx, hb, X.1.2.2.1, X.1.2.2.2.1, X.1.2.2.2.2.1⟩ (nX8_init_X8 (D := D) (cA := cA) l H.size)
      (cwI 1 X.1.2.2.2.2.1 (lw_meth q694) rfl rfl rfl (X.1.2.2.2.2.1 _ q92) (X.1.2.2.2.2.1 _ q692) (X.1.2.2.2.2.1 _ q693) rfl ⟨by decide, by decide, by decide +kernel⟩ ⟨by decide, by decide⟩) (k_pre X.2.1 X.2.2 Y Y.1 one_D [.ref q, .int x0]) rfl rfl hl.1 rfl (lv_room (Nat.le_of_ble_eq_true rfl)) dX0_named_55 ⟨by decide, by decide⟩) Y hA (fun o ws' H locs hpost Y => ?_)
    obtain ⟨rfl, rfl⟩ := hpost
    exact n_aret (R := cR 4 1 1) (cells := 1) (slots := 1) X.1 ⟨q, rfl, rfl⟩ Y.1 Y.2.1 Y.2.2 (Or.inl ⟨_, rfl⟩) dX0_named_58
  · subst h2
    refine lv_tableIn (x := 3) (tgt := 59) hx hb dX0_named_1 (by decide) (by decide) (show _ = some (58 : Int) from rfl) (by decide) ?_
    refine va_new (D := D) (C := RX9) (T := TX9) (N := 1) (ci := 6) (fs := [.int 0]) hx hb X.1.2.2.2.2.1 in_X9 tyX9 tyX9_ok X.1.2.2.2.1 (X.1.2.2.2.2.1 _ q698) (X.1.2.2.2.2.1 _ q699) (X.1.2.2.2.2.1 _ q93) X.2.1 Y.1 Y.2.1 Y.2.2 hA rfl (fun j hj => ?_) (by decide) (by decide) dX0_named_59 (fun q H hP hD hS => ?_)
    · match j, hj with
      | 0, _ => rfl
      | j + 1, hj => omega
    have Y : WX D A s [(q, .inr (6, [.int 0]))] H [] := ⟨hP, hD, hS⟩
    refine lv_dup hx hb dX0_named_62 rfl ?_
    refine lv_iload_n hx hb dX0_named_63 rfl (lv_at hl 1 rfl) ?_
    refine n_tailW (rest := [.ref q]) (va_runI (mc := 0) (ms := 0) (rest := [.ref q]) (b := q) (As := [.int x0]) (Ts := lw_all) (cc := cX0_named) (nL := 2) ⟨hx, hb, X.1.2.2.1, X.1.2.2.2.1, X.1.2.2.2.2.1⟩ (nX9_init_X9 (D := D) (cA := cA) l H.size)
      (cwI 1 X.1.2.2.2.2.1 (lw_meth q702) rfl rfl rfl (X.1.2.2.2.2.1 _ q93) (X.1.2.2.2.2.1 _ q700) (X.1.2.2.2.2.1 _ q701) rfl ⟨by decide, by decide, by decide +kernel⟩ ⟨by decide, by decide⟩) (k_pre X.2.1 X.2.2 Y Y.1 one_D [.ref q, .int x0]) rfl rfl hl.1 rfl (lv_room (Nat.le_of_ble_eq_true rfl)) dX0_named_64 ⟨by decide, by decide⟩) Y hA (fun o ws' H locs hpost Y => ?_)
    obtain ⟨rfl, rfl⟩ := hpost
    exact n_aret (R := cR 4 1 1) (cells := 1) (slots := 1) X.1 ⟨q, rfl, rfl⟩ Y.1 Y.2.1 Y.2.2 (Or.inl ⟨_, rfl⟩) dX0_named_67
  · subst h2
    refine lv_tableOut (x := 4) (tgt := 68) hx hb dX0_named_1 (by decide) (by decide) ?_
    refine va_new (D := D) (C := RX10) (T := TX10) (N := 1) (ci := 7) (fs := [.int 0]) hx hb X.1.2.2.2.2.1 in_X10 tyX10 tyX10_ok X.1.2.2.2.1 (X.1.2.2.2.2.1 _ q706) (X.1.2.2.2.2.1 _ q707) (X.1.2.2.2.2.1 _ q94) X.2.1 Y.1 Y.2.1 Y.2.2 hA rfl (fun j hj => ?_) (by decide) (by decide) dX0_named_68 (fun q H hP hD hS => ?_)
    · match j, hj with
      | 0, _ => rfl
      | j + 1, hj => omega
    have Y : WX D A s [(q, .inr (7, [.int 0]))] H [] := ⟨hP, hD, hS⟩
    refine lv_dup hx hb dX0_named_71 rfl ?_
    refine n_tailW (rest := [.ref q]) (va_runI (mc := 0) (ms := 0) (rest := [.ref q]) (b := q) (As := []) (Ts := lw_all) (cc := cX0_named) (nL := 2) ⟨hx, hb, X.1.2.2.1, X.1.2.2.2.1, X.1.2.2.2.2.1⟩ (nX10_init_X10 (D := D) (cA := cA) l H.size)
      (cwI 0 X.1.2.2.2.2.1 (lw_meth q710) rfl rfl rfl (X.1.2.2.2.2.1 _ q94) (X.1.2.2.2.2.1 _ q708) (X.1.2.2.2.2.1 _ q709) rfl ⟨by decide, by decide, by decide +kernel⟩ ⟨by decide, by decide⟩) (k_pre X.2.1 X.2.2 Y Y.1 one_D [.ref q]) rfl rfl hl.1 rfl (lv_room (Nat.le_of_ble_eq_true rfl)) dX0_named_72 ⟨by decide, by decide⟩) Y hA (fun o ws' H locs hpost Y => ?_)
    obtain ⟨rfl, rfl⟩ := hpost
    exact n_aret (R := cR 4 1 1) (cells := 1) (slots := 1) X.1 ⟨q, rfl, rfl⟩ Y.1 Y.2.1 Y.2.2 (Or.inl ⟨_, rfl⟩) dX0_named_75
set_option maxHeartbeats 1000000 in
theorem nX0_dubbed (l : Launch) {k x0 x1 : Int32} (hk : kO k) : nMet l yX0_dubbed cX0_dubbed 3 (some (.object "PerilSeat$One")) (cR 4 1 2) [.int k, .int x0, .int x1] D cA [] (fun o ws' => ∃ q : Nat, o = some (.ref q) ∧ ws' = [(q, .inr (oneCi k, [.int x0, .int x1]))]) := by
  refine nMet_of (by decide +kernel) (Nat.le_of_ble_eq_true rfl) (fun {p e s m args below meth c ls A} X Y hA hnm hl => ?_)
  have hx := X.1.1
  have hb := X.1.2.1
  have hl : lv_has ls 3 [(0, .int k), (1, .int x0), (2, .int x1)] := hl
  refine lv_iload_n hx hb dX0_dubbed_0 rfl (lv_at hl 0 rfl) ?_
  rcases hk with h2 | h2 | h2
  · subst h2
    refine lv_lookup (x := 0) (off := 27) (tgt := 28) hx hb dX0_dubbed_1 (by decide) (by decide) (by decide) ?_
    refine va_new (D := D) (C := RX12) (T := TX12) (N := 2) (ci := 8) (fs := [.int 0, .int 0]) hx hb X.1.2.2.2.2.1 in_X12 tyX12 tyX12_ok X.1.2.2.2.1 (X.1.2.2.2.2.1 _ q717) (X.1.2.2.2.2.1 _ q718) (X.1.2.2.2.2.1 _ q96) X.2.1 Y.1 Y.2.1 Y.2.2 hA rfl (fun j hj => ?_) (by decide) (by decide) dX0_dubbed_28 (fun q H hP hD hS => ?_)
    · match j, hj with
      | 0, _ => rfl
      | 1, _ => rfl
      | j + 2, hj => omega
    have Y : WX D A s [(q, .inr (8, [.int 0, .int 0]))] H [] := ⟨hP, hD, hS⟩
    refine lv_dup hx hb dX0_dubbed_31 rfl ?_
    refine lv_iload_n hx hb dX0_dubbed_32 rfl (lv_at hl 1 rfl) ?_
    refine lv_iload_n hx hb dX0_dubbed_33 rfl (lv_at hl 2 rfl) ?_
    refine n_tailW (rest := [.ref q]) (va_runI (mc := 0) (ms := 0) (rest := [.ref q]) (b := q) (As := [.int x0, .int x1]) (Ts := lw_all) (cc := cX0_dubbed) (nL := 3) ⟨hx, hb, X.1.2.2.1, X.1.2.2.2.1, X.1.2.2.2.2.1⟩ (nX12_init_X12 (D := D) (cA := cA) l H.size)
      (cwI 2 X.1.2.2.2.2.1 (lw_meth q721) rfl rfl rfl (X.1.2.2.2.2.1 _ q96) (X.1.2.2.2.2.1 _ q719) (X.1.2.2.2.2.1 _ q720) rfl ⟨by decide, by decide, by decide +kernel⟩ ⟨by decide, by decide⟩) (k_pre X.2.1 X.2.2 Y Y.1 one_D [.ref q, .int x0, .int x1]) rfl rfl hl.1 rfl (lv_room (Nat.le_of_ble_eq_true rfl)) dX0_dubbed_34 ⟨by decide, by decide⟩) Y hA (fun o ws' H locs hpost Y => ?_)
    obtain ⟨rfl, rfl⟩ := hpost
    exact n_aret (R := cR 4 1 2) (cells := 1) (slots := 2) X.1 ⟨q, rfl, rfl⟩ Y.1 Y.2.1 Y.2.2 (Or.inl ⟨_, rfl⟩) dX0_dubbed_37
  · subst h2
    refine lv_lookup (x := 1) (off := 37) (tgt := 38) hx hb dX0_dubbed_1 (by decide) (by decide) (by decide) ?_
    refine va_new (D := D) (C := RX13) (T := TX13) (N := 2) (ci := 9) (fs := [.int 0, .int 0]) hx hb X.1.2.2.2.2.1 in_X13 tyX13 tyX13_ok X.1.2.2.2.1 (X.1.2.2.2.2.1 _ q735) (X.1.2.2.2.2.1 _ q736) (X.1.2.2.2.2.1 _ q97) X.2.1 Y.1 Y.2.1 Y.2.2 hA rfl (fun j hj => ?_) (by decide) (by decide) dX0_dubbed_38 (fun q H hP hD hS => ?_)
    · match j, hj with
      | 0, _ => rfl
      | 1, _ => rfl
      | j + 2, hj => omega
    have Y : WX D A s [(q, .inr (9, [.int 0, .int 0]))] H [] := ⟨hP, hD, hS⟩
    refine lv_dup hx hb dX0_dubbed_41 rfl ?_
    refine lv_iload_n hx hb dX0_dubbed_42 rfl (lv_at hl 1 rfl) ?_
    refine lv_iload_n hx hb dX0_dubbed_43 rfl (lv_at hl 2 rfl) ?_
    refine n_tailW (rest := [.ref q]) (va_runI (mc := 0) (ms := 0) (rest := [.ref q]) (b := q) (As := [.int x0, .int x1]) (Ts := lw_all) (cc := cX0_dubbed) (nL := 3) ⟨hx, hb, X.1.2.2.1, X.1.2.2.2.1, X.1.2.2.2.2.1⟩ (nX13_init_X13 (D := D) (cA := cA) l H.size)
      (cwI 2 X.1.2.2.2.2.1 (lw_meth q739) rfl rfl rfl (X.1.2.2.2.2.1 _ q97) (X.1.2.2.2.2.1 _ q737) (X.1.2.2.2.2.1 _ q738) rfl ⟨by decide, by decide, by decide +kernel⟩ ⟨by decide, by decide⟩) (k_pre X.2.1 X.2.2 Y Y.1 one_D [.ref q, .int x0, .int x1]) rfl rfl hl.1 rfl (lv_room (Nat.le_of_ble_eq_true rfl)) dX0_dubbed_44 ⟨by decide, by decide⟩) Y hA (fun o ws' H locs hpost Y => ?_)
    obtain ⟨rfl, rfl⟩ := hpost
    exact n_aret (R := cR 4 1 2) (cells := 1) (slots := 2) X.1 ⟨q, rfl, rfl⟩ Y.1 Y.2.1 Y.2.2 (Or.inl ⟨_, rfl⟩) dX0_dubbed_47
  · subst h2
    refine lv_lookup (x := 2) (off := 47) (tgt := 48) hx hb dX0_dubbed_1 (by decide) (by decide) (by decide) ?_
    refine va_new (D := D) (C := RX14) (T := TX14) (N := 2) (ci := 10) (fs := [.int 0, .int 0]) hx hb X.1.2.2.2.2.1 in_X14 tyX14 tyX14_ok X.1.2.2.2.1 (X.1.2.2.2.2.1 _ q744) (X.1.2.2.2.2.1 _ q745) (X.1.2.2.2.2.1 _ q98) X.2.1 Y.1 Y.2.1 Y.2.2 hA rfl (fun j hj => ?_) (by decide) (by decide) dX0_dubbed_48 (fun q H hP hD hS => ?_)
    · match j, hj with
      | 0, _ => rfl
      | 1, _ => rfl
      | j + 2, hj => omega
    have Y : WX D A s [(q, .inr (10, [.int 0, .int 0]))] H [] := ⟨hP, hD, hS⟩
    refine lv_dup hx hb dX0_dubbed_51 rfl ?_
    refine lv_iload_n hx hb dX0_dubbed_52 rfl (lv_at hl 1 rfl) ?_
    refine lv_iload_n hx hb dX0_dubbed_53 rfl (lv_at hl 2 rfl) ?_
    refine n_tailW (rest := [.ref q]) (va_runI (mc := 0) (ms := 0) (rest := [.ref q]) (b := q) (As := [.int x0, .int x1]) (Ts := lw_all) (cc := cX0_dubbed) (nL := 3) ⟨hx, hb, X.1.2.2.1, X.1.2.2.2.1, X.1.2.2.2.2.1⟩ (nX14_init_X14 (D := D) (cA := cA) l H.size)
      (cwI 2 X.1.2.2.2.2.1 (lw_meth q748) rfl rfl rfl (X.1.2.2.2.2.1 _ q98) (X.1.2.2.2.2.1 _ q746) (X.1.2.2.2.2.1 _ q747) rfl ⟨by decide, by decide, by decide +kernel⟩ ⟨by decide, by decide⟩) (k_pre X.2.1 X.2.2 Y Y.1 one_D [.ref q, .int x0, .int x1]) rfl rfl hl.1 rfl (lv_room (Nat.le_of_ble_eq_true rfl)) dX0_dubbed_54 ⟨by decide, by decide⟩) Y hA (fun o ws' H locs hpost Y => ?_)
    obtain ⟨rfl, rfl⟩ := hpost
    exact n_aret (R := cR 4 1 2) (cells := 1) (slots := 2) X.1 ⟨q, rfl, rfl⟩ Y.1 Y.2.1 Y.2.2 (Or.inl ⟨_, rfl⟩) dX0_dubbed_57
end MADE
