/-! THE METHODS OF NAMES AND KNIGHTS, read-only (printed by tools/gen_objm.py) -/
set_option maxRecDepth 100000
section OBJM
variable {D : va_G} {cA : Nat → ClassId}
theorem rX6_kind (l : Launch) {a : Nat} {ws : va_W} : rMet l yX6_kind cX6_kind 1 (some .int) (cR 0 0 0) [.ref a] D cA ws (some (.int 0)) := by
  refine rMet_of (by decide +kernel) (Nat.le_of_ble_eq_true rfl) (fun {p e s m args below meth c ls} X Y hl => ?_)
  have hx := X.1.1
  have hb := X.1.2.1
  refine lv_iconst (v := 0) hx hb dX6_kind_0 (by decide) ?_
  exact s_iret X.1 Y.2 dX6_kind_1
theorem rX9_kind (l : Launch) {a : Nat} {ws : va_W} : rMet l yX9_kind cX9_kind 1 (some .int) (cR 0 0 0) [.ref a] D cA ws (some (.int 3)) := by
  refine rMet_of (by decide +kernel) (Nat.le_of_ble_eq_true rfl) (fun {p e s m args below meth c ls} X Y hl => ?_)
  have hx := X.1.1
  have hb := X.1.2.1
  refine lv_iconst (v := 3) hx hb dX9_kind_0 (by decide) ?_
  exact s_iret X.1 Y.2 dX9_kind_1
theorem rX10_kind (l : Launch) {a : Nat} {ws : va_W} : rMet l yX10_kind cX10_kind 1 (some .int) (cR 0 0 0) [.ref a] D cA ws (some (.int 4)) := by
  refine rMet_of (by decide +kernel) (Nat.le_of_ble_eq_true rfl) (fun {p e s m args below meth c ls} X Y hl => ?_)
  have hx := X.1.1
  have hb := X.1.2.1
  refine lv_iconst (v := 4) hx hb dX10_kind_0 (by decide) ?_
  exact s_iret X.1 Y.2 dX10_kind_1
theorem rX12_kind (l : Launch) {a : Nat} {ws : va_W} : rMet l yX12_kind cX12_kind 1 (some .int) (cR 0 0 0) [.ref a] D cA ws (some (.int 0)) := by
  refine rMet_of (by decide +kernel) (Nat.le_of_ble_eq_true rfl) (fun {p e s m args below meth c ls} X Y hl => ?_)
  have hx := X.1.1
  have hb := X.1.2.1
  refine lv_iconst (v := 0) hx hb dX12_kind_0 (by decide) ?_
  exact s_iret X.1 Y.2 dX12_kind_1
theorem rX13_kind (l : Launch) {a : Nat} {ws : va_W} : rMet l yX13_kind cX13_kind 1 (some .int) (cR 0 0 0) [.ref a] D cA ws (some (.int 1)) := by
  refine rMet_of (by decide +kernel) (Nat.le_of_ble_eq_true rfl) (fun {p e s m args below meth c ls} X Y hl => ?_)
  have hx := X.1.1
  have hb := X.1.2.1
  refine lv_iconst (v := 1) hx hb dX13_kind_0 (by decide) ?_
  exact s_iret X.1 Y.2 dX13_kind_1
theorem rX11_isSpared (l : Launch) {a : Nat} {ws : va_W} : rMet l yX11_isSpared cX11_isSpared 1 (some .boolean) (cR 0 0 0) [.ref a] D cA ws (some (.int 0)) := by
  refine rMet_of (by decide +kernel) (Nat.le_of_ble_eq_true rfl) (fun {p e s m args below meth c ls} X Y hl => ?_)
  have hx := X.1.1
  have hb := X.1.2.1
  refine lv_iconst (v := 0) hx hb dX11_isSpared_0 (by decide) ?_
  exact s_zret X.1 Y.2 (by decide) dX11_isSpared_1
theorem rX6_fits (l : Launch) {a : Nat} {p0 : Int32} {p1 : Int32} {ws : va_W} : rMet l yX6_fits cX6_fits 3 (some .boolean) (cR 0 0 0) [.ref a, .int p0, .int p1] D cA ws (some (.int 1)) := by
  refine rMet_of (by decide +kernel) (Nat.le_of_ble_eq_true rfl) (fun {p e s m args below meth c ls} X Y hl => ?_)
  have hx := X.1.1
  have hb := X.1.2.1
  refine lv_iconst (v := 1) hx hb dX6_fits_0 (by decide) ?_
  exact s_zret X.1 Y.2 (by decide) dX6_fits_1
theorem rX15_isShut (l : Launch) {a : Nat} {ws : va_W} : rMet l yX15_isShut cX15_isShut 1 (some .boolean) (cR 0 0 0) [.ref a] D cA ws (some (.int 0)) := by
  refine rMet_of (by decide +kernel) (Nat.le_of_ble_eq_true rfl) (fun {p e s m args below meth c ls} X Y hl => ?_)
  have hx := X.1.1
  have hb := X.1.2.1
  refine lv_iconst (v := 0) hx hb dX15_isShut_0 (by decide) ?_
  exact s_zret X.1 Y.2 (by decide) dX15_isShut_1
theorem rX7_kind (l : Launch) {a : Nat} {fs : List Value} : rMet l yX7_kind cX7_kind 1 (some .int) (cR 1 0 0) [.ref a] D cA [(a, .inr (4, fs))] (some (.int 1)) := by
  refine rMet_of (by decide +kernel) (Nat.le_of_ble_eq_true rfl) (fun {p e s m args below meth c ls} X Y hl => ?_)
  have hx := X.1.1
  have hb := X.1.2.1
  have hl : lv_has ls 1 [(0, .ref a)] := hl
  refine lv_iconst (v := 1) hx hb dX7_kind_0 (by decide) ?_
  refine lv_aload_n hx hb dX7_kind_1 rfl (lv_at hl 0 rfl) ?_
  refine r_callSU (C := RX7) (ci := 4) (q0 := 0) (q := (RX7, TX7, 1)) 0 X.1 X.2.1 X.2.2 Y.1 Y.2 (rX6_kind (ws := []) l) q772 q1492 q689 q773 q90 q774 (by decide +kernel) ⟨rfl, rfl, by decide, by decide⟩ rfl rfl rfl (fun k z hz => by simp at hz) rfl hl.1 rfl (Nat.le_of_ble_eq_true rfl) ⟨Nat.zero_le _, Nat.zero_le _⟩ dX7_kind_2 (fun H locs _ hk hS => ?_)
  refine lv_iadd (x := 1) (y := 0) hx hb dX7_kind_5 ?_
  exact s_iret X.1 hS dX7_kind_6
theorem rX8_kind (l : Launch) {a : Nat} {fs : List Value} : rMet l yX8_kind cX8_kind 1 (some .int) (cR 1 0 0) [.ref a] D cA [(a, .inr (5, fs))] (some (.int 2)) := by
  refine rMet_of (by decide +kernel) (Nat.le_of_ble_eq_true rfl) (fun {p e s m args below meth c ls} X Y hl => ?_)
  have hx := X.1.1
  have hb := X.1.2.1
  have hl : lv_has ls 1 [(0, .ref a)] := hl
  refine lv_iconst (v := 2) hx hb dX8_kind_0 (by decide) ?_
  refine lv_aload_n hx hb dX8_kind_1 rfl (lv_at hl 0 rfl) ?_
  refine r_callSU (C := RX8) (ci := 5) (q0 := 0) (q := (RX8, TX8, 1)) 0 X.1 X.2.1 X.2.2 Y.1 Y.2 (rX6_kind (ws := []) l) q781 q1492 q697 q773 q90 q774 (by decide +kernel) ⟨rfl, rfl, by decide, by decide⟩ rfl rfl rfl (fun k z hz => by simp at hz) rfl hl.1 rfl (Nat.le_of_ble_eq_true rfl) ⟨Nat.zero_le _, Nat.zero_le _⟩ dX8_kind_2 (fun H locs _ hk hS => ?_)
  refine lv_iadd (x := 2) (y := 0) hx hb dX8_kind_5 ?_
  exact s_iret X.1 hS dX8_kind_6
theorem rX14_kind (l : Launch) {a : Nat} {fs : List Value} : rMet l yX14_kind cX14_kind 1 (some .int) (cR 1 0 0) [.ref a] D cA [(a, .inr (10, fs))] (some (.int 2)) := by
  refine rMet_of (by decide +kernel) (Nat.le_of_ble_eq_true rfl) (fun {p e s m args below meth c ls} X Y hl => ?_)
  have hx := X.1.1
  have hb := X.1.2.1
  have hl : lv_has ls 1 [(0, .ref a)] := hl
  refine lv_iconst (v := 2) hx hb dX14_kind_0 (by decide) ?_
  refine lv_aload_n hx hb dX14_kind_1 rfl (lv_at hl 0 rfl) ?_
  refine r_callSU (C := RX14) (ci := 10) (q0 := 0) (q := (RX14, TX14, 2)) 0 X.1 X.2.1 X.2.2 Y.1 Y.2 (rX12_kind (ws := []) l) q804 q1493 q752 q805 q96 q806 (by decide +kernel) ⟨rfl, rfl, by decide, by decide⟩ rfl rfl rfl (fun k z hz => by simp at hz) rfl hl.1 rfl (Nat.le_of_ble_eq_true rfl) ⟨Nat.zero_le _, Nat.zero_le _⟩ dX14_kind_2 (fun H locs _ hk hS => ?_)
  refine lv_iadd (x := 2) (y := 0) hx hb dX14_kind_5 ?_
  exact s_iret X.1 hS dX14_kind_6
theorem rX13_isSpared (l : Launch) {a : Nat} {fs : List Value} : rMet l yX13_isSpared cX13_isSpared 1 (some .boolean) (cR 1 0 0) [.ref a] D cA [(a, .inr (9, fs))] (some (.int 1)) := by
  refine rMet_of (by decide +kernel) (Nat.le_of_ble_eq_true rfl) (fun {p e s m args below meth c ls} X Y hl => ?_)
  have hx := X.1.1
  have hb := X.1.2.1
  have hl : lv_has ls 1 [(0, .ref a)] := hl
  refine lv_aload_n hx hb dX13_isSpared_0 rfl (lv_at hl 0 rfl) ?_
  refine r_callSU (C := RX13) (ci := 9) (q0 := 0) (q := (RX13, TX13, 2)) 0 X.1 X.2.1 X.2.2 Y.1 Y.2 (rX11_isSpared (ws := []) l) q958 q952 q743 q951 q95 q959 (by decide +kernel) ⟨rfl, rfl, by decide, by decide⟩ rfl rfl rfl (fun k z hz => by simp at hz) rfl hl.1 rfl (Nat.le_of_ble_eq_true rfl) ⟨Nat.zero_le _, Nat.zero_le _⟩ dX13_isSpared_1 (fun H locs _ hk hS => ?_)
  refine lv_if_ne (x := 0) (tgt := 11) hx hb dX13_isSpared_4 (by decide) (fun c_ => absurd rfl c_) (fun _ => ?_)
  refine lv_iconst (v := 1) hx hb dX13_isSpared_7 (by decide) ?_
  refine lv_goto (tgt := 12) hx hb dX13_isSpared_8 (by decide) ?_
  exact s_zret X.1 hS (by decide) dX13_isSpared_12
theorem rX7_fits (l : Launch) {a : Nat} {p0 p1 n : Int32} : rMet l yX7_fits cX7_fits 3 (some .boolean) (cR 1 0 0) [.ref a, .int p0, .int p1] D cA [(a, .inr (4, [.int n]))] (some (.int (if n ≤ p0 then 1 else 0))) := by
  refine rMet_of (by decide +kernel) (Nat.le_of_ble_eq_true rfl) (fun {p e s m args below meth c ls} X Y hl => ?_)
  have hx := X.1.1
  have hb := X.1.2.1
  have hl : lv_has ls 3 [(0, .ref a), (1, .int p0), (2, .int p1)] := hl
  refine lv_aload_n hx hb dX7_fits_0 rfl (lv_at hl 0 rfl) ?_
  refine lv_iload_n hx hb dX7_fits_1 rfl (lv_at hl 1 rfl) ?_
  refine lv_iload_n hx hb dX7_fits_2 rfl (lv_at hl 2 rfl) ?_
  refine r_callSU (C := RX7) (ci := 4) (q0 := 0) (q := (RX7, TX7, 1)) 2 X.1 X.2.1 X.2.2 Y.1 Y.2 (rX6_fits (ws := []) (p0 := p0) (p1 := p1) l) q862 q1494 q689 q863 q90 q864 (by decide +kernel) ⟨rfl, rfl, by decide, by decide⟩ rfl rfl rfl (fun k z hz => by simp at hz) rfl hl.1 rfl (Nat.le_of_ble_eq_true rfl) ⟨Nat.zero_le _, Nat.zero_le _⟩ dX7_fits_3 (fun H locs _ hk hS => ?_)
  have Y := Y.kept hk hS
  refine lv_if_eq (x := 1) (tgt := 21) hx hb dX7_fits_6 (by decide) (fun c_ => absurd c_ (by decide)) (fun _ => ?_)
  refine lv_iload_n hx hb dX7_fits_9 rfl (lv_at hl 1 rfl) ?_
  refine lv_aload_n hx hb dX7_fits_10 rfl (lv_at hl 0 rfl) ?_
  refine va_get (D := D) (ci := 4) (v := .int n) (C := RX7) (T := TX7) (N := 1) (ref := "PerilSeat$Gold") hx hb X.1.2.2.2.2.1 in_X7 X.1.2.2.2.1 X.2.1 Y.1 0 rfl rfl 0 (by decide) (X.1.2.2.2.2.1 _ q674) (fun x h9 => u_same (X.1.2.2.2.2.1 _ q675) x h9) rfl dX7_fits_11 ?_
  refine lv_icmp_lt (tgt := 21) hx hb dX7_fits_14 (by decide) (fun c_ => ?_) (fun c_ => ?_)
  · refine lv_iconst (v := 0) hx hb dX7_fits_21 (by decide) ?_
    rw [if_neg (fun h => by rw [Int32.le_iff_toInt_le] at h; rw [Int32.lt_iff_toInt_lt] at c_; omega)]
    exact s_zret X.1 Y.2 (by decide) dX7_fits_22
  · refine lv_iconst (v := 1) hx hb dX7_fits_17 (by decide) ?_
    refine lv_goto (tgt := 22) hx hb dX7_fits_18 (by decide) ?_
    rw [if_pos (by rw [Int32.lt_iff_toInt_lt] at c_; rw [Int32.le_iff_toInt_le]; omega)]
    exact s_zret X.1 Y.2 (by decide) dX7_fits_22
theorem rX8_fits (l : Launch) {a : Nat} {p0 p1 n : Int32} : rMet l yX8_fits cX8_fits 3 (some .boolean) (cR 1 0 0) [.ref a, .int p0, .int p1] D cA [(a, .inr (5, [.int n]))] (some (.int (if p0 ≤ n then 1 else 0))) := by
  refine rMet_of (by decide +kernel) (Nat.le_of_ble_eq_true rfl) (fun {p e s m args below meth c ls} X Y hl => ?_)
  have hx := X.1.1
  have hb := X.1.2.1
  have hl : lv_has ls 3 [(0, .ref a), (1, .int p0), (2, .int p1)] := hl
  refine lv_aload_n hx hb dX8_fits_0 rfl (lv_at hl 0 rfl) ?_
  refine lv_iload_n hx hb dX8_fits_1 rfl (lv_at hl 1 rfl) ?_
  refine lv_iload_n hx hb dX8_fits_2 rfl (lv_at hl 2 rfl) ?_
  refine r_callSU (C := RX8) (ci := 5) (q0 := 0) (q := (RX8, TX8, 1)) 2 X.1 X.2.1 X.2.2 Y.1 Y.2 (rX6_fits (ws := []) (p0 := p0) (p1 := p1) l) q871 q1494 q697 q863 q90 q864 (by decide +kernel) ⟨rfl, rfl, by decide, by decide⟩ rfl rfl rfl (fun k z hz => by simp at hz) rfl hl.1 rfl (Nat.le_of_ble_eq_true rfl) ⟨Nat.zero_le _, Nat.zero_le _⟩ dX8_fits_3 (fun H locs _ hk hS => ?_)
  have Y := Y.kept hk hS
  refine lv_if_eq (x := 1) (tgt := 21) hx hb dX8_fits_6 (by decide) (fun c_ => absurd c_ (by decide)) (fun _ => ?_)
  refine lv_iload_n hx hb dX8_fits_9 rfl (lv_at hl 1 rfl) ?_
  refine lv_aload_n hx hb dX8_fits_10 rfl (lv_at hl 0 rfl) ?_
  refine va_get (D := D) (ci := 5) (v := .int n) (C := RX8) (T := TX8) (N := 1) (ref := "PerilSeat$Meek") hx hb X.1.2.2.2.2.1 in_X8 X.1.2.2.2.1 X.2.1 Y.1 0 rfl rfl 0 (by decide) (X.1.2.2.2.2.1 _ q676) (fun x h9 => u_same (X.1.2.2.2.2.1 _ q677) x h9) rfl dX8_fits_11 ?_
  refine lv_icmp_gt (tgt := 21) hx hb dX8_fits_14 (by decide) (fun c_ => ?_) (fun c_ => ?_)
  · refine lv_iconst (v := 0) hx hb dX8_fits_21 (by decide) ?_
    rw [if_neg (fun h => by rw [Int32.le_iff_toInt_le] at h; rw [Int32.lt_iff_toInt_lt] at c_; omega)]
    exact s_zret X.1 Y.2 (by decide) dX8_fits_22
  · refine lv_iconst (v := 1) hx hb dX8_fits_17 (by decide) ?_
    refine lv_goto (tgt := 22) hx hb dX8_fits_18 (by decide) ?_
    rw [if_pos (by rw [Int32.lt_iff_toInt_lt] at c_; rw [Int32.le_iff_toInt_le]; omega)]
    exact s_zret X.1 Y.2 (by decide) dX8_fits_22
theorem rX9_fits (l : Launch) {a : Nat} {p0 p1 n : Int32} : rMet l yX9_fits cX9_fits 3 (some .boolean) (cR 1 0 0) [.ref a, .int p0, .int p1] D cA [(a, .inr (6, [.int n]))] (some (.int (if p1 = n then 1 else 0))) := by
  refine rMet_of (by decide +kernel) (Nat.le_of_ble_eq_true rfl) (fun {p e s m args below meth c ls} X Y hl => ?_)
  have hx := X.1.1
  have hb := X.1.2.1
  have hl : lv_has ls 3 [(0, .ref a), (1, .int p0), (2, .int p1)] := hl
  refine lv_iload_n hx hb dX9_fits_0 rfl (lv_at hl 2 rfl) ?_
  refine lv_aload_n hx hb dX9_fits_1 rfl (lv_at hl 0 rfl) ?_
  refine va_get (D := D) (ci := 6) (v := .int n) (C := RX9) (T := TX9) (N := 1) (ref := "PerilSeat$Kin") hx hb X.1.2.2.2.2.1 in_X9 X.1.2.2.2.1 X.2.1 Y.1 0 rfl rfl 0 (by decide) (X.1.2.2.2.2.1 _ q672) (fun x h9 => u_same (X.1.2.2.2.2.1 _ q673) x h9) rfl dX9_fits_2 ?_
  refine lv_icmp_ne (tgt := 12) hx hb dX9_fits_5 (by decide) (fun c_ => ?_) (fun c_ => ?_)
  · refine lv_iconst (v := 0) hx hb dX9_fits_12 (by decide) ?_
    rw [if_neg c_]
    exact s_zret X.1 Y.2 (by decide) dX9_fits_13
  · refine lv_iconst (v := 1) hx hb dX9_fits_8 (by decide) ?_
    refine lv_goto (tgt := 13) hx hb dX9_fits_9 (by decide) ?_
    rw [if_pos c_]
    exact s_zret X.1 Y.2 (by decide) dX9_fits_13
/-- the words of a call through an object, by what they say -/
theorem cu_of2 {R : Room} {s : State} {args : Array Value} {own C owner : String} {index : Nat} {x y : MethodName} {cc' : ByteArray} {nL' : Nat} {rt' : Option FieldType} {rm : Room} (n : Nat) (hts : ∀ w ∈ lw_all, w.before args s = true) (q1 : (Cond.methodLink own index x).before args s = true) (q2 : (Cond.sameMethod x.cls owner x.name x.desc).before args s = true) (hD : va_Decl s ⟨owner, x.name, x.desc⟩) (q3 : (Cond.selects C x y).before args s = true) (q4 : Cond.instanceMethod y ∈ lw_all) (q5 : Cond.initialized y.cls ∈ lw_all) (q6 : Cond.code y cc' nL' rt' ∈ lw_all)
    (hd : owner ≠ "java/lang/invoke/MethodHandle" ∧ owner ≠ "java/lang/invoke/VarHandle" ∧ (parseMethodDescriptor x.desc).map (fun d => d.parameters.length) = some n) (hrm : rm.cells = 0 ∧ rm.slots = 0 ∧ rm.frames + 1 ≤ R.frames ∧ 8 + (nL' + 11) + rm.locals ≤ R.locals) : va_CU R s args own C owner index x y cc' nL' rt' (ws_ y cc' nL' rt') rm 0 0 n := by
  have hG := lw_meth q6
  refine ⟨⟨hrm.1, hrm.2.1, hrm.2.2.1, hrm.2.2.2, pay_in hts hG, List.mem_cons_self⟩, hts _ q6, hts _ q5, ⟨hd.1, hd.2.1⟩, fun sig h => ?_, q1, q2, hD, q3, hts _ q4⟩
  have h2 := hd.2.2
  rw [h] at h2
  exact (Option.some.inj h2).symm
theorem va_recv2 {s : State} {H : Heap} {a q0 ci : Nat} {q : vw_C} {fs : List Value} {ws : va_W} (hK : va_K D cls (tyL cA) s) (hP : va_P D cls ws H) (hc : cls[ci]? = some q) (he : ws[q0]? = some (a, .inr (ci, fs))) : ∃ (cellB : Cell) (kB : Class), H[a]? = some cellB ∧ cellB.vm.isStatics = false ∧ s.vm.classes[cellB.cls]? = some kB := by
  obtain ⟨cellB, h1, h2, h3⟩ := va_recv hK hP hc he
  obtain ⟨hfc, kB, hkB, -⟩ := (hK.1 ci q hc).2
  have e := Option.some.inj (hfc.symm.trans h3)
  exact ⟨cellB, kB, h1, h2, by rw [← e]; exact hkB⟩
theorem same_self {s : State} {args : Array Value} {x : MethodName} {sup : String} (hmh : x.cls ≠ "java/lang/invoke/MethodHandle" ∧ x.cls ≠ "java/lang/invoke/VarHandle") (hi : (Cond.instanceMethod x).before args s = true) (hs : (Cond.superclass x.cls sup).before args s = true) : (Cond.sameMethod x.cls x.cls x.name x.desc).before args s = true := by
  obtain ⟨r0, r, hn, -, -, -⟩ := Cond.instanceMethod_spec hi
  have hc := findClass_of_methodNamed hn
  obtain ⟨ps, dk, kp, -, hdk, -, -, -, -, hni⟩ := Cond.superclass_spec hc hs
  have hf := State.methodFound?_of_named hn hmh
  have hn2 : s.methodNamed? ⟨x.cls, x.name, x.desc⟩ = some r0 := hn
  simp only [Cond.before, Cond.holds, Cond.value, hc, hf, hn2, hdk]
  simp [hni]
theorem len_of {ds : String} {n : Nat} (h : (parseMethodDescriptor ds).map (fun d => d.parameters.length) = some n) : ∀ sig, parseMethodDescriptor ds = some sig → n = sig.parameters.length := by
  intro sig h2
  rw [h2] at h
  exact (Option.some.inj h).symm
def fitB (oh nk nn now : Int32) : Int32 := if nk = 0 then 1 else if nk = 1 then (if nn ≤ now then 1 else 0) else if nk = 2 then (if now ≤ nn then 1 else 0) else if nk = 3 then (if oh = nn then 1 else 0) else 0
theorem fitB_zb (oh nk nn now : Int32) : zb (fitB oh nk nn now) := by
  unfold fitB
  repeat' split
  all_goals first | exact Or.inl rfl | exact Or.inr rfl
theorem rX10_isShut (l : Launch) {a : Nat} {fs : List Value} : rMet l yX10_isShut cX10_isShut 1 (some .boolean) (cR 1 0 0) [.ref a] D cA [(a, .inr (7, fs))] (some (.int 1)) := by
  refine rMet_of (by decide +kernel) (Nat.le_of_ble_eq_true rfl) (fun {p e s m args below meth c ls} X Y hl => ?_)
  have hx := X.1.1
  have hb := X.1.2.1
  have hl : lv_has ls 1 [(0, .ref a)] := hl
  refine lv_aload_n hx hb dX10_isShut_0 rfl (lv_at hl 0 rfl) ?_
  refine r_callG (y := yX15_isShut) (av := []) (rest := []) (wc := []) X.1 X.2.1 X.2.2 Y.1 Y.2 (rX15_isShut (ws := []) l) q1496 q881 ⟨rfl, rfl, by decide, by decide⟩ (fun k z hz => by simp at hz) hl.1 (Nat.le_of_ble_eq_true rfl) ⟨Nat.zero_le _, Nat.zero_le _⟩ dX10_isShut_1 (fun T hT XT => step_SD (own := RX10) (index := 13) (x := nShut) (y := yX15_isShut) XT hx X.1.2.2.2.1 (dw_use X.2.2 (by decide +kernel)) (dw_use X.2.2 (by decide +kernel)) (X.1.2.2.2.2.1 _ q713) ⟨rfl, rfl⟩ (dl_use X.2.2 (by decide)) (X.1.2.2.2.2.1 _ q880) (va_Decl.of (X.1.2.2.2.2.1 _ q880) (X.1.2.2.2.2.1 _ q881)) (by decide) (by rw [hT]; exact va_recv2 (ci := 7) (q0 := 0) X.2.1 Y.1 rfl rfl) (len_of (by decide +kernel)) rfl (by rw [hb]; exact dX10_isShut_1)) (fun H locs _ hk hS => ?_)
  refine lv_if_ne (x := 0) (tgt := 11) hx hb dX10_isShut_4 (by decide) (fun c_ => absurd rfl c_) (fun _ => ?_)
  refine lv_iconst (v := 1) hx hb dX10_isShut_7 (by decide) ?_
  refine lv_goto (tgt := 12) hx hb dX10_isShut_8 (by decide) ?_
  exact s_zret X.1 hS (by decide) dX10_isShut_12
theorem rX10_fits (l : Launch) {a : Nat} {p0 p1 : Int32} {fs : List Value} : rMet l yX10_fits cX10_fits 3 (some .boolean) (cR 2 0 0) [.ref a, .int p0, .int p1] D cA [(a, .inr (7, fs))] (some (.int 0)) := by
  refine rMet_of (by decide +kernel) (Nat.le_of_ble_eq_true rfl) (fun {p e s m args below meth c ls} X Y hl => ?_)
  have hx := X.1.1
  have hb := X.1.2.1
  have hl : lv_has ls 3 [(0, .ref a), (1, .int p0), (2, .int p1)] := hl
  refine lv_aload_n hx hb dX10_fits_0 rfl (lv_at hl 0 rfl) ?_
  refine r_callU (C := RX10) (ci := 7) (q0 := 0) (q := (RX10, TX10, 1)) (av := []) (rest := []) 0 X.1 X.2.1 X.2.2 Y.1 Y.2 (rX10_isShut l) (cu_of2 (x := yX10_isShut) 0 X.1.2.2.2.2.1 (X.1.2.2.2.2.1 _ q875) (same_self (sup := "PerilSeat$Name") ⟨by decide, by decide⟩ (X.1.2.2.2.2.1 _ q876) (X.1.2.2.2.2.1 _ q713)) (va_Decl.of (X.1.2.2.2.2.1 _ q876) (X.1.2.2.2.2.1 _ q878)) (X.1.2.2.2.2.1 _ q877) q876 q94 q878 (by decide +kernel) ⟨rfl, rfl, by decide, by decide⟩) rfl rfl rfl (fun k z hz => ⟨k, hz⟩) rfl hl.1 rfl (Nat.le_of_ble_eq_true rfl) ⟨Nat.zero_le _, Nat.zero_le _⟩ dX10_fits_1 (fun H locs _ hk hS => ?_)
  refine lv_if_ne (x := 1) (tgt := 11) hx hb dX10_fits_4 (by decide) (fun c_ => ?_) (fun c_ => absurd c_ (by decide))
  refine lv_iconst (v := 0) hx hb dX10_fits_11 (by decide) ?_
  exact s_zret X.1 hS (by decide) dX10_fits_12
set_option maxHeartbeats 1000000 in
theorem rX11_fitsOn (l : Launch) {a b : Nat} {ok rn oh nk nn now : Int32} (hko : kO ok) (hkn : kN nk) : rMet l yX11_fitsOn cX11_fitsOn 3 (some .boolean) (cR 3 0 0) [.ref a, .ref b, .int now] D cA [(a, .inr (oneCi ok, [.int rn, .int oh])), (b, .inr (nameCi nk, [.int nn]))] (some (.int (fitB oh nk nn now))) := by
  refine rMet_of (by decide +kernel) (Nat.le_of_ble_eq_true rfl) (fun {p e s m args below meth c ls} X Y hl => ?_)
  have hx := X.1.1
  have hb := X.1.2.1
  have hl : lv_has ls 3 [(0, .ref a), (1, .ref b), (2, .int now)] := hl
  refine lv_aload_n hx hb dX11_fitsOn_0 rfl (lv_at hl 1 rfl) ?_
  refine lv_iload_n hx hb dX11_fitsOn_1 rfl (lv_at hl 2 rfl) ?_
  refine lv_aload_n hx hb dX11_fitsOn_2 rfl (lv_at hl 0 rfl) ?_
  have get : W p l e (cR 3 0 0) s m args below meth c s.heap [] 0 0 (MQ below (fun _ st oc t => oc = .returned (some (.int (fitB oh nk nn now))) ∧ va_F (fun _ => False) st t) args s 0 0 (fun _ => False)) (F0 m 6 ls [.int oh, .int now, .ref b]) → W p l e (cR 3 0 0) s m args below meth c s.heap [] 0 0 (MQ below (fun _ st oc t => oc = .returned (some (.int (fitB oh nk nn now))) ∧ va_F (fun _ => False) st t) args s 0 0 (fun _ => False)) (F0 m 3 ls [.ref a, .int now, .ref b]) := by
    intro kk
    rcases hko with h2 | h2 | h2
    · subst h2
      exact va_get (D := D) (ci := 8) (v := .int oh) (C := RX12) (T := TX12) (N := 2) (ref := "PerilSeat$One") hx hb X.1.2.2.2.2.1 in_X12 X.1.2.2.2.1 X.2.1 Y.1 0 rfl rfl 1 (by decide) (X.1.2.2.2.2.1 _ q728) (fun x h9 => h9) rfl dX11_fitsOn_3 kk
    · subst h2
      exact va_get (D := D) (ci := 9) (v := .int oh) (C := RX13) (T := TX13) (N := 2) (ref := "PerilSeat$One") hx hb X.1.2.2.2.2.1 in_X13 X.1.2.2.2.1 X.2.1 Y.1 0 rfl rfl 1 (by decide) (X.1.2.2.2.2.1 _ q728) (fun x h9 => h9) rfl dX11_fitsOn_3 kk
    · subst h2
      exact va_get (D := D) (ci := 10) (v := .int oh) (C := RX14) (T := TX14) (N := 2) (ref := "PerilSeat$One") hx hb X.1.2.2.2.2.1 in_X14 X.1.2.2.2.1 X.2.1 Y.1 0 rfl rfl 1 (by decide) (X.1.2.2.2.2.1 _ q728) (fun x h9 => h9) rfl dX11_fitsOn_3 kk
  refine get ?_
  have fl : ∀ {C : String} {y : MethodName}, Cond.selects C ⟨"PerilSeat$Fits", "fits", "(II)Z"⟩ y ∈ lw_all → (Cond.selects C ⟨"PerilSeat$Name", "fits", "(II)Z"⟩ y).before args s = true := fun h => sel_nm (dw_use X.2.2 (by decide +kernel)) (X.1.2.2.2.2.1 _ h)
  have ml : (Cond.methodLink RX11 16 ⟨"PerilSeat$Name", "fits", "(II)Z"⟩).before args s = true := dw_use X.2.2 (by decide +kernel)
  have sm : (Cond.sameMethod "PerilSeat$Name" "PerilSeat$Fits" "fits" "(II)Z").before args s = true := dw_use X.2.2 (by decide +kernel)
  have dc : va_Decl s ⟨"PerilSeat$Fits", "fits", "(II)Z"⟩ := va_Decl.abs (X.2.2.2.2.2.1 ⟨"PerilSeat$Fits", "fits", "(II)Z"⟩ (by decide))
  rcases hkn with h2 | h2 | h2 | h2 | h2
  · subst h2
    refine r_callU (C := RX6) (ci := 3) (q0 := 1) (q := (RX6, TX6, 1)) (av := [.int now, .int oh]) (rest := []) 2 X.1 X.2.1 X.2.2 Y.1 Y.2 (rX6_fits (ws := []) l) (cu_of2 2 X.1.2.2.2.2.1 ml sm dc (fl q882) q863 q90 q864 (by decide +kernel) ⟨rfl, rfl, by decide, by decide⟩) rfl rfl rfl (fun k z hz => by simp at hz) rfl hl.1 rfl (Nat.le_of_ble_eq_true rfl) ⟨Nat.zero_le _, Nat.zero_le _⟩ dX11_fitsOn_6 (fun H locs _ hk hS => ?_)
    exact s_zret X.1 hS (fitB_zb _ _ _ _) dX11_fitsOn_9
  · subst h2
    refine r_callU (C := RX7) (ci := 4) (q0 := 1) (q := (RX7, TX7, 1)) (av := [.int now, .int oh]) (rest := []) 2 X.1 X.2.1 X.2.2 Y.1 Y.2 (rX7_fits l) (cu_of2 2 X.1.2.2.2.2.1 ml sm dc (fl q859) q860 q91 q861 (by decide +kernel) ⟨rfl, rfl, by decide, by decide⟩) rfl rfl rfl (fun k z hz => ⟨1, by have hk : k = 0 := (by have := (List.getElem?_eq_some_iff.mp hz).1; simpa using this); subst hk; cases hz; rfl⟩) rfl hl.1 rfl (Nat.le_of_ble_eq_true rfl) ⟨Nat.zero_le _, Nat.zero_le _⟩ dX11_fitsOn_6 (fun H locs _ hk hS => ?_)
    exact s_zret X.1 hS (fitB_zb _ _ _ _) dX11_fitsOn_9
  · subst h2
    refine r_callU (C := RX8) (ci := 5) (q0 := 1) (q := (RX8, TX8, 1)) (av := [.int now, .int oh]) (rest := []) 2 X.1 X.2.1 X.2.2 Y.1 Y.2 (rX8_fits l) (cu_of2 2 X.1.2.2.2.2.1 ml sm dc (fl q868) q869 q92 q870 (by decide +kernel) ⟨rfl, rfl, by decide, by decide⟩) rfl rfl rfl (fun k z hz => ⟨1, by have hk : k = 0 := (by have := (List.getElem?_eq_some_iff.mp hz).1; simpa using this); subst hk; cases hz; rfl⟩) rfl hl.1 rfl (Nat.le_of_ble_eq_true rfl) ⟨Nat.zero_le _, Nat.zero_le _⟩ dX11_fitsOn_6 (fun H locs _ hk hS => ?_)
    exact s_zret X.1 hS (fitB_zb _ _ _ _) dX11_fitsOn_9
  · subst h2
    refine r_callU (C := RX9) (ci := 6) (q0 := 1) (q := (RX9, TX9, 1)) (av := [.int now, .int oh]) (rest := []) 2 X.1 X.2.1 X.2.2 Y.1 Y.2 (rX9_fits l) (cu_of2 2 X.1.2.2.2.2.1 ml sm dc (fl q865) q866 q93 q867 (by decide +kernel) ⟨rfl, rfl, by decide, by decide⟩) rfl rfl rfl (fun k z hz => ⟨1, by have hk : k = 0 := (by have := (List.getElem?_eq_some_iff.mp hz).1; simpa using this); subst hk; cases hz; rfl⟩) rfl hl.1 rfl (Nat.le_of_ble_eq_true rfl) ⟨Nat.zero_le _, Nat.zero_le _⟩ dX11_fitsOn_6 (fun H locs _ hk hS => ?_)
    exact s_zret X.1 hS (fitB_zb _ _ _ _) dX11_fitsOn_9
  · subst h2
    refine r_callU (C := RX10) (ci := 7) (q0 := 1) (q := (RX10, TX10, 1)) (av := [.int now, .int oh]) (rest := []) 2 X.1 X.2.1 X.2.2 Y.1 Y.2 (rX10_fits l) (cu_of2 2 X.1.2.2.2.2.1 ml sm dc (fl q872) q873 q94 q874 (by decide +kernel) ⟨rfl, rfl, by decide, by decide⟩) rfl rfl rfl (fun k z hz => ⟨1, by have hk : k = 0 := (by have := (List.getElem?_eq_some_iff.mp hz).1; simpa using this); subst hk; cases hz; rfl⟩) rfl hl.1 rfl (Nat.le_of_ble_eq_true rfl) ⟨Nat.zero_le _, Nat.zero_le _⟩ dX11_fitsOn_6 (fun H locs _ hk hS => ?_)
    exact s_zret X.1 hS (fitB_zb _ _ _ _) dX11_fitsOn_9
theorem fitB_4 (oh nn now : Int32) : fitB oh 4 nn now = 0 := rfl
set_option maxHeartbeats 1000000 in
theorem rX14_fitsOn (l : Launch) {a b : Nat} {rn oh nk nn now : Int32} (hkn : kN nk) : rMet l yX14_fitsOn cX14_fitsOn 3 (some .boolean) (cR 4 0 0) [.ref a, .ref b, .int now] D cA [(a, .inr (10, [.int rn, .int oh])), (b, .inr (nameCi nk, [.int nn]))] (some (.int (if nk = 4 then 0 else 1))) := by
  refine rMet_of (by decide +kernel) (Nat.le_of_ble_eq_true rfl) (fun {p e s m args below meth c ls} X Y hl => ?_)
  have hx := X.1.1
  have hb := X.1.2.1
  have hl : lv_has ls 3 [(0, .ref a), (1, .ref b), (2, .int now)] := hl
  refine lv_aload_n hx hb dX14_fitsOn_0 rfl (lv_at hl 0 rfl) ?_
  refine lv_aload_n hx hb dX14_fitsOn_1 rfl (lv_at hl 1 rfl) ?_
  refine lv_iload_n hx hb dX14_fitsOn_2 rfl (lv_at hl 2 rfl) ?_
  refine r_callG (y := yX11_fitsOn) (av := [.ref b, .int now]) (rest := []) X.1 X.2.1 X.2.2 Y.1 Y.2 (rX11_fitsOn l (ok := 2) (Or.inr (Or.inr rfl)) hkn) q95 q856 ⟨rfl, rfl, by decide, by decide⟩ (fun k z hz => ⟨k, hz⟩) hl.1 (Nat.le_of_ble_eq_true rfl) ⟨Nat.zero_le _, Nat.zero_le _⟩ dX14_fitsOn_3 (fun T hT XT => step_SI (own := RX14) (owner := "PerilSeat$One") (x := ⟨"PerilSeat$Knight", "fitsOn", "(LPerilSeat$Name;I)Z"⟩) XT hx X.1.2.2.2.1 (X.1.2.2.2.2.1 _ q853) (X.1.2.2.2.2.1 _ q854) (X.1.2.2.2.2.1 _ q752) (X.1.2.2.2.2.1 _ q734) (X.1.2.2.2.2.1 _ q848) (va_Decl.of (X.1.2.2.2.2.1 _ q848) (X.1.2.2.2.2.1 _ q856)) (by show "fitsOn" ≠ _; decide) (by rw [hT]; exact va_recv2 (ci := 10) (q0 := 0) X.2.1 Y.1 rfl rfl) (len_of (n := 2) (by decide +kernel)) rfl (by rw [hb]; exact dX14_fitsOn_3)) (fun H locs _ hk hS => ?_)
  have Y := Y.kept hk hS
  have fin : ∀ (v : Int32) (H : Heap) (locs : List Loc), va_S (fun _ => False) s.heap H locs → v = (if nk = 4 then 0 else 1) → W p l e (cR 4 0 0) s m args below meth c H locs 0 0 (MQ below (fun _ st oc t => oc = .returned (some (.int (if nk = 4 then 0 else 1))) ∧ va_F (fun _ => False) st t) args s 0 0 (fun _ => False)) (F0 m 21 ls [.int v]) := by
    intro v H locs hS e
    subst e
    exact s_zret X.1 hS (by split; exact Or.inl rfl; exact Or.inr rfl) dX14_fitsOn_21
  refine lv_if_ne (x := fitB oh nk nn now) (tgt := 16) hx hb dX14_fitsOn_6 (by decide) (fun c_ => ?_) (fun _ => ?_)
  · refine lv_iconst (v := 1) hx hb dX14_fitsOn_16 (by decide) ?_
    refine lv_goto (tgt := 21) hx hb dX14_fitsOn_17 (by decide) ?_
    refine fin _ _ _ Y.2 ?_
    rw [if_neg]
    intro h4
    rw [h4] at c_
    exact c_ rfl
  · refine lv_aload_n hx hb dX14_fitsOn_9 rfl (lv_at hl 1 rfl) ?_
    have ml : (Cond.methodLink RX14 15 nShut).before args s = true := dw_use X.2.2 (by decide +kernel)
    have sm : (Cond.sameMethod "PerilSeat$Name" "PerilSeat$Fits" "isShut" "()Z").before args s = true := dw_use X.2.2 (by decide +kernel)
    have dc : va_Decl s fShut := va_Decl.of (X.1.2.2.2.2.1 _ q880) (X.1.2.2.2.2.1 _ q881)
    rcases hkn with h2 | h2 | h2 | h2 | h2
    · subst h2
      refine r_callG (y := yX15_isShut) (av := []) (rest := []) (wc := []) X.1 X.2.1 X.2.2 Y.1 Y.2 (rX15_isShut (ws := []) l) q1496 q881 ⟨rfl, rfl, by decide, by decide⟩ (fun k z hz => by simp at hz) hl.1 (Nat.le_of_ble_eq_true rfl) ⟨Nat.zero_le _, Nat.zero_le _⟩ dX14_fitsOn_10 (fun T hT XT => step_D (own := RX14) (index := 15) (C := RX6) (owner := "PerilSeat$Fits") (x := nShut) XT hx X.1.2.2.2.1 ml sm dc (by decide) (dl_use X.2.2 (by decide)) (X.1.2.2.2.2.1 _ q880) (by rw [hT]; exact va_recv X.2.1 Y.1 (ci := 3) (q0 := 1) (q := (RX6, TX6, 1)) rfl rfl) (len_of (by decide +kernel)) rfl (by rw [hb]; exact dX14_fitsOn_10)) (fun H locs _ hk hS => ?_)
      refine lv_if_ne (x := 0) (tgt := 20) hx hb dX14_fitsOn_13 (by decide) (fun c_ => absurd rfl c_) (fun _ => ?_)
      refine lv_iconst (v := 1) hx hb dX14_fitsOn_16 (by decide) ?_
      refine lv_goto (tgt := 21) hx hb dX14_fitsOn_17 (by decide) ?_
      exact fin _ _ _ hS rfl
    · subst h2
      refine r_callG (y := yX15_isShut) (av := []) (rest := []) (wc := []) X.1 X.2.1 X.2.2 Y.1 Y.2 (rX15_isShut (ws := []) l) q1496 q881 ⟨rfl, rfl, by decide, by decide⟩ (fun k z hz => by simp at hz) hl.1 (Nat.le_of_ble_eq_true rfl) ⟨Nat.zero_le _, Nat.zero_le _⟩ dX14_fitsOn_10 (fun T hT XT => step_D (own := RX14) (index := 15) (C := RX7) (owner := "PerilSeat$Fits") (x := nShut) XT hx X.1.2.2.2.1 ml sm dc (by decide) (dl_use X.2.2 (by decide)) (X.1.2.2.2.2.1 _ q880) (by rw [hT]; exact va_recv X.2.1 Y.1 (ci := 4) (q0 := 1) (q := (RX7, TX7, 1)) rfl rfl) (len_of (by decide +kernel)) rfl (by rw [hb]; exact dX14_fitsOn_10)) (fun H locs _ hk hS => ?_)
      refine lv_if_ne (x := 0) (tgt := 20) hx hb dX14_fitsOn_13 (by decide) (fun c_ => absurd rfl c_) (fun _ => ?_)
      refine lv_iconst (v := 1) hx hb dX14_fitsOn_16 (by decide) ?_
      refine lv_goto (tgt := 21) hx hb dX14_fitsOn_17 (by decide) ?_
      exact fin _ _ _ hS rfl
    · subst h2
      refine r_callG (y := yX15_isShut) (av := []) (rest := []) (wc := []) X.1 X.2.1 X.2.2 Y.1 Y.2 (rX15_isShut (ws := []) l) q1496 q881 ⟨rfl, rfl, by decide, by decide⟩ (fun k z hz => by simp at hz) hl.1 (Nat.le_of_ble_eq_true rfl) ⟨Nat.zero_le _, Nat.zero_le _⟩ dX14_fitsOn_10 (fun T hT XT => step_D (own := RX14) (index := 15) (C := RX8) (owner := "PerilSeat$Fits") (x := nShut) XT hx X.1.2.2.2.1 ml sm dc (by decide) (dl_use X.2.2 (by decide)) (X.1.2.2.2.2.1 _ q880) (by rw [hT]; exact va_recv X.2.1 Y.1 (ci := 5) (q0 := 1) (q := (RX8, TX8, 1)) rfl rfl) (len_of (by decide +kernel)) rfl (by rw [hb]; exact dX14_fitsOn_10)) (fun H locs _ hk hS => ?_)
      refine lv_if_ne (x := 0) (tgt := 20) hx hb dX14_fitsOn_13 (by decide) (fun c_ => absurd rfl c_) (fun _ => ?_)
      refine lv_iconst (v := 1) hx hb dX14_fitsOn_16 (by decide) ?_
      refine lv_goto (tgt := 21) hx hb dX14_fitsOn_17 (by decide) ?_
      exact fin _ _ _ hS rfl
    · subst h2
      refine r_callG (y := yX15_isShut) (av := []) (rest := []) (wc := []) X.1 X.2.1 X.2.2 Y.1 Y.2 (rX15_isShut (ws := []) l) q1496 q881 ⟨rfl, rfl, by decide, by decide⟩ (fun k z hz => by simp at hz) hl.1 (Nat.le_of_ble_eq_true rfl) ⟨Nat.zero_le _, Nat.zero_le _⟩ dX14_fitsOn_10 (fun T hT XT => step_D (own := RX14) (index := 15) (C := RX9) (owner := "PerilSeat$Fits") (x := nShut) XT hx X.1.2.2.2.1 ml sm dc (by decide) (dl_use X.2.2 (by decide)) (X.1.2.2.2.2.1 _ q880) (by rw [hT]; exact va_recv X.2.1 Y.1 (ci := 6) (q0 := 1) (q := (RX9, TX9, 1)) rfl rfl) (len_of (by decide +kernel)) rfl (by rw [hb]; exact dX14_fitsOn_10)) (fun H locs _ hk hS => ?_)
      refine lv_if_ne (x := 0) (tgt := 20) hx hb dX14_fitsOn_13 (by decide) (fun c_ => absurd rfl c_) (fun _ => ?_)
      refine lv_iconst (v := 1) hx hb dX14_fitsOn_16 (by decide) ?_
      refine lv_goto (tgt := 21) hx hb dX14_fitsOn_17 (by decide) ?_
      exact fin _ _ _ hS rfl
    · subst h2
      refine r_callU (C := RX10) (ci := 7) (q0 := 1) (q := (RX10, TX10, 1)) (av := []) (rest := []) 0 X.1 X.2.1 X.2.2 Y.1 Y.2 (rX10_isShut l) (cu_of2 (x := nShut) 0 X.1.2.2.2.2.1 ml sm dc (sel_nm sm (X.1.2.2.2.2.1 _ q886)) q876 q94 q878 (by decide +kernel) ⟨rfl, rfl, by decide, by decide⟩) rfl rfl rfl (fun k z hz => ⟨1, by have hk : k = 0 := (by have := (List.getElem?_eq_some_iff.mp hz).1; simpa using this); subst hk; cases hz; rfl⟩) rfl hl.1 rfl (Nat.le_of_ble_eq_true rfl) ⟨Nat.zero_le _, Nat.zero_le _⟩ dX14_fitsOn_10 (fun H locs _ hk hS => ?_)
      refine lv_if_ne (x := 1) (tgt := 20) hx hb dX14_fitsOn_13 (by decide) (fun c_ => ?_) (fun c_ => absurd c_ (by decide))
      refine lv_iconst (v := 0) hx hb dX14_fitsOn_20 (by decide) ?_
      exact fin _ _ _ hS rfl
end OBJM
