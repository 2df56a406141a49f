/-! THE COMPONENT, method by method: written by tools/decomp.py, tools/world_c.py -/
set_option maxRecDepth 100000
def fX0_perilNow (N : Nat) (G : GS) : Option Int32 :=
  if (G 0 1) = (0 : Int32) then (
   some (-1 : Int32)
  ) else (
   gd (¬ (G 0 1) = (0 : Int32)) <|
   some (((G 0 5) + ((G 0 6) * (G 8 4))) - ((G 0 5) + ((G 0 6) * (G 8 4))) / (G 0 1) * (G 0 1))
  )
theorem ydX0_perilNow : yX0_perilNow.cls = RX0 ∧ yX0_perilNow.cls ≠ "java/lang/invoke/MethodHandle" ∧ yX0_perilNow.cls ≠ "java/lang/invoke/VarHandle" ∧ (parseMethodDescriptor yX0_perilNow.desc).map (fun d => d.parameters.length) = some 0 := by decide +kernel
set_option maxHeartbeats 4000000 in
theorem tX0_perilNow (l : Launch) (N : Nat) (G : GS) (r : Int32) (hf : fX0_perilNow N G = some r) : cMet l yX0_perilNow cX0_perilNow 1 (some .int) (cR 0 0 0) [] G (some (.int r)) G true := by
  unfold fX0_perilNow at hf
  refine cMet_of (by decide +kernel) rfl (Nat.le_of_ble_eq_true rfl) (fun {p e s m args below meth c ls D cA h ad A Z} X Y hl => ?_)
  have hx := X.1.1.1
  have hb := X.1.1.2.1
  have hZ : true = true → Z = Z := fun _ => rfl
  have hl : lv_has ls 1 [(0, .ref h)] := hl
  refine lv_aload_n hx hb dX0_perilNow_0 rfl (lv_at hl 0 rfl) ?_
  refine cg (v := .int (G 0 1)) X Y 1 (by decide) q157 rfl rfl dX0_perilNow_1 ?_
  refine lv_if_ne (tgt := 11) hx hb dX0_perilNow_4 (by decide) (fun c_1 => ?_) (fun c_1 => ?_)
  · rw [if_neg c_1] at hf
    refine lv_aload_n hx hb dX0_perilNow_11 rfl (lv_at hl 0 rfl) ?_
    refine cg (v := .int (G 0 5)) X Y 5 (by decide) q162 rfl rfl dX0_perilNow_12 ?_
    refine lv_aload_n hx hb dX0_perilNow_15 rfl (lv_at hl 0 rfl) ?_
    refine cg (v := .int (G 0 6)) X Y 6 (by decide) q163 rfl rfl dX0_perilNow_16 ?_
    refine lv_aload_n hx hb dX0_perilNow_19 rfl (lv_at hl 0 rfl) ?_
    refine cg (v := .ref (ad 8)) X Y 8 (by decide) q165 rfl rfl dX0_perilNow_20 ?_
    refine cgn (v := .int (G 8 4)) X Y 4 (by decide) q127 rfl rfl dX0_perilNow_23 ?_
    refine lv_imul hx hb dX0_perilNow_26 ?_
    refine lv_iadd hx hb dX0_perilNow_27 ?_
    refine lv_aload_n hx hb dX0_perilNow_28 rfl (lv_at hl 0 rfl) ?_
    refine cg (v := .int (G 0 1)) X Y 1 (by decide) q157 rfl rfl dX0_perilNow_29 ?_
    obtain ⟨b_2, hf⟩ := gd_s hf
    refine lv_irem hx hb dX0_perilNow_32 b_2 ?_
    cases hf
    exact c_iret X hZ Y dX0_perilNow_33
  · rw [if_pos c_1] at hf
    refine lv_iconst (v := (-1 : Int32)) hx hb dX0_perilNow_7 (by decide) ?_
    refine lv_goto (tgt := 33) hx hb dX0_perilNow_8 (by decide) ?_
    cases hf
    exact c_iret X hZ Y dX0_perilNow_33

def fX0_behind (N : Nat) (G : GS) (a1 : Int32) : Option Int32 :=
  gd (¬ (G 0 1) = (0 : Int32)) <|
  some ((a1 + (1 : Int32)) - (a1 + (1 : Int32)) / (G 0 1) * (G 0 1))
theorem ydX0_behind : yX0_behind.cls = RX0 ∧ yX0_behind.cls ≠ "java/lang/invoke/MethodHandle" ∧ yX0_behind.cls ≠ "java/lang/invoke/VarHandle" ∧ (parseMethodDescriptor yX0_behind.desc).map (fun d => d.parameters.length) = some 1 := by decide +kernel
set_option maxHeartbeats 4000000 in
theorem tX0_behind (l : Launch) (N : Nat) (G : GS) (a1 : Int32) (r : Int32) (hf : fX0_behind N G a1 = some r) : cMet l yX0_behind cX0_behind 2 (some .int) (cR 0 0 0) [.int a1] G (some (.int r)) G true := by
  unfold fX0_behind at hf
  refine cMet_of (by decide +kernel) rfl (Nat.le_of_ble_eq_true rfl) (fun {p e s m args below meth c ls D cA h ad A Z} X Y hl => ?_)
  have hx := X.1.1.1
  have hb := X.1.1.2.1
  have hZ : true = true → Z = Z := fun _ => rfl
  have hl : lv_has ls 2 [(0, .ref h), (1, .int a1)] := hl
  refine lv_iload_n hx hb dX0_behind_0 rfl (lv_at hl 1 rfl) ?_
  refine lv_iconst (v := (1 : Int32)) hx hb dX0_behind_1 (by decide) ?_
  refine lv_iadd hx hb dX0_behind_2 ?_
  refine lv_aload_n hx hb dX0_behind_3 rfl (lv_at hl 0 rfl) ?_
  refine cg (v := .int (G 0 1)) X Y 1 (by decide) q157 rfl rfl dX0_behind_4 ?_
  obtain ⟨b_1, hf⟩ := gd_s hf
  refine lv_irem hx hb dX0_behind_7 b_1 ?_
  cases hf
  exact c_iret X hZ Y dX0_behind_8

def fX0_has (N : Nat) (a1 : Int32) (a2 : Int32) : Option Int32 :=
  if ((a1 >>> (a2 &&& 31)) &&& (1 : Int32)) = (1 : Int32) then (
   some (1 : Int32)
  ) else (
   some (0 : Int32)
  )
theorem ydX0_has : yX0_has.cls ≠ "java/lang/invoke/MethodHandle" ∧ yX0_has.cls ≠ "java/lang/invoke/VarHandle" ∧ (parseMethodDescriptor yX0_has.desc).map (fun d => d.parameters.length) = some 2 := by decide +kernel
set_option maxHeartbeats 4000000 in
theorem tX0_has (l : Launch) (N : Nat) (a1 : Int32) (a2 : Int32) (r : Int32) (hf : fX0_has N a1 a2 = some r) : sMet l yX0_has cX0_has 2 (some .boolean) (mR 0) [.int a1, .int a2] (some (.int r)) := by
  unfold fX0_has at hf
  refine sMet_of (by decide +kernel) (Nat.le_of_ble_eq_true rfl) (fun {p e s m args below meth c ls} B hS hl => ?_)
  have hx := B.1
  have hb := B.2.1
  have hl : lv_has ls 2 [(0, .int a1), (1, .int a2)] := hl
  refine lv_iload_n hx hb dX0_has_0 rfl (lv_at hl 0 rfl) ?_
  refine lv_iload_n hx hb dX0_has_1 rfl (lv_at hl 1 rfl) ?_
  refine lv_ishr hx hb dX0_has_2 ?_
  refine lv_iconst (v := (1 : Int32)) hx hb dX0_has_3 (by decide) ?_
  refine lv_iand hx hb dX0_has_4 ?_
  refine lv_iconst (v := (1 : Int32)) hx hb dX0_has_5 (by decide) ?_
  refine lv_icmp_ne (tgt := 13) hx hb dX0_has_6 (by decide) (fun c_1 => ?_) (fun c_1 => ?_)
  · rw [if_neg c_1] at hf
    refine lv_iconst (v := (0 : Int32)) hx hb dX0_has_13 (by decide) ?_
    cases hf
    exact s_zret B hS (by decide) dX0_has_14
  · rw [if_pos c_1] at hf
    refine lv_iconst (v := (1 : Int32)) hx hb dX0_has_9 (by decide) ?_
    refine lv_goto (tgt := 14) hx hb dX0_has_10 (by decide) ?_
    cases hf
    exact s_zret B hS (by decide) dX0_has_14

def fX0_areEnemies (N : Nat) (G : GS) (a1 : Int32) (a2 : Int32) : Option Int32 :=
  if a1 = (-1 : Int32) then (
   some (0 : Int32)
  ) else (
   if a2 = (-1 : Int32) then (
    some (0 : Int32)
   ) else (
    gd (inb a1 6) <|
    nm (G 4 (a1).toNatClampNeg : Int32) fun v_4 =>
    bd1 (fX0_has N v_4 a2) fun r_5 =>
    if r_5 = (0 : Int32) then (
     some (0 : Int32)
    ) else (
     some (1 : Int32)
    )
   )
  )
theorem ydX0_areEnemies : yX0_areEnemies.cls = RX0 ∧ yX0_areEnemies.cls ≠ "java/lang/invoke/MethodHandle" ∧ yX0_areEnemies.cls ≠ "java/lang/invoke/VarHandle" ∧ (parseMethodDescriptor yX0_areEnemies.desc).map (fun d => d.parameters.length) = some 2 := by decide +kernel
set_option maxHeartbeats 4000000 in
theorem tX0_areEnemies (l : Launch) (N : Nat) (G : GS) (a1 : Int32) (a2 : Int32) (r : Int32) (hf : fX0_areEnemies N G a1 a2 = some r) : cMet l yX0_areEnemies cX0_areEnemies 3 (some .boolean) (cR 1 0 0) [.int a1, .int a2] G (some (.int r)) G true := by
  unfold fX0_areEnemies at hf
  refine cMet_of (by decide +kernel) rfl (Nat.le_of_ble_eq_true rfl) (fun {p e s m args below meth c ls D cA h ad A Z} X Y hl => ?_)
  have hx := X.1.1.1
  have hb := X.1.1.2.1
  have hZ : true = true → Z = Z := fun _ => rfl
  have hl : lv_has ls 3 [(0, .ref h), (1, .int a1), (2, .int a2)] := hl
  refine lv_iload_n hx hb dX0_areEnemies_0 rfl (lv_at hl 1 rfl) ?_
  refine lv_iconst (v := (-1 : Int32)) hx hb dX0_areEnemies_1 (by decide) ?_
  refine lv_icmp_eq (tgt := 27) hx hb dX0_areEnemies_2 (by decide) (fun c_1 => ?_) (fun c_1 => ?_)
  · rw [if_pos c_1] at hf
    refine lv_iconst (v := (0 : Int32)) hx hb dX0_areEnemies_27 (by decide) ?_
    cases hf
    exact c_zret X hZ Y (by decide) dX0_areEnemies_28
  · rw [if_neg c_1] at hf
    refine lv_iload_n hx hb dX0_areEnemies_5 rfl (lv_at hl 2 rfl) ?_
    refine lv_iconst (v := (-1 : Int32)) hx hb dX0_areEnemies_6 (by decide) ?_
    refine lv_icmp_eq (tgt := 27) hx hb dX0_areEnemies_7 (by decide) (fun c_2 => ?_) (fun c_2 => ?_)
    · rw [if_pos c_2] at hf
      refine lv_iconst (v := (0 : Int32)) hx hb dX0_areEnemies_27 (by decide) ?_
      cases hf
      exact c_zret X hZ Y (by decide) dX0_areEnemies_28
    · rw [if_neg c_2] at hf
      refine lv_aload_n hx hb dX0_areEnemies_10 rfl (lv_at hl 0 rfl) ?_
      refine cg (v := .ref (ad 4)) X Y 4 (by decide) q161 rfl rfl dX0_areEnemies_11 ?_
      refine lv_iload_n hx hb dX0_areEnemies_14 rfl (lv_at hl 1 rfl) ?_
      obtain ⟨b_3, hf⟩ := gd_s hf
      obtain ⟨v_4, ev_4, hf⟩ := nm_s hf
      refine ca (n := 6) X Y 4 3 rfl b_3 ev_4 dX0_areEnemies_15 ?_
      refine lv_iload_n hx hb dX0_areEnemies_16 rfl (lv_at hl 2 rfl) ?_
      obtain ⟨r_5, hq_6, hf⟩ := bd1_s hf
      refine c_callSI (av := [.int v_4, .int a2]) (rest := []) 2 X Y (tX0_has l N v_4 a2 r_5 hq_6) (lw_S q899 q900 q67 q901) ydX0_has ⟨rfl, rfl, by decide, by decide⟩ rfl hl.1 rfl (Nat.le_of_ble_eq_true rfl) (by decide) dX0_areEnemies_17 (fun H locs Y => ?_)
      refine lv_if_eq (tgt := 27) hx hb dX0_areEnemies_20 (by decide) (fun c_7 => ?_) (fun c_7 => ?_)
      · rw [if_pos c_7] at hf
        refine lv_iconst (v := (0 : Int32)) hx hb dX0_areEnemies_27 (by decide) ?_
        cases hf
        exact c_zret X hZ Y (by decide) dX0_areEnemies_28
      · rw [if_neg c_7] at hf
        refine lv_iconst (v := (1 : Int32)) hx hb dX0_areEnemies_23 (by decide) ?_
        refine lv_goto (tgt := 28) hx hb dX0_areEnemies_24 (by decide) ?_
        cases hf
        exact c_zret X hZ Y (by decide) dX0_areEnemies_28

def fX0_in (N : Nat) (a1 : Int64) (a2 : Int64) (a3 : Int64) : Option Int32 :=
  if (lg_cmp a1 a2) < (0 : Int32) then (
   some (0 : Int32)
  ) else (
   if (0 : Int32) < (lg_cmp a1 a3) then (
    some (0 : Int32)
   ) else (
    some (1 : Int32)
   )
  )
theorem ydX0_in : yX0_in.cls ≠ "java/lang/invoke/MethodHandle" ∧ yX0_in.cls ≠ "java/lang/invoke/VarHandle" ∧ (parseMethodDescriptor yX0_in.desc).map (fun d => d.parameters.length) = some 3 := by decide +kernel
set_option maxHeartbeats 4000000 in
theorem tX0_in (l : Launch) (N : Nat) (a1 : Int64) (a2 : Int64) (a3 : Int64) (r : Int32) (hf : fX0_in N a1 a2 a3 = some r) : sMet l yX0_in cX0_in 6 (some .boolean) (mR 0) [.long a1, .long a2, .long a3] (some (.int r)) := by
  unfold fX0_in at hf
  refine sMet_of (by decide +kernel) (Nat.le_of_ble_eq_true rfl) (fun {p e s m args below meth c ls} B hS hl => ?_)
  have hx := B.1
  have hb := B.2.1
  have hl : lv_has ls 6 [(0, .long a1), (2, .long a2), (4, .long a3)] := hl
  refine lv_lload_n hx hb dX0_in_0 rfl (lv_at hl 0 rfl) ?_
  refine lv_lload_n hx hb dX0_in_1 rfl (lv_at hl 1 rfl) ?_
  refine W.lcmp hx hb dX0_in_2 ?_
  refine lv_if_lt (tgt := 17) hx hb dX0_in_3 (by decide) (fun c_1 => ?_) (fun c_1 => ?_)
  · rw [if_pos c_1] at hf
    refine lv_iconst (v := (0 : Int32)) hx hb dX0_in_17 (by decide) ?_
    cases hf
    exact s_zret B hS (by decide) dX0_in_18
  · rw [if_neg c_1] at hf
    refine lv_lload_n hx hb dX0_in_6 rfl (lv_at hl 0 rfl) ?_
    refine lv_lload hx hb dX0_in_7 (lv_at hl 2 rfl) ?_
    refine W.lcmp hx hb dX0_in_9 ?_
    refine lv_if_gt (tgt := 17) hx hb dX0_in_10 (by decide) (fun c_2 => ?_) (fun c_2 => ?_)
    · rw [if_pos c_2] at hf
      refine lv_iconst (v := (0 : Int32)) hx hb dX0_in_17 (by decide) ?_
      cases hf
      exact s_zret B hS (by decide) dX0_in_18
    · rw [if_neg c_2] at hf
      refine lv_iconst (v := (1 : Int32)) hx hb dX0_in_13 (by decide) ?_
      refine lv_goto (tgt := 18) hx hb dX0_in_14 (by decide) ?_
      cases hf
      exact s_zret B hS (by decide) dX0_in_18

def fX0_isSeat (N : Nat) (G : GS) (a1 : Int32) : Option Int32 :=
  bd1 (fX0_in N (a1).toInt64 (0 : Int64) (((G 0 1) - (1 : Int32))).toInt64) fun r_1 =>
  gd (zb r_1) <|
  some r_1
theorem ydX0_isSeat : yX0_isSeat.cls = RX0 ∧ yX0_isSeat.cls ≠ "java/lang/invoke/MethodHandle" ∧ yX0_isSeat.cls ≠ "java/lang/invoke/VarHandle" ∧ (parseMethodDescriptor yX0_isSeat.desc).map (fun d => d.parameters.length) = some 1 := by decide +kernel
set_option maxHeartbeats 4000000 in
theorem tX0_isSeat (l : Launch) (N : Nat) (G : GS) (a1 : Int32) (r : Int32) (hf : fX0_isSeat N G a1 = some r) : cMet l yX0_isSeat cX0_isSeat 2 (some .boolean) (cR 1 0 0) [.int a1] G (some (.int r)) G true := by
  unfold fX0_isSeat at hf
  refine cMet_of (by decide +kernel) rfl (Nat.le_of_ble_eq_true rfl) (fun {p e s m args below meth c ls D cA h ad A Z} X Y hl => ?_)
  have hx := X.1.1.1
  have hb := X.1.1.2.1
  have hZ : true = true → Z = Z := fun _ => rfl
  have hl : lv_has ls 2 [(0, .ref h), (1, .int a1)] := hl
  refine lv_iload_n hx hb dX0_isSeat_0 rfl (lv_at hl 1 rfl) ?_
  refine lv_i2l (v := (a1).toInt64) hx hb dX0_isSeat_1 rfl ?_
  refine lv_lconst (v := (0 : Int64)) hx hb dX0_isSeat_2 (by decide) ?_
  refine lv_aload_n hx hb dX0_isSeat_3 rfl (lv_at hl 0 rfl) ?_
  refine cg (v := .int (G 0 1)) X Y 1 (by decide) q157 rfl rfl dX0_isSeat_4 ?_
  refine lv_iconst (v := (1 : Int32)) hx hb dX0_isSeat_7 (by decide) ?_
  refine lv_isub hx hb dX0_isSeat_8 ?_
  refine lv_i2l (v := (((G 0 1) - (1 : Int32))).toInt64) hx hb dX0_isSeat_9 rfl ?_
  obtain ⟨r_1, hq_2, hf⟩ := bd1_s hf
  refine c_callSI (av := [.long (a1).toInt64, .long (0 : Int64), .long (((G 0 1) - (1 : Int32))).toInt64]) (rest := []) 3 X Y (tX0_in l N (a1).toInt64 (0 : Int64) (((G 0 1) - (1 : Int32))).toInt64 r_1 hq_2) (lw_S q235 q236 q67 q237) ydX0_in ⟨rfl, rfl, by decide, by decide⟩ rfl hl.1 rfl (Nat.le_of_ble_eq_true rfl) (by decide) dX0_isSeat_10 (fun H locs Y => ?_)
  obtain ⟨b_3, hf⟩ := gd_s hf
  cases hf
  exact c_zret X hZ Y b_3 dX0_isSeat_13

def fX0_isKnight (N : Nat) (G : GS) (a1 : Int32) : Option Int32 :=
  bd1 (fX0_in N (a1).toInt64 (0 : Int64) (((G 0 3) - (1 : Int32))).toInt64) fun r_1 =>
  gd (zb r_1) <|
  some r_1
theorem ydX0_isKnight : yX0_isKnight.cls = RX0 ∧ yX0_isKnight.cls ≠ "java/lang/invoke/MethodHandle" ∧ yX0_isKnight.cls ≠ "java/lang/invoke/VarHandle" ∧ (parseMethodDescriptor yX0_isKnight.desc).map (fun d => d.parameters.length) = some 1 := by decide +kernel
set_option maxHeartbeats 4000000 in
theorem tX0_isKnight (l : Launch) (N : Nat) (G : GS) (a1 : Int32) (r : Int32) (hf : fX0_isKnight N G a1 = some r) : cMet l yX0_isKnight cX0_isKnight 2 (some .boolean) (cR 1 0 0) [.int a1] G (some (.int r)) G true := by
  unfold fX0_isKnight at hf
  refine cMet_of (by decide +kernel) rfl (Nat.le_of_ble_eq_true rfl) (fun {p e s m args below meth c ls D cA h ad A Z} X Y hl => ?_)
  have hx := X.1.1.1
  have hb := X.1.1.2.1
  have hZ : true = true → Z = Z := fun _ => rfl
  have hl : lv_has ls 2 [(0, .ref h), (1, .int a1)] := hl
  refine lv_iload_n hx hb dX0_isKnight_0 rfl (lv_at hl 1 rfl) ?_
  refine lv_i2l (v := (a1).toInt64) hx hb dX0_isKnight_1 rfl ?_
  refine lv_lconst (v := (0 : Int64)) hx hb dX0_isKnight_2 (by decide) ?_
  refine lv_aload_n hx hb dX0_isKnight_3 rfl (lv_at hl 0 rfl) ?_
  refine cg (v := .int (G 0 3)) X Y 3 (by decide) q160 rfl rfl dX0_isKnight_4 ?_
  refine lv_iconst (v := (1 : Int32)) hx hb dX0_isKnight_7 (by decide) ?_
  refine lv_isub hx hb dX0_isKnight_8 ?_
  refine lv_i2l (v := (((G 0 3) - (1 : Int32))).toInt64) hx hb dX0_isKnight_9 rfl ?_
  obtain ⟨r_1, hq_2, hf⟩ := bd1_s hf
  refine c_callSI (av := [.long (a1).toInt64, .long (0 : Int64), .long (((G 0 3) - (1 : Int32))).toInt64]) (rest := []) 3 X Y (tX0_in l N (a1).toInt64 (0 : Int64) (((G 0 3) - (1 : Int32))).toInt64 r_1 hq_2) (lw_S q235 q236 q67 q237) ydX0_in ⟨rfl, rfl, by decide, by decide⟩ rfl hl.1 rfl (Nat.le_of_ble_eq_true rfl) (by decide) dX0_isKnight_10 (fun H locs Y => ?_)
  obtain ⟨b_3, hf⟩ := gd_s hf
  cases hf
  exact c_zret X hZ Y b_3 dX0_isKnight_13

def fX0_write (N : Nat) (G : GS) (a1 : Int32) : Option (Int32 × GS) :=
  bd1 (fX0_in N (a1).toInt64 (0 : Int64) (255 : Int64)) fun r_1 =>
  if r_1 = (0 : Int32) then (
   some ((-3 : Int32), G)
  ) else (
   if (G 0 15) = (160 : Int32) then (
    some ((-5 : Int32), G)
   ) else (
    nm (gu G 0 15 ((G 0 15) + (1 : Int32)) : GS) fun G_5 =>
    gd (inb (G 0 15) 160) <|
    nm (gu G_5 14 ((G 0 15)).toNatClampNeg (vp_nar .byte (a1).toInt8.toInt32) : GS) fun G_7 =>
    some ((G_7 0 15), G_7)
   )
  )
theorem ydX0_write : yX0_write.cls = RX0 ∧ yX0_write.cls ≠ "java/lang/invoke/MethodHandle" ∧ yX0_write.cls ≠ "java/lang/invoke/VarHandle" ∧ (parseMethodDescriptor yX0_write.desc).map (fun d => d.parameters.length) = some 1 := by decide +kernel
set_option maxHeartbeats 4000000 in
theorem tX0_write (l : Launch) (N : Nat) (G : GS) (a1 : Int32) (r : Int32) (G' : GS) (hf : fX0_write N G a1 = some (r, G')) : cMet l yX0_write cX0_write 2 (some .int) (cR 1 0 0) [.int a1] G (some (.int r)) G' true := by
  unfold fX0_write at hf
  refine cMet_of (by decide +kernel) rfl (Nat.le_of_ble_eq_true rfl) (fun {p e s m args below meth c ls D cA h ad A Z} X Y hl => ?_)
  have hx := X.1.1.1
  have hb := X.1.1.2.1
  have hZ : true = true → Z = Z := fun _ => rfl
  have hl : lv_has ls 2 [(0, .ref h), (1, .int a1)] := hl
  refine lv_iload_n hx hb dX0_write_0 rfl (lv_at hl 1 rfl) ?_
  refine lv_i2l (v := (a1).toInt64) hx hb dX0_write_1 rfl ?_
  refine lv_lconst (v := (0 : Int64)) hx hb dX0_write_2 (by decide) ?_
  refine lv_ldc2 (v := (255 : Int64)) hx hb X.1.1.2.2.2.1 (X.1.1.2.2.2.2.1 _ q234) dX0_write_3 ?_
  obtain ⟨r_1, hq_2, hf⟩ := bd1_s hf
  refine c_callSI (av := [.long (a1).toInt64, .long (0 : Int64), .long (255 : Int64)]) (rest := []) 3 X Y (tX0_in l N (a1).toInt64 (0 : Int64) (255 : Int64) r_1 hq_2) (lw_S q235 q236 q67 q237) ydX0_in ⟨rfl, rfl, by decide, by decide⟩ rfl hl.1 rfl (Nat.le_of_ble_eq_true rfl) (by decide) dX0_write_6 (fun H locs Y => ?_)
  refine lv_if_ne (tgt := 15) hx hb dX0_write_9 (by decide) (fun c_3 => ?_) (fun c_3 => ?_)
  · rw [if_neg c_3] at hf
    refine lv_aload_n hx hb dX0_write_15 rfl (lv_at hl 0 rfl) ?_
    refine cg (v := .int (G 0 15)) X Y 15 (by decide) q174 rfl rfl dX0_write_16 ?_
    refine lv_aload_n hx hb dX0_write_19 rfl (lv_at hl 0 rfl) ?_
    refine cg (v := .ref (ad 14)) X Y 14 (by decide) q172 rfl rfl dX0_write_20 ?_
    refine cal (v := (160 : Int32)) X Y 14 11 2 rfl rfl rfl dX0_write_23 ?_
    refine lv_icmp_ne (tgt := 30) hx hb dX0_write_24 (by decide) (fun c_4 => ?_) (fun c_4 => ?_)
    · rw [if_neg c_4] at hf
      refine lv_aload_n hx hb dX0_write_30 rfl (lv_at hl 0 rfl) ?_
      refine cg (v := .ref (ad 14)) X Y 14 (by decide) q172 rfl rfl dX0_write_31 ?_
      refine lv_aload_n hx hb dX0_write_34 rfl (lv_at hl 0 rfl) ?_
      refine lv_dup hx hb dX0_write_35 rfl ?_
      refine cg (v := .int (G 0 15)) X Y 15 (by decide) q174 rfl rfl dX0_write_36 ?_
      refine lv_dup_x1 hx hb dX0_write_39 rfl rfl ?_
      refine lv_iconst (v := (1 : Int32)) hx hb dX0_write_40 (by decide) ?_
      refine lv_iadd hx hb dX0_write_41 ?_
      obtain ⟨G_5, eG_5, hf⟩ := nm_s hf
      refine cp X Y 15 (by decide) q174 ⟨rfl, rfl⟩ rfl cz0_15 eG_5 dX0_write_42 (fun H locs Y => ?_)
      refine lv_iload_n hx hb dX0_write_45 rfl (lv_at hl 1 rfl) ?_
      refine lv_i2b (v := (a1).toInt8.toInt32) hx hb dX0_write_46 rfl ?_
      obtain ⟨b_6, hf⟩ := gd_s hf
      obtain ⟨G_7, eG_7, hf⟩ := nm_s hf
      refine csB X Y b_6 eG_7 dX0_write_47 (fun H locs Y => ?_)
      refine lv_aload_n hx hb dX0_write_48 rfl (lv_at hl 0 rfl) ?_
      refine cg (v := .int (G_7 0 15)) X Y 15 (by decide) q174 rfl rfl dX0_write_49 ?_
      cases hf
      exact c_iret X hZ Y dX0_write_52
    · rw [if_pos c_4] at hf
      refine lv_bipush (v := (-5 : Int32)) hx hb dX0_write_27 (by decide) ?_
      cases hf
      exact c_iret X hZ Y dX0_write_29
  · rw [if_pos c_3] at hf
    refine lv_bipush (v := (-3 : Int32)) hx hb dX0_write_12 (by decide) ?_
    cases hf
    exact c_iret X hZ Y dX0_write_14

def fX0_erase (N : Nat) (G : GS) : Option (Int32 × GS) :=
  nm ((G 0 15) : Int32) fun x1_1 =>
  nm (gu G 0 15 (0 : Int32) : GS) fun G_2 =>
  some (x1_1, G_2)
theorem ydX0_erase : yX0_erase.cls = RX0 ∧ yX0_erase.cls ≠ "java/lang/invoke/MethodHandle" ∧ yX0_erase.cls ≠ "java/lang/invoke/VarHandle" ∧ (parseMethodDescriptor yX0_erase.desc).map (fun d => d.parameters.length) = some 0 := by decide +kernel
set_option maxHeartbeats 4000000 in
theorem tX0_erase (l : Launch) (N : Nat) (G : GS) (r : Int32) (G' : GS) (hf : fX0_erase N G = some (r, G')) : cMet l yX0_erase cX0_erase 2 (some .int) (cR 0 0 0) [] G (some (.int r)) G' true := by
  unfold fX0_erase at hf
  refine cMet_of (by decide +kernel) rfl (Nat.le_of_ble_eq_true rfl) (fun {p e s m args below meth c ls D cA h ad A Z} X Y hl => ?_)
  have hx := X.1.1.1
  have hb := X.1.1.2.1
  have hZ : true = true → Z = Z := fun _ => rfl
  have hl : lv_has ls 2 [(0, .ref h)] := hl
  refine lv_aload_n hx hb dX0_erase_0 rfl (lv_at hl 0 rfl) ?_
  refine cg (v := .int (G 0 15)) X Y 15 (by decide) q174 rfl rfl dX0_erase_1 ?_
  obtain ⟨x1_1, ex1_1, hf⟩ := nm_s hf
  refine lv_topE ex1_1 ?_
  refine lv_istore_n (lv' := [(1, .int x1_1), (0, .ref h)]) hx hb dX0_erase_4 rfl hl (by decide) rfl (fun ls hl => ?_)
  refine lv_aload_n hx hb dX0_erase_5 rfl (lv_at hl 1 rfl) ?_
  refine lv_iconst (v := (0 : Int32)) hx hb dX0_erase_6 (by decide) ?_
  obtain ⟨G_2, eG_2, hf⟩ := nm_s hf
  refine cp X Y 15 (by decide) q174 ⟨rfl, rfl⟩ rfl cz0_15 eG_2 dX0_erase_7 (fun H locs Y => ?_)
  refine lv_iload_n hx hb dX0_erase_10 rfl (lv_at hl 0 rfl) ?_
  cases hf
  exact c_iret X hZ Y dX0_erase_11

def fX0_seatNow_L2 (N : Nat) (G : GS) (a1 : Int32) : Nat → Int32 → Option (Int32 ⊕ Unit)
  | 0, _ => none
  | n_ + 1, x2_1 =>
    if (G 0 1) ≤ x2_1 then (
     some (.inr ())
    ) else (
     gd (inb x2_1 8) <|
     nm (G 22 (x2_1).toNatClampNeg : Int32) fun v_4 =>
     if v_4 = a1 then (
      some (.inl x2_1)
     ) else (
      nm ((x2_1 + (1 : Int32)) : Int32) fun x2_6 =>
      fX0_seatNow_L2 N G a1 n_ x2_6
     )
    )
def fX0_seatNow (N : Nat) (G : GS) (a1 : Int32) : Option Int32 :=
  bdR0 (fX0_seatNow_L2 N G a1 N (0 : Int32)) (fun a_ => some a_) <|
  some (-1 : Int32)
theorem ydX0_seatNow : yX0_seatNow.cls = RX0 ∧ yX0_seatNow.cls ≠ "java/lang/invoke/MethodHandle" ∧ yX0_seatNow.cls ≠ "java/lang/invoke/VarHandle" ∧ (parseMethodDescriptor yX0_seatNow.desc).map (fun d => d.parameters.length) = some 1 := by decide +kernel
set_option maxHeartbeats 4000000 in
theorem tX0_seatNow (l : Launch) (N : Nat) (G : GS) (a1 : Int32) (r : Int32) (hf : fX0_seatNow N G a1 = some r) : cMet l yX0_seatNow cX0_seatNow 3 (some .int) (cR 0 0 0) [.int a1] G (some (.int r)) G true := by
  unfold fX0_seatNow at hf
  refine cMet_of (by decide +kernel) rfl (Nat.le_of_ble_eq_true rfl) (fun {p e s m args below meth c ls D cA h ad A Z} X Y hl => ?_)
  have hx := X.1.1.1
  have hb := X.1.1.2.1
  have hZ : true = true → Z = Z := fun _ => rfl
  have hl : lv_has ls 3 [(0, .ref h), (1, .int a1)] := hl
  refine lv_iconst (v := (0 : Int32)) hx hb dX0_seatNow_0 (by decide) ?_
  refine lv_istore_n (lv' := [(2, .int (0 : Int32)), (0, .ref h), (1, .int a1)]) hx hb dX0_seatNow_1 rfl hl (by decide) rfl (fun ls hl => ?_)
  obtain ⟨z_7, hL, hzl_7, hzr_7⟩ := bdR0_s hf
  have E2_7 : z_7 = .inr () → ∀ (H : Heap) (locs : List Loc), CY D cA A s h ad G Z H locs → ∀ ls : Array Slot, lv_has ls 3 [] → W p l e (cR 0 0 0) s m args below meth c H locs 0 0 (MQ below (cQ D cA h ad A Z true (some (.int r)) G) args s 0 0 A) (F0 m 31 ls []) := by
    intro  hz
    have hf := hzr_7 hz
    intro H locs Y ls hl
    refine lv_iconst (v := (-1 : Int32)) hx hb dX0_seatNow_31 (by decide) ?_
    cases hf
    exact c_iret X hZ Y dX0_seatNow_32
  clear hf
  have L2_7 : ∀ (n_ : Nat) (x2_1 : Int32), fX0_seatNow_L2 N G a1 n_ x2_1 = some z_7 → ∀ (H : Heap) (locs : List Loc), CY D cA A s h ad G Z H locs → ∀ ls : Array Slot, lv_has ls 3 [(0, .ref h), (1, .int a1), (2, .int x2_1)] → W p l e (cR 0 0 0) s m args below meth c H locs 0 0 (MQ below (cQ D cA h ad A Z true (some (.int r)) G) args s 0 0 A) (F0 m 2 ls []) := by
    clear hL
    intro n_
    induction n_ with
    | zero =>
      intro x2_1 hf
      rw [fX0_seatNow_L2.eq_1] at hf
      cases hf
    | succ n_ ih =>
      intro x2_1 hf
      intro H locs Y ls hl
      rw [fX0_seatNow_L2.eq_2] at hf
      refine lv_iload_n hx hb dX0_seatNow_2 rfl (lv_at hl 2 rfl) ?_
      refine lv_aload_n hx hb dX0_seatNow_3 rfl (lv_at hl 0 rfl) ?_
      refine cg (v := .int (G 0 1)) X Y 1 (by decide) q157 rfl rfl dX0_seatNow_4 ?_
      refine lv_icmp_ge (tgt := 31) hx hb dX0_seatNow_7 (by decide) (fun c_2 => ?_) (fun c_2 => ?_)
      · rw [if_pos c_2] at hf
        cases hf
        exact E2_7 rfl _ _ Y _ (lv_sub hl [] rfl)
      · rw [if_neg c_2] at hf
        refine lv_aload_n hx hb dX0_seatNow_10 rfl (lv_at hl 0 rfl) ?_
        refine cg (v := .ref (ad 8)) X Y 8 (by decide) q165 rfl rfl dX0_seatNow_11 ?_
        refine cgn (v := .ref (ad 22)) X Y 2 (by decide) q123 rfl rfl dX0_seatNow_14 ?_
        refine lv_iload_n hx hb dX0_seatNow_17 rfl (lv_at hl 2 rfl) ?_
        obtain ⟨b_3, hf⟩ := gd_s hf
        obtain ⟨v_4, ev_4, hf⟩ := nm_s hf
        refine ca (n := 8) X Y 22 7 rfl b_3 ev_4 dX0_seatNow_18 ?_
        refine lv_iload_n hx hb dX0_seatNow_19 rfl (lv_at hl 1 rfl) ?_
        refine lv_icmp_ne (tgt := 25) hx hb dX0_seatNow_20 (by decide) (fun c_5 => ?_) (fun c_5 => ?_)
        · rw [if_neg c_5] at hf
          obtain ⟨x2_6, ex2_6, hf⟩ := nm_s hf
          refine lv_iinc (v := x2_6) (lv' := [(2, .int x2_6), (0, .ref h), (1, .int a1)]) hx hb dX0_seatNow_25 hl (k := 2) rfl (by rw [ex2_6]; rfl) (by decide) rfl (fun ls hl => ?_)
          refine lv_goto (tgt := 2) hx hb dX0_seatNow_28 (by decide) ?_
          exact ih _ hf _ _ Y _ (lv_sub hl [1, 2, 0] rfl)
        · rw [if_pos c_5] at hf
          refine lv_iload_n hx hb dX0_seatNow_23 rfl (lv_at hl 2 rfl) ?_
          cases hf
          have hf := hzl_7 _ rfl
          cases hf
          exact c_iret X hZ Y dX0_seatNow_24
  exact L2_7 N _ hL _ _ Y _ (lv_sub hl [1, 2, 0] rfl)

def fX0_sitting_L4 (N : Nat) (G : GS) : Nat → Int32 → Int32 → Option Int32
  | 0, _, _ => none
  | n_ + 1, x1_1, x2_2 =>
    if (G 0 1) ≤ x2_2 then (
     some x1_1
    ) else (
     gd (inb x2_2 8) <|
     nm (G 22 (x2_2).toNatClampNeg : Int32) fun v_5 =>
     bd1 (
      if v_5 = (-1 : Int32) then (
       some (0 : Int32)
      ) else (
       gd (inb x2_2 8) <|
       nm (G 22 (x2_2).toNatClampNeg : Int32) fun v_8 =>
       some ((1 : Int32) <<< (v_8 &&& 31))
      )
     ) fun j_9 =>
     nm ((x1_1 ||| j_9) : Int32) fun x1_10 =>
     nm ((x2_2 + (1 : Int32)) : Int32) fun x2_11 =>
     fX0_sitting_L4 N G n_ x1_10 x2_11
    )
def fX0_sitting (N : Nat) (G : GS) : Option Int32 :=
  bd1 (fX0_sitting_L4 N G N (0 : Int32) (0 : Int32)) fun x1_12 =>
  some x1_12
theorem ydX0_sitting : yX0_sitting.cls = RX0 ∧ yX0_sitting.cls ≠ "java/lang/invoke/MethodHandle" ∧ yX0_sitting.cls ≠ "java/lang/invoke/VarHandle" ∧ (parseMethodDescriptor yX0_sitting.desc).map (fun d => d.parameters.length) = some 0 := by decide +kernel
set_option maxHeartbeats 4000000 in
theorem tX0_sitting (l : Launch) (N : Nat) (G : GS) (r : Int32) (hf : fX0_sitting N G = some r) : cMet l yX0_sitting cX0_sitting 3 (some .int) (cR 0 0 0) [] G (some (.int r)) G true := by
  unfold fX0_sitting at hf
  refine cMet_of (by decide +kernel) rfl (Nat.le_of_ble_eq_true rfl) (fun {p e s m args below meth c ls D cA h ad A Z} X Y hl => ?_)
  have hx := X.1.1.1
  have hb := X.1.1.2.1
  have hZ : true = true → Z = Z := fun _ => rfl
  have hl : lv_has ls 3 [(0, .ref h)] := hl
  refine lv_iconst (v := (0 : Int32)) hx hb dX0_sitting_0 (by decide) ?_
  refine lv_istore_n (lv' := [(1, .int (0 : Int32)), (0, .ref h)]) hx hb dX0_sitting_1 rfl hl (by decide) rfl (fun ls hl => ?_)
  refine lv_iconst (v := (0 : Int32)) hx hb dX0_sitting_2 (by decide) ?_
  refine lv_istore_n (lv' := [(2, .int (0 : Int32)), (1, .int (0 : Int32)), (0, .ref h)]) hx hb dX0_sitting_3 rfl hl (by decide) rfl (fun ls hl => ?_)
  obtain ⟨x1_12, hL, hf⟩ := bd1_s hf
  have E4_13 : ∀ (H : Heap) (locs : List Loc), CY D cA A s h ad G Z H locs → ∀ ls : Array Slot, lv_has ls 3 [(1, .int x1_12)] → W p l e (cR 0 0 0) s m args below meth c H locs 0 0 (MQ below (cQ D cA h ad A Z true (some (.int r)) G) args s 0 0 A) (F0 m 49 ls []) := by
    clear hL
    intro H locs Y ls hl
    refine lv_iload_n hx hb dX0_sitting_49 rfl (lv_at hl 0 rfl) ?_
    cases hf
    exact c_iret X hZ Y dX0_sitting_50
  clear hf
  have L4_13 : ∀ (n_ : Nat) (x1_1 : Int32) (x2_2 : Int32), fX0_sitting_L4 N G n_ x1_1 x2_2 = some x1_12 → ∀ (H : Heap) (locs : List Loc), CY D cA A s h ad G Z H locs → ∀ ls : Array Slot, lv_has ls 3 [(0, .ref h), (1, .int x1_1), (2, .int x2_2)] → W p l e (cR 0 0 0) s m args below meth c H locs 0 0 (MQ below (cQ D cA h ad A Z true (some (.int r)) G) args s 0 0 A) (F0 m 4 ls []) := by
    clear hL
    intro n_
    induction n_ with
    | zero =>
      intro x1_1 x2_2 hf
      rw [fX0_sitting_L4.eq_1] at hf
      cases hf
    | succ n_ ih =>
      intro x1_1 x2_2 hf
      intro H locs Y ls hl
      rw [fX0_sitting_L4.eq_2] at hf
      refine lv_iload_n hx hb dX0_sitting_4 rfl (lv_at hl 2 rfl) ?_
      refine lv_aload_n hx hb dX0_sitting_5 rfl (lv_at hl 0 rfl) ?_
      refine cg (v := .int (G 0 1)) X Y 1 (by decide) q157 rfl rfl dX0_sitting_6 ?_
      refine lv_icmp_ge (tgt := 49) hx hb dX0_sitting_9 (by decide) (fun c_3 => ?_) (fun c_3 => ?_)
      · rw [if_pos c_3] at hf
        cases hf
        exact E4_13 _ _ Y _ (lv_sub hl [1] rfl)
      · rw [if_neg c_3] at hf
        refine lv_iload_n hx hb dX0_sitting_12 rfl (lv_at hl 1 rfl) ?_
        refine lv_aload_n hx hb dX0_sitting_13 rfl (lv_at hl 0 rfl) ?_
        refine cg (v := .ref (ad 8)) X Y 8 (by decide) q165 rfl rfl dX0_sitting_14 ?_
        refine cgn (v := .ref (ad 22)) X Y 2 (by decide) q123 rfl rfl dX0_sitting_17 ?_
        refine lv_iload_n hx hb dX0_sitting_20 rfl (lv_at hl 2 rfl) ?_
        obtain ⟨b_4, hf⟩ := gd_s hf
        obtain ⟨v_5, ev_5, hf⟩ := nm_s hf
        refine ca (n := 8) X Y 22 7 rfl b_4 ev_5 dX0_sitting_21 ?_
        refine lv_iconst (v := (-1 : Int32)) hx hb dX0_sitting_22 (by decide) ?_
        obtain ⟨j_9, hj, hf⟩ := bd1_s hf
        have J41_14 : ∀ (H : Heap) (locs : List Loc), CY D cA A s h ad G Z H locs → ∀ ls : Array Slot, lv_has ls 3 [(0, .ref h), (2, .int x2_2)] → W p l e (cR 0 0 0) s m args below meth c H locs 0 0 (MQ below (cQ D cA h ad A Z true (some (.int r)) G) args s 0 0 A) (F0 m 41 ls [.int j_9, .int x1_1]) := by
          clear hj
          intro H locs Y ls hl
          refine lv_ior hx hb dX0_sitting_41 ?_
          obtain ⟨x1_10, ex1_10, hf⟩ := nm_s hf
          refine lv_topE ex1_10 ?_
          refine lv_istore_n (lv' := [(1, .int x1_10), (0, .ref h), (2, .int x2_2)]) hx hb dX0_sitting_42 rfl hl (by decide) rfl (fun ls hl => ?_)
          obtain ⟨x2_11, ex2_11, hf⟩ := nm_s hf
          refine lv_iinc (v := x2_11) (lv' := [(2, .int x2_11), (1, .int x1_10), (0, .ref h)]) hx hb dX0_sitting_43 hl (k := 2) rfl (by rw [ex2_11]; rfl) (by decide) rfl (fun ls hl => ?_)
          refine lv_goto (tgt := 4) hx hb dX0_sitting_46 (by decide) ?_
          exact ih _ _ hf _ _ Y _ (lv_sub hl [2, 1, 0] rfl)
        replace hf := hj
        clear hj
        refine lv_icmp_ne (tgt := 30) hx hb dX0_sitting_23 (by decide) (fun c_6 => ?_) (fun c_6 => ?_)
        · rw [if_neg c_6] at hf
          refine lv_iconst (v := (1 : Int32)) hx hb dX0_sitting_30 (by decide) ?_
          refine lv_aload_n hx hb dX0_sitting_31 rfl (lv_at hl 0 rfl) ?_
          refine cg (v := .ref (ad 8)) X Y 8 (by decide) q165 rfl rfl dX0_sitting_32 ?_
          refine cgn (v := .ref (ad 22)) X Y 2 (by decide) q123 rfl rfl dX0_sitting_35 ?_
          refine lv_iload_n hx hb dX0_sitting_38 rfl (lv_at hl 2 rfl) ?_
          obtain ⟨b_7, hf⟩ := gd_s hf
          obtain ⟨v_8, ev_8, hf⟩ := nm_s hf
          refine ca (n := 8) X Y 22 7 rfl b_7 ev_8 dX0_sitting_39 ?_
          refine lv_ishl hx hb dX0_sitting_40 ?_
          cases hf
          exact J41_14 _ _ Y _ (lv_sub hl [0, 2] rfl)
        · rw [if_pos c_6] at hf
          refine lv_iconst (v := (0 : Int32)) hx hb dX0_sitting_26 (by decide) ?_
          refine lv_goto (tgt := 41) hx hb dX0_sitting_27 (by decide) ?_
          cases hf
          exact J41_14 _ _ Y _ (lv_sub hl [0, 2] rfl)
  exact L4_13 N _ _ hL _ _ Y _ (lv_sub hl [2, 1, 0] rfl)

def fX0_fits (N : Nat) (G : GS) (a1 : Int32) (a2 : Int32) : Option Int32 :=
  gd (inb a1 6) <|
  gd (¬ G 32 (a1).toNatClampNeg = -1) <|
  gd (inb a2 8) <|
  gd (¬ G 30 (a2).toNatClampNeg = -1) <|
  gd (inb a1 6) <|
  nm (G 20 (a1).toNatClampNeg : Int32) fun v_6 =>
  gd (zb (fitV (G 32 (a1).toNatClampNeg) (G 34 (a1).toNatClampNeg) (G 30 (a2).toNatClampNeg) (G 31 (a2).toNatClampNeg) v_6)) <|
  some (fitV (G 32 (a1).toNatClampNeg) (G 34 (a1).toNatClampNeg) (G 30 (a2).toNatClampNeg) (G 31 (a2).toNatClampNeg) v_6)
theorem ydX0_fits : yX0_fits.cls = RX0 ∧ yX0_fits.cls ≠ "java/lang/invoke/MethodHandle" ∧ yX0_fits.cls ≠ "java/lang/invoke/VarHandle" ∧ (parseMethodDescriptor yX0_fits.desc).map (fun d => d.parameters.length) = some 2 := by decide +kernel
set_option maxHeartbeats 4000000 in
theorem tX0_fits (l : Launch) (N : Nat) (G : GS) (a1 : Int32) (a2 : Int32) (r : Int32) (hf : fX0_fits N G a1 a2 = some r) : cMet l yX0_fits cX0_fits 3 (some .boolean) (cR 5 0 0) [.int a1, .int a2] G (some (.int r)) G true := by
  unfold fX0_fits at hf
  refine cMet_of (by decide +kernel) rfl (Nat.le_of_ble_eq_true rfl) (fun {p e s m args below meth c ls D cA h ad A Z} X Y hl => ?_)
  have hx := X.1.1.1
  have hb := X.1.1.2.1
  have hZ : true = true → Z = Z := fun _ => rfl
  have hl : lv_has ls 3 [(0, .ref h), (1, .int a1), (2, .int a2)] := hl
  refine lv_aload_n hx hb dX0_fits_0 rfl (lv_at hl 0 rfl) ?_
  refine lv_iload_n hx hb dX0_fits_1 rfl (lv_at hl 1 rfl) ?_
  obtain ⟨b_1, hf⟩ := gd_s hf
  obtain ⟨b_2, hf⟩ := gd_s hf
  refine c_one X Y b_1 b_2 q150 (by decide) hl.1 (Nat.le_of_ble_eq_true rfl) (by decide) dX0_fits_2 (fun H locs Y => ?_)
  refine lv_aload_n hx hb dX0_fits_5 rfl (lv_at hl 0 rfl) ?_
  refine lv_iload_n hx hb dX0_fits_6 rfl (lv_at hl 2 rfl) ?_
  obtain ⟨b_3, hf⟩ := gd_s hf
  obtain ⟨b_4, hf⟩ := gd_s hf
  refine c_name X Y b_3 b_4 q761 (by decide) hl.1 (Nat.le_of_ble_eq_true rfl) (by decide) dX0_fits_7 (fun H locs Y => ?_)
  refine lv_aload_n hx hb dX0_fits_10 rfl (lv_at hl 0 rfl) ?_
  refine cg (v := .ref (ad 8)) X Y 8 (by decide) q165 rfl rfl dX0_fits_11 ?_
  refine cgn (v := .ref (ad 20)) X Y 0 (by decide) q119 rfl rfl dX0_fits_14 ?_
  refine lv_iload_n hx hb dX0_fits_17 rfl (lv_at hl 1 rfl) ?_
  obtain ⟨b_5, hf⟩ := gd_s hf
  obtain ⟨v_6, ev_6, hf⟩ := nm_s hf
  refine ca (n := 6) X Y 20 5 rfl b_5 ev_6 dX0_fits_18 ?_
  refine c_fitsOn (v := (fitV (G 32 (a1).toNatClampNeg) (G 34 (a1).toNatClampNeg) (G 30 (a2).toNatClampNeg) (G 31 (a2).toNatClampNeg) v_6)) X Y (ix_lt b_1) b_2 (ix_lt b_3) b_4 rfl q847 (by decide) hl.1 (Nat.le_of_ble_eq_true rfl) (by decide) dX0_fits_19 (fun H locs Y => ?_)
  obtain ⟨b_7, hf⟩ := gd_s hf
  cases hf
  exact c_zret X hZ Y b_7 dX0_fits_22

def fX0_isWrong (N : Nat) (G : GS) (a1 : Int32) (a2 : Int32) : Option Int32 :=
  bd1 (fX0_fits N G a1 a2) fun r_1 =>
  if r_1 = (0 : Int32) then (
   some (1 : Int32)
  ) else (
   bd1 (fX0_perilNow N G) fun r_4 =>
   if r_4 = a2 then (
    if (G 0 7) = a1 then (
     some (0 : Int32)
    ) else (
     gd (inb a1 6) <|
     gd (¬ G 32 (a1).toNatClampNeg = -1) <|
     if (sparedV (G 32 (a1).toNatClampNeg)) = (0 : Int32) then (
      some (1 : Int32)
     ) else (
      some (0 : Int32)
     )
    )
   ) else (
    some (0 : Int32)
   )
  )
theorem ydX0_isWrong : yX0_isWrong.cls = RX0 ∧ yX0_isWrong.cls ≠ "java/lang/invoke/MethodHandle" ∧ yX0_isWrong.cls ≠ "java/lang/invoke/VarHandle" ∧ (parseMethodDescriptor yX0_isWrong.desc).map (fun d => d.parameters.length) = some 2 := by decide +kernel
set_option maxHeartbeats 4000000 in
theorem tX0_isWrong (l : Launch) (N : Nat) (G : GS) (a1 : Int32) (a2 : Int32) (r : Int32) (hf : fX0_isWrong N G a1 a2 = some r) : cMet l yX0_isWrong cX0_isWrong 3 (some .boolean) (cR 6 0 0) [.int a1, .int a2] G (some (.int r)) G true := by
  unfold fX0_isWrong at hf
  refine cMet_of (by decide +kernel) rfl (Nat.le_of_ble_eq_true rfl) (fun {p e s m args below meth c ls D cA h ad A Z} X Y hl => ?_)
  have hx := X.1.1.1
  have hb := X.1.1.2.1
  have hZ : true = true → Z = Z := fun _ => rfl
  have hl : lv_has ls 3 [(0, .ref h), (1, .int a1), (2, .int a2)] := hl
  refine lv_aload_n hx hb dX0_isWrong_0 rfl (lv_at hl 0 rfl) ?_
  refine lv_iload_n hx hb dX0_isWrong_1 rfl (lv_at hl 1 rfl) ?_
  refine lv_iload_n hx hb dX0_isWrong_2 rfl (lv_at hl 2 rfl) ?_
  obtain ⟨r_1, hq_2, hf⟩ := bd1_s hf
  refine ccI (av := [.int a1, .int a2]) (rest := []) 2 X Y (tX0_fits l N G a1 a2 r_1 hq_2) (lw_V q946 q948 qs21 q67 q949) ydX0_fits ⟨by decide, by decide⟩ rfl hl.1 rfl (Nat.le_of_ble_eq_true rfl) (by decide) dX0_isWrong_3 (fun H locs Y => ?_)
  refine lv_if_eq (tgt := 36) hx hb dX0_isWrong_6 (by decide) (fun c_3 => ?_) (fun c_3 => ?_)
  · rw [if_pos c_3] at hf
    refine lv_iconst (v := (1 : Int32)) hx hb dX0_isWrong_36 (by decide) ?_
    refine lv_goto (tgt := 41) hx hb dX0_isWrong_37 (by decide) ?_
    cases hf
    exact c_zret X hZ Y (by decide) dX0_isWrong_41
  · rw [if_neg c_3] at hf
    refine lv_aload_n hx hb dX0_isWrong_9 rfl (lv_at hl 0 rfl) ?_
    obtain ⟨r_4, hq_5, hf⟩ := bd1_s hf
    refine ccI (av := []) (rest := []) 0 X Y (tX0_perilNow l N G r_4 hq_5) (lw_V q786 q788 qs14 q67 q789) ydX0_perilNow ⟨by decide, by decide⟩ rfl hl.1 rfl (Nat.le_of_ble_eq_true rfl) (by decide) dX0_isWrong_10 (fun H locs Y => ?_)
    refine lv_iload_n hx hb dX0_isWrong_13 rfl (lv_at hl 2 rfl) ?_
    refine lv_icmp_ne (tgt := 40) hx hb dX0_isWrong_14 (by decide) (fun c_6 => ?_) (fun c_6 => ?_)
    · rw [if_neg c_6] at hf
      refine lv_iconst (v := (0 : Int32)) hx hb dX0_isWrong_40 (by decide) ?_
      cases hf
      exact c_zret X hZ Y (by decide) dX0_isWrong_41
    · rw [if_pos c_6] at hf
      refine lv_aload_n hx hb dX0_isWrong_17 rfl (lv_at hl 0 rfl) ?_
      refine cg (v := .int (G 0 7)) X Y 7 (by decide) q164 rfl rfl dX0_isWrong_18 ?_
      refine lv_iload_n hx hb dX0_isWrong_21 rfl (lv_at hl 1 rfl) ?_
      refine lv_icmp_eq (tgt := 40) hx hb dX0_isWrong_22 (by decide) (fun c_7 => ?_) (fun c_7 => ?_)
      · rw [if_pos c_7] at hf
        refine lv_iconst (v := (0 : Int32)) hx hb dX0_isWrong_40 (by decide) ?_
        cases hf
        exact c_zret X hZ Y (by decide) dX0_isWrong_41
      · rw [if_neg c_7] at hf
        refine lv_aload_n hx hb dX0_isWrong_25 rfl (lv_at hl 0 rfl) ?_
        refine lv_iload_n hx hb dX0_isWrong_26 rfl (lv_at hl 1 rfl) ?_
        obtain ⟨b_8, hf⟩ := gd_s hf
        obtain ⟨b_9, hf⟩ := gd_s hf
        refine c_one X Y b_8 b_9 q150 (by decide) hl.1 (Nat.le_of_ble_eq_true rfl) (by decide) dX0_isWrong_27 (fun H locs Y => ?_)
        refine c_spared (v := (sparedV (G 32 (a1).toNatClampNeg))) X Y (ix_lt b_8) b_9 rfl q950 (by decide) hl.1 (Nat.le_of_ble_eq_true rfl) (by decide) dX0_isWrong_30 (fun H locs Y => ?_)
        refine lv_if_ne (tgt := 40) hx hb dX0_isWrong_33 (by decide) (fun c_10 => ?_) (fun c_10 => ?_)
        · rw [if_neg c_10] at hf
          refine lv_iconst (v := (0 : Int32)) hx hb dX0_isWrong_40 (by decide) ?_
          cases hf
          exact c_zret X hZ Y (by decide) dX0_isWrong_41
        · rw [if_pos c_10] at hf
          refine lv_iconst (v := (1 : Int32)) hx hb dX0_isWrong_36 (by decide) ?_
          refine lv_goto (tgt := 41) hx hb dX0_isWrong_37 (by decide) ?_
          cases hf
          exact c_zret X hZ Y (by decide) dX0_isWrong_41

def fX0_wrongNow_L4 (N : Nat) (G : GS) : Nat → Int32 → Int32 → Option Int32
  | 0, _, _ => none
  | n_ + 1, x1_1, x2_2 =>
    if (G 0 1) ≤ x2_2 then (
     some x1_1
    ) else (
     gd (inb x2_2 8) <|
     nm (G 22 (x2_2).toNatClampNeg : Int32) fun v_5 =>
     bd1 (
      if v_5 = (-1 : Int32) then (
       some (0 : Int32)
      ) else (
       gd (inb x2_2 8) <|
       nm (G 22 (x2_2).toNatClampNeg : Int32) fun v_8 =>
       bd1 (fX0_isWrong N G v_8 x2_2) fun r_9 =>
       if r_9 = (0 : Int32) then (
        some (0 : Int32)
       ) else (
        gd (inb x2_2 8) <|
        nm (G 22 (x2_2).toNatClampNeg : Int32) fun v_13 =>
        some ((1 : Int32) <<< (v_13 &&& 31))
       )
      )
     ) fun j_14 =>
     nm ((x1_1 ||| j_14) : Int32) fun x1_15 =>
     nm ((x2_2 + (1 : Int32)) : Int32) fun x2_16 =>
     fX0_wrongNow_L4 N G n_ x1_15 x2_16
    )
def fX0_wrongNow (N : Nat) (G : GS) : Option Int32 :=
  bd1 (fX0_wrongNow_L4 N G N (0 : Int32) (0 : Int32)) fun x1_17 =>
  some x1_17
theorem ydX0_wrongNow : yX0_wrongNow.cls = RX0 ∧ yX0_wrongNow.cls ≠ "java/lang/invoke/MethodHandle" ∧ yX0_wrongNow.cls ≠ "java/lang/invoke/VarHandle" ∧ (parseMethodDescriptor yX0_wrongNow.desc).map (fun d => d.parameters.length) = some 0 := by decide +kernel
set_option maxHeartbeats 4000000 in
theorem tX0_wrongNow (l : Launch) (N : Nat) (G : GS) (r : Int32) (hf : fX0_wrongNow N G = some r) : cMet l yX0_wrongNow cX0_wrongNow 3 (some .int) (cR 7 0 0) [] G (some (.int r)) G true := by
  unfold fX0_wrongNow at hf
  refine cMet_of (by decide +kernel) rfl (Nat.le_of_ble_eq_true rfl) (fun {p e s m args below meth c ls D cA h ad A Z} X Y hl => ?_)
  have hx := X.1.1.1
  have hb := X.1.1.2.1
  have hZ : true = true → Z = Z := fun _ => rfl
  have hl : lv_has ls 3 [(0, .ref h)] := hl
  refine lv_iconst (v := (0 : Int32)) hx hb dX0_wrongNow_0 (by decide) ?_
  refine lv_istore_n (lv' := [(1, .int (0 : Int32)), (0, .ref h)]) hx hb dX0_wrongNow_1 rfl hl (by decide) rfl (fun ls hl => ?_)
  refine lv_iconst (v := (0 : Int32)) hx hb dX0_wrongNow_2 (by decide) ?_
  refine lv_istore_n (lv' := [(2, .int (0 : Int32)), (1, .int (0 : Int32)), (0, .ref h)]) hx hb dX0_wrongNow_3 rfl hl (by decide) rfl (fun ls hl => ?_)
  obtain ⟨x1_17, hL, hf⟩ := bd1_s hf
  have E4_18 : ∀ (H : Heap) (locs : List Loc), CY D cA A s h ad G Z H locs → ∀ ls : Array Slot, lv_has ls 3 [(1, .int x1_17)] → W p l e (cR 7 0 0) s m args below meth c H locs 0 0 (MQ below (cQ D cA h ad A Z true (some (.int r)) G) args s 0 0 A) (F0 m 66 ls []) := by
    clear hL
    intro H locs Y ls hl
    refine lv_iload_n hx hb dX0_wrongNow_66 rfl (lv_at hl 0 rfl) ?_
    cases hf
    exact c_iret X hZ Y dX0_wrongNow_67
  clear hf
  have L4_18 : ∀ (n_ : Nat) (x1_1 : Int32) (x2_2 : Int32), fX0_wrongNow_L4 N G n_ x1_1 x2_2 = some x1_17 → ∀ (H : Heap) (locs : List Loc), CY D cA A s h ad G Z H locs → ∀ ls : Array Slot, lv_has ls 3 [(0, .ref h), (1, .int x1_1), (2, .int x2_2)] → W p l e (cR 7 0 0) s m args below meth c H locs 0 0 (MQ below (cQ D cA h ad A Z true (some (.int r)) G) args s 0 0 A) (F0 m 4 ls []) := by
    clear hL
    intro n_
    induction n_ with
    | zero =>
      intro x1_1 x2_2 hf
      rw [fX0_wrongNow_L4.eq_1] at hf
      cases hf
    | succ n_ ih =>
      intro x1_1 x2_2 hf
      intro H locs Y ls hl
      rw [fX0_wrongNow_L4.eq_2] at hf
      refine lv_iload_n hx hb dX0_wrongNow_4 rfl (lv_at hl 2 rfl) ?_
      refine lv_aload_n hx hb dX0_wrongNow_5 rfl (lv_at hl 0 rfl) ?_
      refine cg (v := .int (G 0 1)) X Y 1 (by decide) q157 rfl rfl dX0_wrongNow_6 ?_
      refine lv_icmp_ge (tgt := 66) hx hb dX0_wrongNow_9 (by decide) (fun c_3 => ?_) (fun c_3 => ?_)
      · rw [if_pos c_3] at hf
        cases hf
        exact E4_18 _ _ Y _ (lv_sub hl [1] rfl)
      · rw [if_neg c_3] at hf
        refine lv_iload_n hx hb dX0_wrongNow_12 rfl (lv_at hl 1 rfl) ?_
        refine lv_aload_n hx hb dX0_wrongNow_13 rfl (lv_at hl 0 rfl) ?_
        refine cg (v := .ref (ad 8)) X Y 8 (by decide) q165 rfl rfl dX0_wrongNow_14 ?_
        refine cgn (v := .ref (ad 22)) X Y 2 (by decide) q123 rfl rfl dX0_wrongNow_17 ?_
        refine lv_iload_n hx hb dX0_wrongNow_20 rfl (lv_at hl 2 rfl) ?_
        obtain ⟨b_4, hf⟩ := gd_s hf
        obtain ⟨v_5, ev_5, hf⟩ := nm_s hf
        refine ca (n := 8) X Y 22 7 rfl b_4 ev_5 dX0_wrongNow_21 ?_
        refine lv_iconst (v := (-1 : Int32)) hx hb dX0_wrongNow_22 (by decide) ?_
        obtain ⟨j_14, hj, hf⟩ := bd1_s hf
        have J58_19 : ∀ (H : Heap) (locs : List Loc), CY D cA A s h ad G Z H locs → ∀ ls : Array Slot, lv_has ls 3 [(0, .ref h), (2, .int x2_2)] → W p l e (cR 7 0 0) s m args below meth c H locs 0 0 (MQ below (cQ D cA h ad A Z true (some (.int r)) G) args s 0 0 A) (F0 m 58 ls [.int j_14, .int x1_1]) := by
          clear hj
          intro H locs Y ls hl
          refine lv_ior hx hb dX0_wrongNow_58 ?_
          obtain ⟨x1_15, ex1_15, hf⟩ := nm_s hf
          refine lv_topE ex1_15 ?_
          refine lv_istore_n (lv' := [(1, .int x1_15), (0, .ref h), (2, .int x2_2)]) hx hb dX0_wrongNow_59 rfl hl (by decide) rfl (fun ls hl => ?_)
          obtain ⟨x2_16, ex2_16, hf⟩ := nm_s hf
          refine lv_iinc (v := x2_16) (lv' := [(2, .int x2_16), (1, .int x1_15), (0, .ref h)]) hx hb dX0_wrongNow_60 hl (k := 2) rfl (by rw [ex2_16]; rfl) (by decide) rfl (fun ls hl => ?_)
          refine lv_goto (tgt := 4) hx hb dX0_wrongNow_63 (by decide) ?_
          exact ih _ _ hf _ _ Y _ (lv_sub hl [2, 1, 0] rfl)
        replace hf := hj
        clear hj
        refine lv_icmp_eq (tgt := 57) hx hb dX0_wrongNow_23 (by decide) (fun c_6 => ?_) (fun c_6 => ?_)
        · rw [if_pos c_6] at hf
          refine lv_iconst (v := (0 : Int32)) hx hb dX0_wrongNow_57 (by decide) ?_
          cases hf
          exact J58_19 _ _ Y _ (lv_sub hl [0, 2] rfl)
        · rw [if_neg c_6] at hf
          refine lv_aload_n hx hb dX0_wrongNow_26 rfl (lv_at hl 0 rfl) ?_
          refine lv_aload_n hx hb dX0_wrongNow_27 rfl (lv_at hl 0 rfl) ?_
          refine cg (v := .ref (ad 8)) X Y 8 (by decide) q165 rfl rfl dX0_wrongNow_28 ?_
          refine cgn (v := .ref (ad 22)) X Y 2 (by decide) q123 rfl rfl dX0_wrongNow_31 ?_
          refine lv_iload_n hx hb dX0_wrongNow_34 rfl (lv_at hl 2 rfl) ?_
          obtain ⟨b_7, hf⟩ := gd_s hf
          obtain ⟨v_8, ev_8, hf⟩ := nm_s hf
          refine ca (n := 8) X Y 22 7 rfl b_7 ev_8 dX0_wrongNow_35 ?_
          refine lv_iload_n hx hb dX0_wrongNow_36 rfl (lv_at hl 2 rfl) ?_
          obtain ⟨r_9, hq_10, hf⟩ := bd1_s hf
          refine ccI (av := [.int v_8, .int x2_2]) (rest := [.int x1_1]) 2 X Y (tX0_isWrong l N G v_8 x2_2 r_9 hq_10) (lw_V q942 q944 qs20 q67 q945) ydX0_isWrong ⟨by decide, by decide⟩ rfl hl.1 rfl (Nat.le_of_ble_eq_true rfl) (by decide) dX0_wrongNow_37 (fun H locs Y => ?_)
          refine lv_if_eq (tgt := 57) hx hb dX0_wrongNow_40 (by decide) (fun c_11 => ?_) (fun c_11 => ?_)
          · rw [if_pos c_11] at hf
            refine lv_iconst (v := (0 : Int32)) hx hb dX0_wrongNow_57 (by decide) ?_
            cases hf
            exact J58_19 _ _ Y _ (lv_sub hl [0, 2] rfl)
          · rw [if_neg c_11] at hf
            refine lv_iconst (v := (1 : Int32)) hx hb dX0_wrongNow_43 (by decide) ?_
            refine lv_aload_n hx hb dX0_wrongNow_44 rfl (lv_at hl 0 rfl) ?_
            refine cg (v := .ref (ad 8)) X Y 8 (by decide) q165 rfl rfl dX0_wrongNow_45 ?_
            refine cgn (v := .ref (ad 22)) X Y 2 (by decide) q123 rfl rfl dX0_wrongNow_48 ?_
            refine lv_iload_n hx hb dX0_wrongNow_51 rfl (lv_at hl 2 rfl) ?_
            obtain ⟨b_12, hf⟩ := gd_s hf
            obtain ⟨v_13, ev_13, hf⟩ := nm_s hf
            refine ca (n := 8) X Y 22 7 rfl b_12 ev_13 dX0_wrongNow_52 ?_
            refine lv_ishl hx hb dX0_wrongNow_53 ?_
            refine lv_goto (tgt := 58) hx hb dX0_wrongNow_54 (by decide) ?_
            cases hf
            exact J58_19 _ _ Y _ (lv_sub hl [0, 2] rfl)
  exact L4_18 N _ _ hL _ _ Y _ (lv_sub hl [2, 1, 0] rfl)

def fX0_isBeset (N : Nat) (G : GS) (a1 : Int32) : Option Int32 :=
  gd (inb a1 8) <|
  nm (G 22 (a1).toNatClampNeg : Int32) fun v_2 =>
  bd1 (fX0_behind N G a1) fun r_3 =>
  gd (inb r_3 8) <|
  nm (G 22 (r_3).toNatClampNeg : Int32) fun v_6 =>
  bd1 (fX0_areEnemies N G v_2 v_6) fun r_7 =>
  if r_7 = (0 : Int32) then (
   gd (¬ (G 0 1) = (0 : Int32)) <|
   gd (inb (((a1 + (G 0 1)) - (1 : Int32)) - ((a1 + (G 0 1)) - (1 : Int32)) / (G 0 1) * (G 0 1)) 8) <|
   nm (G 22 ((((a1 + (G 0 1)) - (1 : Int32)) - ((a1 + (G 0 1)) - (1 : Int32)) / (G 0 1) * (G 0 1))).toNatClampNeg : Int32) fun v_12 =>
   bd1 (fX0_areEnemies N G v_2 v_12) fun r_13 =>
   if r_13 = (0 : Int32) then (
    some (0 : Int32)
   ) else (
    some (1 : Int32)
   )
  ) else (
   some (1 : Int32)
  )
theorem ydX0_isBeset : yX0_isBeset.cls = RX0 ∧ yX0_isBeset.cls ≠ "java/lang/invoke/MethodHandle" ∧ yX0_isBeset.cls ≠ "java/lang/invoke/VarHandle" ∧ (parseMethodDescriptor yX0_isBeset.desc).map (fun d => d.parameters.length) = some 1 := by decide +kernel
set_option maxHeartbeats 4000000 in
theorem tX0_isBeset (l : Launch) (N : Nat) (G : GS) (a1 : Int32) (r : Int32) (hf : fX0_isBeset N G a1 = some r) : cMet l yX0_isBeset cX0_isBeset 3 (some .boolean) (cR 2 0 0) [.int a1] G (some (.int r)) G true := by
  unfold fX0_isBeset at hf
  refine cMet_of (by decide +kernel) rfl (Nat.le_of_ble_eq_true rfl) (fun {p e s m args below meth c ls D cA h ad A Z} X Y hl => ?_)
  have hx := X.1.1.1
  have hb := X.1.1.2.1
  have hZ : true = true → Z = Z := fun _ => rfl
  have hl : lv_has ls 3 [(0, .ref h), (1, .int a1)] := hl
  refine lv_aload_n hx hb dX0_isBeset_0 rfl (lv_at hl 0 rfl) ?_
  refine cg (v := .ref (ad 8)) X Y 8 (by decide) q165 rfl rfl dX0_isBeset_1 ?_
  refine cgn (v := .ref (ad 22)) X Y 2 (by decide) q123 rfl rfl dX0_isBeset_4 ?_
  refine lv_iload_n hx hb dX0_isBeset_7 rfl (lv_at hl 1 rfl) ?_
  obtain ⟨b_1, hf⟩ := gd_s hf
  obtain ⟨v_2, ev_2, hf⟩ := nm_s hf
  refine ca (n := 8) X Y 22 7 rfl b_1 ev_2 dX0_isBeset_8 ?_
  refine lv_istore_n (lv' := [(2, .int v_2), (0, .ref h), (1, .int a1)]) hx hb dX0_isBeset_9 rfl hl (by decide) rfl (fun ls hl => ?_)
  refine lv_aload_n hx hb dX0_isBeset_10 rfl (lv_at hl 1 rfl) ?_
  refine lv_iload_n hx hb dX0_isBeset_11 rfl (lv_at hl 0 rfl) ?_
  refine lv_aload_n hx hb dX0_isBeset_12 rfl (lv_at hl 1 rfl) ?_
  refine cg (v := .ref (ad 8)) X Y 8 (by decide) q165 rfl rfl dX0_isBeset_13 ?_
  refine cgn (v := .ref (ad 22)) X Y 2 (by decide) q123 rfl rfl dX0_isBeset_16 ?_
  refine lv_aload_n hx hb dX0_isBeset_19 rfl (lv_at hl 1 rfl) ?_
  refine lv_iload_n hx hb dX0_isBeset_20 rfl (lv_at hl 2 rfl) ?_
  obtain ⟨r_3, hq_4, hf⟩ := bd1_s hf
  refine ccI (av := [.int a1]) (rest := [.ref (ad 22), .int v_2, .ref h]) 1 X Y (tX0_behind l N G a1 r_3 hq_4) (lw_V q968 q970 qs22 q67 q971) ydX0_behind ⟨by decide, by decide⟩ rfl hl.1 rfl (Nat.le_of_ble_eq_true rfl) (by decide) dX0_isBeset_21 (fun H locs Y => ?_)
  obtain ⟨b_5, hf⟩ := gd_s hf
  obtain ⟨v_6, ev_6, hf⟩ := nm_s hf
  refine ca (n := 8) X Y 22 7 rfl b_5 ev_6 dX0_isBeset_24 ?_
  obtain ⟨r_7, hq_8, hf⟩ := bd1_s hf
  refine ccI (av := [.int v_2, .int v_6]) (rest := []) 2 X Y (tX0_areEnemies l N G v_2 v_6 r_7 hq_8) (lw_V q976 q978 qs24 q67 q979) ydX0_areEnemies ⟨by decide, by decide⟩ rfl hl.1 rfl (Nat.le_of_ble_eq_true rfl) (by decide) dX0_isBeset_25 (fun H locs Y => ?_)
  refine lv_if_ne (tgt := 60) hx hb dX0_isBeset_28 (by decide) (fun c_9 => ?_) (fun c_9 => ?_)
  · rw [if_neg c_9] at hf
    refine lv_iconst (v := (1 : Int32)) hx hb dX0_isBeset_60 (by decide) ?_
    refine lv_goto (tgt := 65) hx hb dX0_isBeset_61 (by decide) ?_
    cases hf
    exact c_zret X hZ Y (by decide) dX0_isBeset_65
  · rw [if_pos c_9] at hf
    refine lv_aload_n hx hb dX0_isBeset_31 rfl (lv_at hl 1 rfl) ?_
    refine lv_iload_n hx hb dX0_isBeset_32 rfl (lv_at hl 0 rfl) ?_
    refine lv_aload_n hx hb dX0_isBeset_33 rfl (lv_at hl 1 rfl) ?_
    refine cg (v := .ref (ad 8)) X Y 8 (by decide) q165 rfl rfl dX0_isBeset_34 ?_
    refine cgn (v := .ref (ad 22)) X Y 2 (by decide) q123 rfl rfl dX0_isBeset_37 ?_
    refine lv_iload_n hx hb dX0_isBeset_40 rfl (lv_at hl 2 rfl) ?_
    refine lv_aload_n hx hb dX0_isBeset_41 rfl (lv_at hl 1 rfl) ?_
    refine cg (v := .int (G 0 1)) X Y 1 (by decide) q157 rfl rfl dX0_isBeset_42 ?_
    refine lv_iadd hx hb dX0_isBeset_45 ?_
    refine lv_iconst (v := (1 : Int32)) hx hb dX0_isBeset_46 (by decide) ?_
    refine lv_isub hx hb dX0_isBeset_47 ?_
    refine lv_aload_n hx hb dX0_isBeset_48 rfl (lv_at hl 1 rfl) ?_
    refine cg (v := .int (G 0 1)) X Y 1 (by decide) q157 rfl rfl dX0_isBeset_49 ?_
    obtain ⟨b_10, hf⟩ := gd_s hf
    refine lv_irem hx hb dX0_isBeset_52 b_10 ?_
    obtain ⟨b_11, hf⟩ := gd_s hf
    obtain ⟨v_12, ev_12, hf⟩ := nm_s hf
    refine ca (n := 8) X Y 22 7 rfl b_11 ev_12 dX0_isBeset_53 ?_
    obtain ⟨r_13, hq_14, hf⟩ := bd1_s hf
    refine ccI (av := [.int v_2, .int v_12]) (rest := []) 2 X Y (tX0_areEnemies l N G v_2 v_12 r_13 hq_14) (lw_V q976 q978 qs24 q67 q979) ydX0_areEnemies ⟨by decide, by decide⟩ rfl hl.1 rfl (Nat.le_of_ble_eq_true rfl) (by decide) dX0_isBeset_54 (fun H locs Y => ?_)
    refine lv_if_eq (tgt := 64) hx hb dX0_isBeset_57 (by decide) (fun c_15 => ?_) (fun c_15 => ?_)
    · rw [if_pos c_15] at hf
      refine lv_iconst (v := (0 : Int32)) hx hb dX0_isBeset_64 (by decide) ?_
      cases hf
      exact c_zret X hZ Y (by decide) dX0_isBeset_65
    · rw [if_neg c_15] at hf
      refine lv_iconst (v := (1 : Int32)) hx hb dX0_isBeset_60 (by decide) ?_
      refine lv_goto (tgt := 65) hx hb dX0_isBeset_61 (by decide) ?_
      cases hf
      exact c_zret X hZ Y (by decide) dX0_isBeset_65

def fX0_seat (N : Nat) (G : GS) (a1 : Int32) (a2 : Int32) : Option Int32 :=
  bd1 (fX0_isSeat N G a1) fun r_1 =>
  if r_1 = (0 : Int32) then (
   some (-2 : Int32)
  ) else (
   if a2 = (0 : Int32) then (
    gd (inb a1 8) <|
    gd (¬ G 30 (a1).toNatClampNeg = -1) <|
    some (G 30 (a1).toNatClampNeg)
   ) else (
   if a2 = (1 : Int32) then (
    gd (inb a1 8) <|
    gd (¬ G 30 (a1).toNatClampNeg = -1) <|
    some (G 31 (a1).toNatClampNeg)
   ) else (
   if a2 = (2 : Int32) then (
    gd (inb a1 8) <|
    nm (G 22 (a1).toNatClampNeg : Int32) fun v_10 =>
    some v_10
   ) else (
   if a2 = (3 : Int32) then (
    bd1 (fX0_perilNow N G) fun r_11 =>
    if r_11 = a1 then (
     some (1 : Int32)
    ) else (
     some (0 : Int32)
    )
   ) else (
    some (-3 : Int32)
   ))))
  )
theorem ydX0_seat : yX0_seat.cls = RX0 ∧ yX0_seat.cls ≠ "java/lang/invoke/MethodHandle" ∧ yX0_seat.cls ≠ "java/lang/invoke/VarHandle" ∧ (parseMethodDescriptor yX0_seat.desc).map (fun d => d.parameters.length) = some 2 := by decide +kernel
set_option maxHeartbeats 4000000 in
theorem tX0_seat (l : Launch) (N : Nat) (G : GS) (a1 : Int32) (a2 : Int32) (r : Int32) (hf : fX0_seat N G a1 a2 = some r) : cMet l yX0_seat cX0_seat 3 (some .int) (cR 5 0 0) [.int a1, .int a2] G (some (.int r)) G true := by
  unfold fX0_seat at hf
  refine cMet_of (by decide +kernel) rfl (Nat.le_of_ble_eq_true rfl) (fun {p e s m args below meth c ls D cA h ad A Z} X Y hl => ?_)
  have hx := X.1.1.1
  have hb := X.1.1.2.1
  have hZ : true = true → Z = Z := fun _ => rfl
  have hl : lv_has ls 3 [(0, .ref h), (1, .int a1), (2, .int a2)] := hl
  refine lv_aload_n hx hb dX0_seat_0 rfl (lv_at hl 0 rfl) ?_
  refine lv_iload_n hx hb dX0_seat_1 rfl (lv_at hl 1 rfl) ?_
  obtain ⟨r_1, hq_2, hf⟩ := bd1_s hf
  refine ccI (av := [.int a1]) (rest := []) 1 X Y (tX0_isSeat l N G a1 r_1 hq_2) (lw_V q757 q759 qs12 q67 q760) ydX0_isSeat ⟨by decide, by decide⟩ rfl hl.1 rfl (Nat.le_of_ble_eq_true rfl) (by decide) dX0_seat_2 (fun H locs Y => ?_)
  refine lv_if_ne (tgt := 11) hx hb dX0_seat_5 (by decide) (fun c_3 => ?_) (fun c_3 => ?_)
  · rw [if_neg c_3] at hf
    refine lv_iload_n hx hb dX0_seat_11 rfl (lv_at hl 2 rfl) ?_
    by_cases c_4_0 : a2 = (0 : Int32)
    · rw [if_pos c_4_0] at hf
      refine lv_tableIn (off := 32) (tgt := 44) hx hb dX0_seat_12 (by rw [c_4_0]; decide) (by rw [c_4_0]; decide) (by rw [c_4_0]; rfl) (by decide) ?_
      refine lv_aload_n hx hb dX0_seat_44 rfl (lv_at hl 0 rfl) ?_
      refine lv_iload_n hx hb dX0_seat_45 rfl (lv_at hl 1 rfl) ?_
      obtain ⟨b_5, hf⟩ := gd_s hf
      obtain ⟨b_6, hf⟩ := gd_s hf
      refine c_name X Y b_5 b_6 q761 (by decide) hl.1 (Nat.le_of_ble_eq_true rfl) (by decide) dX0_seat_46 (fun H locs Y => ?_)
      refine c_kindN (v := (G 30 (a1).toNatClampNeg)) X Y (ix_lt b_5) b_6 rfl q766 (by decide) hl.1 (Nat.le_of_ble_eq_true rfl) (by decide) dX0_seat_49 (fun H locs Y => ?_)
      cases hf
      exact c_iret X hZ Y dX0_seat_52
    rw [if_neg c_4_0] at hf
    by_cases c_4_1 : a2 = (1 : Int32)
    · rw [if_pos c_4_1] at hf
      refine lv_tableIn (off := 41) (tgt := 53) hx hb dX0_seat_12 (by rw [c_4_1]; decide) (by rw [c_4_1]; decide) (by rw [c_4_1]; rfl) (by decide) ?_
      refine lv_aload_n hx hb dX0_seat_53 rfl (lv_at hl 0 rfl) ?_
      refine lv_iload_n hx hb dX0_seat_54 rfl (lv_at hl 1 rfl) ?_
      obtain ⟨b_7, hf⟩ := gd_s hf
      obtain ⟨b_8, hf⟩ := gd_s hf
      refine c_name X Y b_7 b_8 q761 (by decide) hl.1 (Nat.le_of_ble_eq_true rfl) (by decide) dX0_seat_55 (fun H locs Y => ?_)
      refine c_getN (v := (G 31 (a1).toNatClampNeg)) X Y (ix_lt b_7) b_8 rfl q678 dX0_seat_58 ?_
      cases hf
      exact c_iret X hZ Y dX0_seat_61
    rw [if_neg c_4_1] at hf
    by_cases c_4_2 : a2 = (2 : Int32)
    · rw [if_pos c_4_2] at hf
      refine lv_tableIn (off := 50) (tgt := 62) hx hb dX0_seat_12 (by rw [c_4_2]; decide) (by rw [c_4_2]; decide) (by rw [c_4_2]; rfl) (by decide) ?_
      refine lv_aload_n hx hb dX0_seat_62 rfl (lv_at hl 0 rfl) ?_
      refine cg (v := .ref (ad 8)) X Y 8 (by decide) q165 rfl rfl dX0_seat_63 ?_
      refine cgn (v := .ref (ad 22)) X Y 2 (by decide) q123 rfl rfl dX0_seat_66 ?_
      refine lv_iload_n hx hb dX0_seat_69 rfl (lv_at hl 1 rfl) ?_
      obtain ⟨b_9, hf⟩ := gd_s hf
      obtain ⟨v_10, ev_10, hf⟩ := nm_s hf
      refine ca (n := 8) X Y 22 7 rfl b_9 ev_10 dX0_seat_70 ?_
      cases hf
      exact c_iret X hZ Y dX0_seat_71
    rw [if_neg c_4_2] at hf
    by_cases c_4_3 : a2 = (3 : Int32)
    · rw [if_pos c_4_3] at hf
      refine lv_tableIn (off := 60) (tgt := 72) hx hb dX0_seat_12 (by rw [c_4_3]; decide) (by rw [c_4_3]; decide) (by rw [c_4_3]; rfl) (by decide) ?_
      refine lv_aload_n hx hb dX0_seat_72 rfl (lv_at hl 0 rfl) ?_
      obtain ⟨r_11, hq_12, hf⟩ := bd1_s hf
      refine ccI (av := []) (rest := []) 0 X Y (tX0_perilNow l N G r_11 hq_12) (lw_V q786 q788 qs14 q67 q789) ydX0_perilNow ⟨by decide, by decide⟩ rfl hl.1 rfl (Nat.le_of_ble_eq_true rfl) (by decide) dX0_seat_73 (fun H locs Y => ?_)
      refine lv_iload_n hx hb dX0_seat_76 rfl (lv_at hl 1 rfl) ?_
      refine lv_icmp_ne (tgt := 84) hx hb dX0_seat_77 (by decide) (fun c_13 => ?_) (fun c_13 => ?_)
      · rw [if_neg c_13] at hf
        refine lv_iconst (v := (0 : Int32)) hx hb dX0_seat_84 (by decide) ?_
        cases hf
        exact c_iret X hZ Y dX0_seat_85
      · rw [if_pos c_13] at hf
        refine lv_iconst (v := (1 : Int32)) hx hb dX0_seat_80 (by decide) ?_
        refine lv_goto (tgt := 85) hx hb dX0_seat_81 (by decide) ?_
        cases hf
        exact c_iret X hZ Y dX0_seat_85
    rw [if_neg c_4_3] at hf
    refine lv_tableOut (tgt := 86) hx hb dX0_seat_12 (sw_z (hi := 3) (sw_s (a := 3) (b := 4) (by decide) (by decide) c_4_3 (sw_s (a := 2) (b := 3) (by decide) (by decide) c_4_2 (sw_s (a := 1) (b := 2) (by decide) (by decide) c_4_1 (sw_s (a := 0) (b := 1) (by decide) (by decide) c_4_0 (sw_0 _ 0))))) (by decide)) (by decide) ?_
    refine lv_bipush (v := (-3 : Int32)) hx hb dX0_seat_86 (by decide) ?_
    cases hf
    exact c_iret X hZ Y dX0_seat_88
  · rw [if_pos c_3] at hf
    refine lv_bipush (v := (-2 : Int32)) hx hb dX0_seat_8 (by decide) ?_
    cases hf
    exact c_iret X hZ Y dX0_seat_10

def fX0_knight (N : Nat) (G : GS) (a1 : Int32) (a2 : Int32) : Option Int32 :=
  bd1 (fX0_isKnight N G a1) fun r_1 =>
  if r_1 = (0 : Int32) then (
   some (-2 : Int32)
  ) else (
   if a2 = (0 : Int32) then (
    gd (inb a1 6) <|
    gd (¬ G 32 (a1).toNatClampNeg = -1) <|
    some (G 32 (a1).toNatClampNeg)
   ) else (
   if a2 = (1 : Int32) then (
    gd (inb a1 6) <|
    nm (G 20 (a1).toNatClampNeg : Int32) fun v_8 =>
    some v_8
   ) else (
   if a2 = (2 : Int32) then (
    gd (inb a1 6) <|
    gd (¬ G 32 (a1).toNatClampNeg = -1) <|
    some (G 34 (a1).toNatClampNeg)
   ) else (
   if a2 = (3 : Int32) then (
    gd (inb a1 6) <|
    nm (G 4 (a1).toNatClampNeg : Int32) fun v_12 =>
    some v_12
   ) else (
   if a2 = (4 : Int32) then (
    some (((G 8 3) >>> (a1 &&& 31)) &&& (1 : Int32))
   ) else (
   if a2 = (5 : Int32) then (
    gd (inb a1 6) <|
    nm (G 21 (a1).toNatClampNeg : Int32) fun v_14 =>
    some v_14
   ) else (
   if a2 = (6 : Int32) then (
    bd1 (fX0_seatNow N G a1) fun r_15 =>
    some r_15
   ) else (
    some (-3 : Int32)
   )))))))
  )
theorem ydX0_knight : yX0_knight.cls = RX0 ∧ yX0_knight.cls ≠ "java/lang/invoke/MethodHandle" ∧ yX0_knight.cls ≠ "java/lang/invoke/VarHandle" ∧ (parseMethodDescriptor yX0_knight.desc).map (fun d => d.parameters.length) = some 2 := by decide +kernel
set_option maxHeartbeats 4000000 in
theorem tX0_knight (l : Launch) (N : Nat) (G : GS) (a1 : Int32) (a2 : Int32) (r : Int32) (hf : fX0_knight N G a1 a2 = some r) : cMet l yX0_knight cX0_knight 3 (some .int) (cR 5 0 0) [.int a1, .int a2] G (some (.int r)) G true := by
  unfold fX0_knight at hf
  refine cMet_of (by decide +kernel) rfl (Nat.le_of_ble_eq_true rfl) (fun {p e s m args below meth c ls D cA h ad A Z} X Y hl => ?_)
  have hx := X.1.1.1
  have hb := X.1.1.2.1
  have hZ : true = true → Z = Z := fun _ => rfl
  have hl : lv_has ls 3 [(0, .ref h), (1, .int a1), (2, .int a2)] := hl
  refine lv_aload_n hx hb dX0_knight_0 rfl (lv_at hl 0 rfl) ?_
  refine lv_iload_n hx hb dX0_knight_1 rfl (lv_at hl 1 rfl) ?_
  obtain ⟨r_1, hq_2, hf⟩ := bd1_s hf
  refine ccI (av := [.int a1]) (rest := []) 1 X Y (tX0_isKnight l N G a1 r_1 hq_2) (lw_V q794 q796 qs15 q67 q797) ydX0_isKnight ⟨by decide, by decide⟩ rfl hl.1 rfl (Nat.le_of_ble_eq_true rfl) (by decide) dX0_knight_2 (fun H locs Y => ?_)
  refine lv_if_ne (tgt := 11) hx hb dX0_knight_5 (by decide) (fun c_3 => ?_) (fun c_3 => ?_)
  · rw [if_neg c_3] at hf
    refine lv_iload_n hx hb dX0_knight_11 rfl (lv_at hl 2 rfl) ?_
    by_cases c_4_0 : a2 = (0 : Int32)
    · rw [if_pos c_4_0] at hf
      refine lv_tableIn (off := 44) (tgt := 56) hx hb dX0_knight_12 (by rw [c_4_0]; decide) (by rw [c_4_0]; decide) (by rw [c_4_0]; rfl) (by decide) ?_
      refine lv_aload_n hx hb dX0_knight_56 rfl (lv_at hl 0 rfl) ?_
      refine lv_iload_n hx hb dX0_knight_57 rfl (lv_at hl 1 rfl) ?_
      obtain ⟨b_5, hf⟩ := gd_s hf
      obtain ⟨b_6, hf⟩ := gd_s hf
      refine c_one X Y b_5 b_6 q150 (by decide) hl.1 (Nat.le_of_ble_eq_true rfl) (by decide) dX0_knight_58 (fun H locs Y => ?_)
      refine c_kindO (v := (G 32 (a1).toNatClampNeg)) X Y (ix_lt b_5) b_6 rfl q798 (by decide) hl.1 (Nat.le_of_ble_eq_true rfl) (by decide) dX0_knight_61 (fun H locs Y => ?_)
      cases hf
      exact c_iret X hZ Y dX0_knight_64
    rw [if_neg c_4_0] at hf
    by_cases c_4_1 : a2 = (1 : Int32)
    · rw [if_pos c_4_1] at hf
      refine lv_tableIn (off := 53) (tgt := 65) hx hb dX0_knight_12 (by rw [c_4_1]; decide) (by rw [c_4_1]; decide) (by rw [c_4_1]; rfl) (by decide) ?_
      refine lv_aload_n hx hb dX0_knight_65 rfl (lv_at hl 0 rfl) ?_
      refine cg (v := .ref (ad 8)) X Y 8 (by decide) q165 rfl rfl dX0_knight_66 ?_
      refine cgn (v := .ref (ad 20)) X Y 0 (by decide) q119 rfl rfl dX0_knight_69 ?_
      refine lv_iload_n hx hb dX0_knight_72 rfl (lv_at hl 1 rfl) ?_
      obtain ⟨b_7, hf⟩ := gd_s hf
      obtain ⟨v_8, ev_8, hf⟩ := nm_s hf
      refine ca (n := 6) X Y 20 5 rfl b_7 ev_8 dX0_knight_73 ?_
      cases hf
      exact c_iret X hZ Y dX0_knight_74
    rw [if_neg c_4_1] at hf
    by_cases c_4_2 : a2 = (2 : Int32)
    · rw [if_pos c_4_2] at hf
      refine lv_tableIn (off := 63) (tgt := 75) hx hb dX0_knight_12 (by rw [c_4_2]; decide) (by rw [c_4_2]; decide) (by rw [c_4_2]; rfl) (by decide) ?_
      refine lv_aload_n hx hb dX0_knight_75 rfl (lv_at hl 0 rfl) ?_
      refine lv_iload_n hx hb dX0_knight_76 rfl (lv_at hl 1 rfl) ?_
      obtain ⟨b_9, hf⟩ := gd_s hf
      obtain ⟨b_10, hf⟩ := gd_s hf
      refine c_one X Y b_9 b_10 q150 (by decide) hl.1 (Nat.le_of_ble_eq_true rfl) (by decide) dX0_knight_77 (fun H locs Y => ?_)
      refine c_getO (v := (G 34 (a1).toNatClampNeg)) (f := 1) X Y (ix_lt b_9) b_10 (Or.inr ⟨rfl, rfl⟩) q729 dX0_knight_80 ?_
      cases hf
      exact c_iret X hZ Y dX0_knight_83
    rw [if_neg c_4_2] at hf
    by_cases c_4_3 : a2 = (3 : Int32)
    · rw [if_pos c_4_3] at hf
      refine lv_tableIn (off := 72) (tgt := 84) hx hb dX0_knight_12 (by rw [c_4_3]; decide) (by rw [c_4_3]; decide) (by rw [c_4_3]; rfl) (by decide) ?_
      refine lv_aload_n hx hb dX0_knight_84 rfl (lv_at hl 0 rfl) ?_
      refine cg (v := .ref (ad 4)) X Y 4 (by decide) q161 rfl rfl dX0_knight_85 ?_
      refine lv_iload_n hx hb dX0_knight_88 rfl (lv_at hl 1 rfl) ?_
      obtain ⟨b_11, hf⟩ := gd_s hf
      obtain ⟨v_12, ev_12, hf⟩ := nm_s hf
      refine ca (n := 6) X Y 4 3 rfl b_11 ev_12 dX0_knight_89 ?_
      cases hf
      exact c_iret X hZ Y dX0_knight_90
    rw [if_neg c_4_3] at hf
    by_cases c_4_4 : a2 = (4 : Int32)
    · rw [if_pos c_4_4] at hf
      refine lv_tableIn (off := 79) (tgt := 91) hx hb dX0_knight_12 (by rw [c_4_4]; decide) (by rw [c_4_4]; decide) (by rw [c_4_4]; rfl) (by decide) ?_
      refine lv_aload_n hx hb dX0_knight_91 rfl (lv_at hl 0 rfl) ?_
      refine cg (v := .ref (ad 8)) X Y 8 (by decide) q165 rfl rfl dX0_knight_92 ?_
      refine cgn (v := .int (G 8 3)) X Y 3 (by decide) q125 rfl rfl dX0_knight_95 ?_
      refine lv_iload_n hx hb dX0_knight_98 rfl (lv_at hl 1 rfl) ?_
      refine lv_ishr hx hb dX0_knight_99 ?_
      refine lv_iconst (v := (1 : Int32)) hx hb dX0_knight_100 (by decide) ?_
      refine lv_iand hx hb dX0_knight_101 ?_
      cases hf
      exact c_iret X hZ Y dX0_knight_102
    rw [if_neg c_4_4] at hf
    by_cases c_4_5 : a2 = (5 : Int32)
    · rw [if_pos c_4_5] at hf
      refine lv_tableIn (off := 91) (tgt := 103) hx hb dX0_knight_12 (by rw [c_4_5]; decide) (by rw [c_4_5]; decide) (by rw [c_4_5]; rfl) (by decide) ?_
      refine lv_aload_n hx hb dX0_knight_103 rfl (lv_at hl 0 rfl) ?_
      refine cg (v := .ref (ad 8)) X Y 8 (by decide) q165 rfl rfl dX0_knight_104 ?_
      refine cgn (v := .ref (ad 21)) X Y 1 (by decide) q121 rfl rfl dX0_knight_107 ?_
      refine lv_iload_n hx hb dX0_knight_110 rfl (lv_at hl 1 rfl) ?_
      obtain ⟨b_13, hf⟩ := gd_s hf
      obtain ⟨v_14, ev_14, hf⟩ := nm_s hf
      refine ca (n := 6) X Y 21 6 rfl b_13 ev_14 dX0_knight_111 ?_
      cases hf
      exact c_iret X hZ Y dX0_knight_112
    rw [if_neg c_4_5] at hf
    by_cases c_4_6 : a2 = (6 : Int32)
    · rw [if_pos c_4_6] at hf
      refine lv_tableIn (off := 101) (tgt := 113) hx hb dX0_knight_12 (by rw [c_4_6]; decide) (by rw [c_4_6]; decide) (by rw [c_4_6]; rfl) (by decide) ?_
      refine lv_aload_n hx hb dX0_knight_113 rfl (lv_at hl 0 rfl) ?_
      refine lv_iload_n hx hb dX0_knight_114 rfl (lv_at hl 1 rfl) ?_
      obtain ⟨r_15, hq_16, hf⟩ := bd1_s hf
      refine ccI (av := [.int a1]) (rest := []) 1 X Y (tX0_seatNow l N G a1 r_15 hq_16) (lw_V q811 q813 qs16 q67 q814) ydX0_seatNow ⟨by decide, by decide⟩ rfl hl.1 rfl (Nat.le_of_ble_eq_true rfl) (by decide) dX0_knight_115 (fun H locs Y => ?_)
      cases hf
      exact c_iret X hZ Y dX0_knight_118
    rw [if_neg c_4_6] at hf
    refine lv_tableOut (tgt := 119) hx hb dX0_knight_12 (sw_z (hi := 6) (sw_s (a := 6) (b := 7) (by decide) (by decide) c_4_6 (sw_s (a := 5) (b := 6) (by decide) (by decide) c_4_5 (sw_s (a := 4) (b := 5) (by decide) (by decide) c_4_4 (sw_s (a := 3) (b := 4) (by decide) (by decide) c_4_3 (sw_s (a := 2) (b := 3) (by decide) (by decide) c_4_2 (sw_s (a := 1) (b := 2) (by decide) (by decide) c_4_1 (sw_s (a := 0) (b := 1) (by decide) (by decide) c_4_0 (sw_0 _ 0)))))))) (by decide)) (by decide) ?_
    refine lv_bipush (v := (-3 : Int32)) hx hb dX0_knight_119 (by decide) ?_
    cases hf
    exact c_iret X hZ Y dX0_knight_121
  · rw [if_pos c_3] at hf
    refine lv_bipush (v := (-2 : Int32)) hx hb dX0_knight_8 (by decide) ?_
    cases hf
    exact c_iret X hZ Y dX0_knight_10

def fX0_judge_L17 (N : Nat) (G : GS) : Nat → Int32 → Int32 → Option Int32
  | 0, _, _ => none
  | n_ + 1, x2_4, x3_5 =>
    if (G 0 1) ≤ x3_5 then (
     some x2_4
    ) else (
     gd (inb x3_5 8) <|
     nm (G 22 (x3_5).toNatClampNeg : Int32) fun v_8 =>
     bd1 (fX0_behind N G x3_5) fun r_9 =>
     gd (inb r_9 8) <|
     nm (G 22 (r_9).toNatClampNeg : Int32) fun v_12 =>
     bd1 (fX0_areEnemies N G v_8 v_12) fun r_13 =>
     bd1 (
      if r_13 = (0 : Int32) then (
       some (0 : Int32)
      ) else (
       some (1 : Int32)
      )
     ) fun j_16 =>
     nm ((x2_4 + j_16) : Int32) fun x2_17 =>
     nm ((x3_5 + (1 : Int32)) : Int32) fun x3_18 =>
     fX0_judge_L17 N G n_ x2_17 x3_18
    )
def fX0_judge (N : Nat) (G : GS) (a1 : Int32) : Option Int32 :=
  bd1 (fX0_in N (a1).toInt64 (0 : Int64) (1 : Int64)) fun r_1 =>
  if r_1 = (0 : Int32) then (
   some (-3 : Int32)
  ) else (
   bd1 (fX0_judge_L17 N G N (0 : Int32) (0 : Int32)) fun x2_19 =>
   if a1 = (0 : Int32) then (
    bd1 (fX0_wrongNow N G) fun r_21 =>
    some r_21
   ) else (
    some x2_19
   )
  )
theorem ydX0_judge : yX0_judge.cls = RX0 ∧ yX0_judge.cls ≠ "java/lang/invoke/MethodHandle" ∧ yX0_judge.cls ≠ "java/lang/invoke/VarHandle" ∧ (parseMethodDescriptor yX0_judge.desc).map (fun d => d.parameters.length) = some 1 := by decide +kernel
set_option maxHeartbeats 4000000 in
theorem tX0_judge (l : Launch) (N : Nat) (G : GS) (a1 : Int32) (r : Int32) (hf : fX0_judge N G a1 = some r) : cMet l yX0_judge cX0_judge 4 (some .int) (cR 8 0 0) [.int a1] G (some (.int r)) G true := by
  unfold fX0_judge at hf
  refine cMet_of (by decide +kernel) rfl (Nat.le_of_ble_eq_true rfl) (fun {p e s m args below meth c ls D cA h ad A Z} X Y hl => ?_)
  have hx := X.1.1.1
  have hb := X.1.1.2.1
  have hZ : true = true → Z = Z := fun _ => rfl
  have hl : lv_has ls 4 [(0, .ref h), (1, .int a1)] := hl
  refine lv_iload_n hx hb dX0_judge_0 rfl (lv_at hl 1 rfl) ?_
  refine lv_i2l (v := (a1).toInt64) hx hb dX0_judge_1 rfl ?_
  refine lv_lconst (v := (0 : Int64)) hx hb dX0_judge_2 (by decide) ?_
  refine lv_lconst (v := (1 : Int64)) hx hb dX0_judge_3 (by decide) ?_
  obtain ⟨r_1, hq_2, hf⟩ := bd1_s hf
  refine c_callSI (av := [.long (a1).toInt64, .long (0 : Int64), .long (1 : Int64)]) (rest := []) 3 X Y (tX0_in l N (a1).toInt64 (0 : Int64) (1 : Int64) r_1 hq_2) (lw_S q235 q236 q67 q237) ydX0_in ⟨rfl, rfl, by decide, by decide⟩ rfl hl.1 rfl (Nat.le_of_ble_eq_true rfl) (by decide) dX0_judge_4 (fun H locs Y => ?_)
  refine lv_if_ne (tgt := 13) hx hb dX0_judge_7 (by decide) (fun c_3 => ?_) (fun c_3 => ?_)
  · rw [if_neg c_3] at hf
    refine lv_iconst (v := (0 : Int32)) hx hb dX0_judge_13 (by decide) ?_
    refine lv_istore_n (lv' := [(2, .int (0 : Int32)), (0, .ref h), (1, .int a1)]) hx hb dX0_judge_14 rfl hl (by decide) rfl (fun ls hl => ?_)
    refine lv_iconst (v := (0 : Int32)) hx hb dX0_judge_15 (by decide) ?_
    refine lv_istore_n (lv' := [(3, .int (0 : Int32)), (2, .int (0 : Int32)), (0, .ref h), (1, .int a1)]) hx hb dX0_judge_16 rfl hl (by decide) rfl (fun ls hl => ?_)
    obtain ⟨x2_19, hL, hf⟩ := bd1_s hf
    have E17_23 : ∀ (H : Heap) (locs : List Loc), CY D cA A s h ad G Z H locs → ∀ ls : Array Slot, lv_has ls 4 [(0, .ref h), (1, .int a1), (2, .int x2_19)] → W p l e (cR 8 0 0) s m args below meth c H locs 0 0 (MQ below (cQ D cA h ad A Z true (some (.int r)) G) args s 0 0 A) (F0 m 68 ls []) := by
      clear hL
      intro H locs Y ls hl
      refine lv_iload_n hx hb dX0_judge_68 rfl (lv_at hl 1 rfl) ?_
      refine lv_if_ne (tgt := 79) hx hb dX0_judge_69 (by decide) (fun c_20 => ?_) (fun c_20 => ?_)
      · rw [if_neg c_20] at hf
        refine lv_iload_n hx hb dX0_judge_79 rfl (lv_at hl 2 rfl) ?_
        cases hf
        exact c_iret X hZ Y dX0_judge_80
      · rw [if_pos c_20] at hf
        refine lv_aload_n hx hb dX0_judge_72 rfl (lv_at hl 0 rfl) ?_
        obtain ⟨r_21, hq_22, hf⟩ := bd1_s hf
        refine ccI (av := []) (rest := []) 0 X Y (tX0_wrongNow l N G r_21 hq_22) (lw_V q938 q940 qs19 q67 q941) ydX0_wrongNow ⟨by decide, by decide⟩ rfl hl.1 rfl (Nat.le_of_ble_eq_true rfl) (by decide) dX0_judge_73 (fun H locs Y => ?_)
        refine lv_goto (tgt := 80) hx hb dX0_judge_76 (by decide) ?_
        cases hf
        exact c_iret X hZ Y dX0_judge_80
    clear hf
    have L17_23 : ∀ (n_ : Nat) (x2_4 : Int32) (x3_5 : Int32), fX0_judge_L17 N G n_ x2_4 x3_5 = some x2_19 → ∀ (H : Heap) (locs : List Loc), CY D cA A s h ad G Z H locs → ∀ ls : Array Slot, lv_has ls 4 [(0, .ref h), (1, .int a1), (2, .int x2_4), (3, .int x3_5)] → W p l e (cR 8 0 0) s m args below meth c H locs 0 0 (MQ below (cQ D cA h ad A Z true (some (.int r)) G) args s 0 0 A) (F0 m 17 ls []) := by
      clear hL
      intro n_
      induction n_ with
      | zero =>
        intro x2_4 x3_5 hf
        rw [fX0_judge_L17.eq_1] at hf
        cases hf
      | succ n_ ih =>
        intro x2_4 x3_5 hf
        intro H locs Y ls hl
        rw [fX0_judge_L17.eq_2] at hf
        refine lv_iload_n hx hb dX0_judge_17 rfl (lv_at hl 3 rfl) ?_
        refine lv_aload_n hx hb dX0_judge_18 rfl (lv_at hl 0 rfl) ?_
        refine cg (v := .int (G 0 1)) X Y 1 (by decide) q157 rfl rfl dX0_judge_19 ?_
        refine lv_icmp_ge (tgt := 68) hx hb dX0_judge_22 (by decide) (fun c_6 => ?_) (fun c_6 => ?_)
        · rw [if_pos c_6] at hf
          cases hf
          exact E17_23 _ _ Y _ (lv_sub hl [0, 1, 2] rfl)
        · rw [if_neg c_6] at hf
          refine lv_iload_n hx hb dX0_judge_25 rfl (lv_at hl 2 rfl) ?_
          refine lv_aload_n hx hb dX0_judge_26 rfl (lv_at hl 0 rfl) ?_
          refine lv_aload_n hx hb dX0_judge_27 rfl (lv_at hl 0 rfl) ?_
          refine cg (v := .ref (ad 8)) X Y 8 (by decide) q165 rfl rfl dX0_judge_28 ?_
          refine cgn (v := .ref (ad 22)) X Y 2 (by decide) q123 rfl rfl dX0_judge_31 ?_
          refine lv_iload_n hx hb dX0_judge_34 rfl (lv_at hl 3 rfl) ?_
          obtain ⟨b_7, hf⟩ := gd_s hf
          obtain ⟨v_8, ev_8, hf⟩ := nm_s hf
          refine ca (n := 8) X Y 22 7 rfl b_7 ev_8 dX0_judge_35 ?_
          refine lv_aload_n hx hb dX0_judge_36 rfl (lv_at hl 0 rfl) ?_
          refine cg (v := .ref (ad 8)) X Y 8 (by decide) q165 rfl rfl dX0_judge_37 ?_
          refine cgn (v := .ref (ad 22)) X Y 2 (by decide) q123 rfl rfl dX0_judge_40 ?_
          refine lv_aload_n hx hb dX0_judge_43 rfl (lv_at hl 0 rfl) ?_
          refine lv_iload_n hx hb dX0_judge_44 rfl (lv_at hl 3 rfl) ?_
          obtain ⟨r_9, hq_10, hf⟩ := bd1_s hf
          refine ccI (av := [.int x3_5]) (rest := [.ref (ad 22), .int v_8, .ref h, .int x2_4]) 1 X Y (tX0_behind l N G x3_5 r_9 hq_10) (lw_V q968 q970 qs22 q67 q971) ydX0_behind ⟨by decide, by decide⟩ rfl hl.1 rfl (Nat.le_of_ble_eq_true rfl) (by decide) dX0_judge_45 (fun H locs Y => ?_)
          obtain ⟨b_11, hf⟩ := gd_s hf
          obtain ⟨v_12, ev_12, hf⟩ := nm_s hf
          refine ca (n := 8) X Y 22 7 rfl b_11 ev_12 dX0_judge_48 ?_
          obtain ⟨r_13, hq_14, hf⟩ := bd1_s hf
          refine ccI (av := [.int v_8, .int v_12]) (rest := [.int x2_4]) 2 X Y (tX0_areEnemies l N G v_8 v_12 r_13 hq_14) (lw_V q976 q978 qs24 q67 q979) ydX0_areEnemies ⟨by decide, by decide⟩ rfl hl.1 rfl (Nat.le_of_ble_eq_true rfl) (by decide) dX0_judge_49 (fun H locs Y => ?_)
          obtain ⟨j_16, hj, hf⟩ := bd1_s hf
          have J60_24 : ∀ (H : Heap) (locs : List Loc), CY D cA A s h ad G Z H locs → ∀ ls : Array Slot, lv_has ls 4 [(0, .ref h), (1, .int a1), (3, .int x3_5)] → W p l e (cR 8 0 0) s m args below meth c H locs 0 0 (MQ below (cQ D cA h ad A Z true (some (.int r)) G) args s 0 0 A) (F0 m 60 ls [.int j_16, .int x2_4]) := by
            clear hj
            intro H locs Y ls hl
            refine lv_iadd hx hb dX0_judge_60 ?_
            obtain ⟨x2_17, ex2_17, hf⟩ := nm_s hf
            refine lv_topE ex2_17 ?_
            refine lv_istore_n (lv' := [(2, .int x2_17), (0, .ref h), (1, .int a1), (3, .int x3_5)]) hx hb dX0_judge_61 rfl hl (by decide) rfl (fun ls hl => ?_)
            obtain ⟨x3_18, ex3_18, hf⟩ := nm_s hf
            refine lv_iinc (v := x3_18) (lv' := [(3, .int x3_18), (2, .int x2_17), (0, .ref h), (1, .int a1)]) hx hb dX0_judge_62 hl (k := 3) rfl (by rw [ex3_18]; rfl) (by decide) rfl (fun ls hl => ?_)
            refine lv_goto (tgt := 17) hx hb dX0_judge_65 (by decide) ?_
            exact ih _ _ hf _ _ Y _ (lv_sub hl [2, 3, 1, 0] rfl)
          replace hf := hj
          clear hj
          refine lv_if_eq (tgt := 59) hx hb dX0_judge_52 (by decide) (fun c_15 => ?_) (fun c_15 => ?_)
          · rw [if_pos c_15] at hf
            refine lv_iconst (v := (0 : Int32)) hx hb dX0_judge_59 (by decide) ?_
            cases hf
            exact J60_24 _ _ Y _ (lv_sub hl [0, 1, 3] rfl)
          · rw [if_neg c_15] at hf
            refine lv_iconst (v := (1 : Int32)) hx hb dX0_judge_55 (by decide) ?_
            refine lv_goto (tgt := 60) hx hb dX0_judge_56 (by decide) ?_
            cases hf
            exact J60_24 _ _ Y _ (lv_sub hl [0, 1, 3] rfl)
    exact L17_23 N _ _ hL _ _ Y _ (lv_sub hl [2, 3, 1, 0] rfl)
  · rw [if_pos c_3] at hf
    refine lv_bipush (v := (-3 : Int32)) hx hb dX0_judge_10 (by decide) ?_
    cases hf
    exact c_iret X hZ Y dX0_judge_12

def fX0_forget (N : Nat) (G : GS) : Option (Int32 × GS) :=
  nm ((G 0 13) : Int32) fun x1_1 =>
  nm (gu G 0 13 (0 : Int32) : GS) fun G_2 =>
  some (x1_1, G_2)
theorem ydX0_forget : yX0_forget.cls = RX0 ∧ yX0_forget.cls ≠ "java/lang/invoke/MethodHandle" ∧ yX0_forget.cls ≠ "java/lang/invoke/VarHandle" ∧ (parseMethodDescriptor yX0_forget.desc).map (fun d => d.parameters.length) = some 0 := by decide +kernel
set_option maxHeartbeats 4000000 in
theorem tX0_forget (l : Launch) (N : Nat) (G : GS) (r : Int32) (G' : GS) (hf : fX0_forget N G = some (r, G')) : cMet l yX0_forget cX0_forget 2 (some .int) (cR 0 0 0) [] G (some (.int r)) G' true := by
  unfold fX0_forget at hf
  refine cMet_of (by decide +kernel) rfl (Nat.le_of_ble_eq_true rfl) (fun {p e s m args below meth c ls D cA h ad A Z} X Y hl => ?_)
  have hx := X.1.1.1
  have hb := X.1.1.2.1
  have hZ : true = true → Z = Z := fun _ => rfl
  have hl : lv_has ls 2 [(0, .ref h)] := hl
  refine lv_aload_n hx hb dX0_forget_0 rfl (lv_at hl 0 rfl) ?_
  refine cg (v := .int (G 0 13)) X Y 13 (by decide) q170 rfl rfl dX0_forget_1 ?_
  obtain ⟨x1_1, ex1_1, hf⟩ := nm_s hf
  refine lv_topE ex1_1 ?_
  refine lv_istore_n (lv' := [(1, .int x1_1), (0, .ref h)]) hx hb dX0_forget_4 rfl hl (by decide) rfl (fun ls hl => ?_)
  refine lv_aload_n hx hb dX0_forget_5 rfl (lv_at hl 1 rfl) ?_
  refine lv_iconst (v := (0 : Int32)) hx hb dX0_forget_6 (by decide) ?_
  obtain ⟨G_2, eG_2, hf⟩ := nm_s hf
  refine cp X Y 13 (by decide) q170 ⟨rfl, rfl⟩ rfl cz0_13 eG_2 dX0_forget_7 (fun H locs Y => ?_)
  refine lv_iload_n hx hb dX0_forget_10 rfl (lv_at hl 0 rfl) ?_
  cases hf
  exact c_iret X hZ Y dX0_forget_11

def fX0_isWorld_L3 (N : Nat) (G : GS) (a1 : Int32) (a2 : Int32) (a3 : Int32) : Nat → Int32 → Option (Int32 ⊕ Unit)
  | 0, _ => none
  | n_ + 1, x4_1 =>
    if (G 0 13) ≤ x4_1 then (
     some (.inr ())
    ) else (
     gd (inb x4_1 8) <|
     gd (G 37 (x4_1).toNatClampNeg = 1) <|
     gd (inb (2 : Int32) 4) <|
     nm (G (60 + (x4_1).toNatClampNeg) ((2 : Int32)).toNatClampNeg : Int32) fun v_6 =>
     gd (¬ (G 0 1) = (0 : Int32)) <|
     gd (inb (1 : Int32) 4) <|
     nm (G (60 + (x4_1).toNatClampNeg) ((1 : Int32)).toNatClampNeg : Int32) fun v_9 =>
     bd1 (
      if ((a1 + (a2 * v_6)) - (a1 + (a2 * v_6)) / (G 0 1) * (G 0 1)) = v_9 then (
       gd (inb (0 : Int32) 4) <|
       nm (G (60 + (x4_1).toNatClampNeg) ((0 : Int32)).toNatClampNeg : Int32) fun v_12 =>
       if a3 = v_12 then (
        some (0 : Int32)
       ) else (
        some (1 : Int32)
       )
      ) else (
       some (0 : Int32)
      )
     ) fun j_14 =>
     gd (inb (3 : Int32) 4) <|
     nm (G (60 + (x4_1).toNatClampNeg) ((3 : Int32)).toNatClampNeg : Int32) fun v_16 =>
     bd1 (
      if v_16 = (1 : Int32) then (
       some (1 : Int32)
      ) else (
       some (0 : Int32)
      )
     ) fun j_18 =>
     if j_14 = j_18 then (
      nm ((x4_1 + (1 : Int32)) : Int32) fun x4_20 =>
      fX0_isWorld_L3 N G a1 a2 a3 n_ x4_20
     ) else (
      some (.inl (0 : Int32))
     )
    )
def fX0_isWorld (N : Nat) (G : GS) (a1 : Int32) (a2 : Int32) (a3 : Int32) : Option Int32 :=
  bdR0 (fX0_isWorld_L3 N G a1 a2 a3 N (0 : Int32)) (fun a_ => some a_) <|
  some (1 : Int32)
theorem ydX0_isWorld : yX0_isWorld.cls = RX0 ∧ yX0_isWorld.cls ≠ "java/lang/invoke/MethodHandle" ∧ yX0_isWorld.cls ≠ "java/lang/invoke/VarHandle" ∧ (parseMethodDescriptor yX0_isWorld.desc).map (fun d => d.parameters.length) = some 3 := by decide +kernel
set_option maxHeartbeats 4000000 in
theorem tX0_isWorld (l : Launch) (N : Nat) (G : GS) (a1 : Int32) (a2 : Int32) (a3 : Int32) (r : Int32) (hf : fX0_isWorld N G a1 a2 a3 = some r) : cMet l yX0_isWorld cX0_isWorld 7 (some .boolean) (cR 0 0 0) [.int a1, .int a2, .int a3] G (some (.int r)) G true := by
  unfold fX0_isWorld at hf
  refine cMet_of (by decide +kernel) rfl (Nat.le_of_ble_eq_true rfl) (fun {p e s m args below meth c ls D cA h ad A Z} X Y hl => ?_)
  have hx := X.1.1.1
  have hb := X.1.1.2.1
  have hZ : true = true → Z = Z := fun _ => rfl
  have hl : lv_has ls 7 [(0, .ref h), (1, .int a1), (2, .int a2), (3, .int a3)] := hl
  refine lv_iconst (v := (0 : Int32)) hx hb dX0_isWorld_0 (by decide) ?_
  refine lv_istore (lv' := [(4, .int (0 : Int32)), (0, .ref h), (1, .int a1), (2, .int a2), (3, .int a3)]) hx hb dX0_isWorld_1 hl (by decide) rfl (fun ls hl => ?_)
  obtain ⟨z_21, hL, hzl_21, hzr_21⟩ := bdR0_s hf
  have E3_21 : z_21 = .inr () → ∀ (H : Heap) (locs : List Loc), CY D cA A s h ad G Z H locs → ∀ ls : Array Slot, lv_has ls 7 [] → W p l e (cR 0 0 0) s m args below meth c H locs 0 0 (MQ below (cQ D cA h ad A Z true (some (.int r)) G) args s 0 0 A) (F0 m 85 ls []) := by
    intro  hz
    have hf := hzr_21 hz
    intro H locs Y ls hl
    refine lv_iconst (v := (1 : Int32)) hx hb dX0_isWorld_85 (by decide) ?_
    cases hf
    exact c_zret X hZ Y (by decide) dX0_isWorld_86
  clear hf
  have L3_21 : ∀ (n_ : Nat) (x4_1 : Int32), fX0_isWorld_L3 N G a1 a2 a3 n_ x4_1 = some z_21 → ∀ (H : Heap) (locs : List Loc), CY D cA A s h ad G Z H locs → ∀ ls : Array Slot, lv_has ls 7 [(0, .ref h), (1, .int a1), (2, .int a2), (3, .int a3), (4, .int x4_1)] → W p l e (cR 0 0 0) s m args below meth c H locs 0 0 (MQ below (cQ D cA h ad A Z true (some (.int r)) G) args s 0 0 A) (F0 m 3 ls []) := by
    clear hL
    intro n_
    induction n_ with
    | zero =>
      intro x4_1 hf
      rw [fX0_isWorld_L3.eq_1] at hf
      cases hf
    | succ n_ ih =>
      intro x4_1 hf
      intro H locs Y ls hl
      rw [fX0_isWorld_L3.eq_2] at hf
      refine lv_iload hx hb dX0_isWorld_3 (lv_at hl 4 rfl) ?_
      refine lv_aload_n hx hb dX0_isWorld_5 rfl (lv_at hl 0 rfl) ?_
      refine cg (v := .int (G 0 13)) X Y 13 (by decide) q170 rfl rfl dX0_isWorld_6 ?_
      refine lv_icmp_ge (tgt := 85) hx hb dX0_isWorld_9 (by decide) (fun c_2 => ?_) (fun c_2 => ?_)
      · rw [if_pos c_2] at hf
        cases hf
        exact E3_21 rfl _ _ Y _ (lv_sub hl [] rfl)
      · rw [if_neg c_2] at hf
        refine lv_aload_n hx hb dX0_isWorld_12 rfl (lv_at hl 0 rfl) ?_
        refine cg (v := .ref (ad 12)) X Y 12 (by decide) q169 rfl rfl dX0_isWorld_13 ?_
        refine lv_iload hx hb dX0_isWorld_16 (lv_at hl 4 rfl) ?_
        obtain ⟨b_3, hf⟩ := gd_s hf
        obtain ⟨b_4, hf⟩ := gd_s hf
        refine c_sight (v := (zr Z 12 (x4_1).toNatClampNeg)) X Y b_3 b_4 rfl dX0_isWorld_18 ?_
        refine lv_astore (lv' := [(5, .ref (zr Z 12 (x4_1).toNatClampNeg)), (0, .ref h), (1, .int a1), (2, .int a2), (3, .int a3), (4, .int x4_1)]) hx hb dX0_isWorld_19 hl (by decide) rfl (fun ls hl => ?_)
        refine lv_iload_n hx hb dX0_isWorld_21 rfl (lv_at hl 2 rfl) ?_
        refine lv_iload_n hx hb dX0_isWorld_22 rfl (lv_at hl 3 rfl) ?_
        refine lv_aload hx hb dX0_isWorld_23 (lv_at hl 0 rfl) ?_
        refine lv_iconst (v := (2 : Int32)) hx hb dX0_isWorld_25 (by decide) ?_
        obtain ⟨b_5, hf⟩ := gd_s hf
        obtain ⟨v_6, ev_6, hf⟩ := nm_s hf
        refine c_sightA X Y (ix_lt b_3) b_4 b_5 ev_6 dX0_isWorld_26 ?_
        refine lv_imul hx hb dX0_isWorld_27 ?_
        refine lv_iadd hx hb dX0_isWorld_28 ?_
        refine lv_aload_n hx hb dX0_isWorld_29 rfl (lv_at hl 1 rfl) ?_
        refine cg (v := .int (G 0 1)) X Y 1 (by decide) q157 rfl rfl dX0_isWorld_30 ?_
        obtain ⟨b_7, hf⟩ := gd_s hf
        refine lv_irem hx hb dX0_isWorld_33 b_7 ?_
        refine lv_aload hx hb dX0_isWorld_34 (lv_at hl 0 rfl) ?_
        refine lv_iconst (v := (1 : Int32)) hx hb dX0_isWorld_36 (by decide) ?_
        obtain ⟨b_8, hf⟩ := gd_s hf
        obtain ⟨v_9, ev_9, hf⟩ := nm_s hf
        refine c_sightA X Y (ix_lt b_3) b_4 b_8 ev_9 dX0_isWorld_37 ?_
        obtain ⟨j_14, hj, hf⟩ := bd1_s hf
        have J54_22 : ∀ (H : Heap) (locs : List Loc), CY D cA A s h ad G Z H locs → ∀ ls : Array Slot, lv_has ls 7 [(0, .ref h), (1, .int a1), (2, .int a2), (3, .int a3), (4, .int x4_1), (5, .ref (zr Z 12 (x4_1).toNatClampNeg))] → W p l e (cR 0 0 0) s m args below meth c H locs 0 0 (MQ below (cQ D cA h ad A Z true (some (.int r)) G) args s 0 0 A) (F0 m 54 ls [.int j_14]) := by
          clear hj
          intro H locs Y ls hl
          refine lv_istore (lv' := [(6, .int j_14), (0, .ref h), (1, .int a1), (2, .int a2), (3, .int a3), (4, .int x4_1), (5, .ref (zr Z 12 (x4_1).toNatClampNeg))]) hx hb dX0_isWorld_54 hl (by decide) rfl (fun ls hl => ?_)
          refine lv_iload hx hb dX0_isWorld_56 (lv_at hl 0 rfl) ?_
          refine lv_aload hx hb dX0_isWorld_58 (lv_at hl 6 rfl) ?_
          refine lv_iconst (v := (3 : Int32)) hx hb dX0_isWorld_60 (by decide) ?_
          obtain ⟨b_15, hf⟩ := gd_s hf
          obtain ⟨v_16, ev_16, hf⟩ := nm_s hf
          refine c_sightA X Y (ix_lt b_3) b_4 b_15 ev_16 dX0_isWorld_61 ?_
          refine lv_iconst (v := (1 : Int32)) hx hb dX0_isWorld_62 (by decide) ?_
          obtain ⟨j_18, hj, hf⟩ := bd1_s hf
          have J71_23 : ∀ (H : Heap) (locs : List Loc), CY D cA A s h ad G Z H locs → ∀ ls : Array Slot, lv_has ls 7 [(0, .ref h), (1, .int a1), (2, .int a2), (3, .int a3), (4, .int x4_1)] → W p l e (cR 0 0 0) s m args below meth c H locs 0 0 (MQ below (cQ D cA h ad A Z true (some (.int r)) G) args s 0 0 A) (F0 m 71 ls [.int j_18, .int j_14]) := by
            clear hj
            intro H locs Y ls hl
            refine lv_icmp_ne (tgt := 77) hx hb dX0_isWorld_71 (by decide) (fun c_19 => ?_) (fun c_19 => ?_)
            · rw [if_neg c_19] at hf
              refine lv_iconst (v := (0 : Int32)) hx hb dX0_isWorld_77 (by decide) ?_
              cases hf
              have hf := hzl_21 _ rfl
              cases hf
              exact c_zret X hZ Y (by decide) dX0_isWorld_78
            · rw [if_pos c_19] at hf
              refine lv_goto (tgt := 79) hx hb dX0_isWorld_74 (by decide) ?_
              obtain ⟨x4_20, ex4_20, hf⟩ := nm_s hf
              refine lv_iinc (v := x4_20) (lv' := [(4, .int x4_20), (0, .ref h), (1, .int a1), (2, .int a2), (3, .int a3)]) hx hb dX0_isWorld_79 hl (k := 4) rfl (by rw [ex4_20]; rfl) (by decide) rfl (fun ls hl => ?_)
              refine lv_goto (tgt := 3) hx hb dX0_isWorld_82 (by decide) ?_
              exact ih _ hf _ _ Y _ (lv_sub hl [1, 2, 3, 4, 0] rfl)
          replace hf := hj
          clear hj
          refine lv_icmp_ne (tgt := 70) hx hb dX0_isWorld_63 (by decide) (fun c_17 => ?_) (fun c_17 => ?_)
          · rw [if_neg c_17] at hf
            refine lv_iconst (v := (0 : Int32)) hx hb dX0_isWorld_70 (by decide) ?_
            cases hf
            exact J71_23 _ _ Y _ (lv_sub hl [1, 2, 3, 4, 5] rfl)
          · rw [if_pos c_17] at hf
            refine lv_iconst (v := (1 : Int32)) hx hb dX0_isWorld_66 (by decide) ?_
            refine lv_goto (tgt := 71) hx hb dX0_isWorld_67 (by decide) ?_
            cases hf
            exact J71_23 _ _ Y _ (lv_sub hl [1, 2, 3, 4, 5] rfl)
        replace hf := hj
        clear hj
        refine lv_icmp_ne (tgt := 53) hx hb dX0_isWorld_38 (by decide) (fun c_10 => ?_) (fun c_10 => ?_)
        · rw [if_neg c_10] at hf
          refine lv_iconst (v := (0 : Int32)) hx hb dX0_isWorld_53 (by decide) ?_
          cases hf
          exact J54_22 _ _ Y _ (lv_sub hl [1, 2, 3, 4, 5, 0] rfl)
        · rw [if_pos c_10] at hf
          refine lv_iload_n hx hb dX0_isWorld_41 rfl (lv_at hl 4 rfl) ?_
          refine lv_aload hx hb dX0_isWorld_42 (lv_at hl 0 rfl) ?_
          refine lv_iconst (v := (0 : Int32)) hx hb dX0_isWorld_44 (by decide) ?_
          obtain ⟨b_11, hf⟩ := gd_s hf
          obtain ⟨v_12, ev_12, hf⟩ := nm_s hf
          refine c_sightA X Y (ix_lt b_3) b_4 b_11 ev_12 dX0_isWorld_45 ?_
          refine lv_icmp_eq (tgt := 53) hx hb dX0_isWorld_46 (by decide) (fun c_13 => ?_) (fun c_13 => ?_)
          · rw [if_pos c_13] at hf
            refine lv_iconst (v := (0 : Int32)) hx hb dX0_isWorld_53 (by decide) ?_
            cases hf
            exact J54_22 _ _ Y _ (lv_sub hl [1, 2, 3, 4, 5, 0] rfl)
          · rw [if_neg c_13] at hf
            refine lv_iconst (v := (1 : Int32)) hx hb dX0_isWorld_49 (by decide) ?_
            refine lv_goto (tgt := 54) hx hb dX0_isWorld_50 (by decide) ?_
            cases hf
            exact J54_22 _ _ Y _ (lv_sub hl [1, 2, 3, 4, 5, 0] rfl)
  exact L3_21 N _ hL _ _ Y _ (lv_sub hl [1, 2, 3, 4, 0] rfl)

def fX0_worlds_L49 (N : Nat) (G : GS) (x5_7 : Int32) (x6_12 : Int32) : Nat → Int32 → Int32 → Int32 → Int32 → Option (Int32 × Int32 × Int32)
  | 0, _, _, _, _ => none
  | n_ + 1, x2_14, x3_15, x4_16, x7_17 =>
    if (G 0 3) ≤ x7_17 then (
     some (x2_14, x3_15, x4_16)
    ) else (
     bd1 (fX0_isWorld N G x5_7 x6_12 x7_17) fun r_19 =>
     bd3 (
      if r_19 = (0 : Int32) then (
       some (x2_14, x3_15, x4_16)
      ) else (
       nm ((x2_14 + (1 : Int32)) : Int32) fun x2_22 =>
       gd (¬ (G 0 1) = (0 : Int32)) <|
       nm ((x3_15 ||| ((1 : Int32) <<< (((x5_7 + (x6_12 * (G 8 4))) - (x5_7 + (x6_12 * (G 8 4))) / (G 0 1) * (G 0 1)) &&& 31))) : Int32) fun x3_24 =>
       bd1 (
        if x7_17 = (-1 : Int32) then (
         some (6 : Int32)
        ) else (
         some x7_17
        )
       ) fun j_26 =>
       nm ((x4_16 ||| ((1 : Int32) <<< (j_26 &&& 31))) : Int32) fun x4_27 =>
       some (x2_22, x3_24, x4_27)
      )
     ) fun x2_28 x3_29 x4_30 =>
     nm ((x7_17 + (1 : Int32)) : Int32) fun x7_31 =>
     fX0_worlds_L49 N G x5_7 x6_12 n_ x2_28 x3_29 x4_30 x7_31
    )
def fX0_worlds_L37 (N : Nat) (G : GS) (x5_7 : Int32) : Nat → Int32 → Int32 → Int32 → Int32 → Option (Int32 × Int32 × Int32)
  | 0, _, _, _, _ => none
  | n_ + 1, x2_9, x3_10, x4_11, x6_12 =>
    if (G 0 1) ≤ x6_12 then (
     some (x2_9, x3_10, x4_11)
    ) else (
     bd3 (fX0_worlds_L49 N G x5_7 x6_12 N x2_9 x3_10 x4_11 (-1 : Int32)) fun x2_32 x3_33 x4_34 =>
     nm ((x6_12 + (1 : Int32)) : Int32) fun x6_35 =>
     fX0_worlds_L37 N G x5_7 n_ x2_32 x3_33 x4_34 x6_35
    )
def fX0_worlds_L25 (N : Nat) (G : GS) : Nat → Int32 → Int32 → Int32 → Int32 → Option (Int32 × Int32 × Int32)
  | 0, _, _, _, _ => none
  | n_ + 1, x2_4, x3_5, x4_6, x5_7 =>
    if (G 0 1) ≤ x5_7 then (
     some (x2_4, x3_5, x4_6)
    ) else (
     bd3 (fX0_worlds_L37 N G x5_7 N x2_4 x3_5 x4_6 (0 : Int32)) fun x2_36 x3_37 x4_38 =>
     nm ((x5_7 + (1 : Int32)) : Int32) fun x5_39 =>
     fX0_worlds_L25 N G n_ x2_36 x3_37 x4_38 x5_39
    )
def fX0_worlds (N : Nat) (G : GS) (a1 : Int32) : Option Int32 :=
  bd1 (fX0_in N (a1).toInt64 (0 : Int64) (2 : Int64)) fun r_1 =>
  if r_1 = (0 : Int32) then (
   some (-3 : Int32)
  ) else (
   bd3 (fX0_worlds_L25 N G N (0 : Int32) (0 : Int32) (0 : Int32) (0 : Int32)) fun x2_40 x3_41 x4_42 =>
   if a1 = (0 : Int32) then (
    some x2_40
   ) else (
    if a1 = (1 : Int32) then (
     some x3_41
    ) else (
     some x4_42
    )
   )
  )
theorem ydX0_worlds : yX0_worlds.cls = RX0 ∧ yX0_worlds.cls ≠ "java/lang/invoke/MethodHandle" ∧ yX0_worlds.cls ≠ "java/lang/invoke/VarHandle" ∧ (parseMethodDescriptor yX0_worlds.desc).map (fun d => d.parameters.length) = some 1 := by decide +kernel
set_option maxHeartbeats 4000000 in
theorem tX0_worlds (l : Launch) (N : Nat) (G : GS) (a1 : Int32) (r : Int32) (hf : fX0_worlds N G a1 = some r) : cMet l yX0_worlds cX0_worlds 8 (some .int) (cR 1 0 0) [.int a1] G (some (.int r)) G true := by
  unfold fX0_worlds at hf
  refine cMet_of (by decide +kernel) rfl (Nat.le_of_ble_eq_true rfl) (fun {p e s m args below meth c ls D cA h ad A Z} X Y hl => ?_)
  have hx := X.1.1.1
  have hb := X.1.1.2.1
  have hZ : true = true → Z = Z := fun _ => rfl
  have hl : lv_has ls 8 [(0, .ref h), (1, .int a1)] := hl
  refine lv_iload_n hx hb dX0_worlds_0 rfl (lv_at hl 1 rfl) ?_
  refine lv_i2l (v := (a1).toInt64) hx hb dX0_worlds_1 rfl ?_
  refine lv_lconst (v := (0 : Int64)) hx hb dX0_worlds_2 (by decide) ?_
  refine lv_ldc2 (v := (2 : Int64)) hx hb X.1.1.2.2.2.1 (X.1.1.2.2.2.2.1 _ q1063) dX0_worlds_3 ?_
  obtain ⟨r_1, hq_2, hf⟩ := bd1_s hf
  refine c_callSI (av := [.long (a1).toInt64, .long (0 : Int64), .long (2 : Int64)]) (rest := []) 3 X Y (tX0_in l N (a1).toInt64 (0 : Int64) (2 : Int64) r_1 hq_2) (lw_S q235 q236 q67 q237) ydX0_in ⟨rfl, rfl, by decide, by decide⟩ rfl hl.1 rfl (Nat.le_of_ble_eq_true rfl) (by decide) dX0_worlds_6 (fun H locs Y => ?_)
  refine lv_if_ne (tgt := 15) hx hb dX0_worlds_9 (by decide) (fun c_3 => ?_) (fun c_3 => ?_)
  · rw [if_neg c_3] at hf
    refine lv_iconst (v := (0 : Int32)) hx hb dX0_worlds_15 (by decide) ?_
    refine lv_istore_n (lv' := [(2, .int (0 : Int32)), (0, .ref h), (1, .int a1)]) hx hb dX0_worlds_16 rfl hl (by decide) rfl (fun ls hl => ?_)
    refine lv_iconst (v := (0 : Int32)) hx hb dX0_worlds_17 (by decide) ?_
    refine lv_istore_n (lv' := [(3, .int (0 : Int32)), (2, .int (0 : Int32)), (0, .ref h), (1, .int a1)]) hx hb dX0_worlds_18 rfl hl (by decide) rfl (fun ls hl => ?_)
    refine lv_iconst (v := (0 : Int32)) hx hb dX0_worlds_19 (by decide) ?_
    refine lv_istore (lv' := [(4, .int (0 : Int32)), (3, .int (0 : Int32)), (2, .int (0 : Int32)), (0, .ref h), (1, .int a1)]) hx hb dX0_worlds_20 hl (by decide) rfl (fun ls hl => ?_)
    refine lv_iconst (v := (0 : Int32)) hx hb dX0_worlds_22 (by decide) ?_
    refine lv_istore (lv' := [(5, .int (0 : Int32)), (4, .int (0 : Int32)), (3, .int (0 : Int32)), (2, .int (0 : Int32)), (0, .ref h), (1, .int a1)]) hx hb dX0_worlds_23 hl (by decide) rfl (fun ls hl => ?_)
    obtain ⟨x2_40, x3_41, x4_42, hL, hf⟩ := bd3_s hf
    have E25_45 : ∀ (H : Heap) (locs : List Loc), CY D cA A s h ad G Z H locs → ∀ ls : Array Slot, lv_has ls 8 [(1, .int a1), (2, .int x2_40), (3, .int x3_41), (4, .int x4_42)] → W p l e (cR 1 0 0) s m args below meth c H locs 0 0 (MQ below (cQ D cA h ad A Z true (some (.int r)) G) args s 0 0 A) (F0 m 135 ls []) := by
      clear hL
      intro H locs Y ls hl
      refine lv_iload_n hx hb dX0_worlds_135 rfl (lv_at hl 0 rfl) ?_
      refine lv_if_ne (tgt := 143) hx hb dX0_worlds_136 (by decide) (fun c_43 => ?_) (fun c_43 => ?_)
      · rw [if_neg c_43] at hf
        refine lv_iload_n hx hb dX0_worlds_143 rfl (lv_at hl 0 rfl) ?_
        refine lv_iconst (v := (1 : Int32)) hx hb dX0_worlds_144 (by decide) ?_
        refine lv_icmp_ne (tgt := 152) hx hb dX0_worlds_145 (by decide) (fun c_44 => ?_) (fun c_44 => ?_)
        · rw [if_neg c_44] at hf
          refine lv_iload hx hb dX0_worlds_152 (lv_at hl 3 rfl) ?_
          cases hf
          exact c_iret X hZ Y dX0_worlds_154
        · rw [if_pos c_44] at hf
          refine lv_iload_n hx hb dX0_worlds_148 rfl (lv_at hl 2 rfl) ?_
          refine lv_goto (tgt := 154) hx hb dX0_worlds_149 (by decide) ?_
          cases hf
          exact c_iret X hZ Y dX0_worlds_154
      · rw [if_pos c_43] at hf
        refine lv_iload_n hx hb dX0_worlds_139 rfl (lv_at hl 1 rfl) ?_
        refine lv_goto (tgt := 154) hx hb dX0_worlds_140 (by decide) ?_
        cases hf
        exact c_iret X hZ Y dX0_worlds_154
    clear hf
    have L25_45 : ∀ (n_ : Nat) (x2_4 : Int32) (x3_5 : Int32) (x4_6 : Int32) (x5_7 : Int32), fX0_worlds_L25 N G n_ x2_4 x3_5 x4_6 x5_7 = some (x2_40, x3_41, x4_42) → ∀ (H : Heap) (locs : List Loc), CY D cA A s h ad G Z H locs → ∀ ls : Array Slot, lv_has ls 8 [(0, .ref h), (1, .int a1), (2, .int x2_4), (3, .int x3_5), (4, .int x4_6), (5, .int x5_7)] → W p l e (cR 1 0 0) s m args below meth c H locs 0 0 (MQ below (cQ D cA h ad A Z true (some (.int r)) G) args s 0 0 A) (F0 m 25 ls []) := by
      clear hL
      intro n_
      induction n_ with
      | zero =>
        intro x2_4 x3_5 x4_6 x5_7 hf
        rw [fX0_worlds_L25.eq_1] at hf
        cases hf
      | succ n_ ih =>
        intro x2_4 x3_5 x4_6 x5_7 hf
        intro H locs Y ls hl
        rw [fX0_worlds_L25.eq_2] at hf
        refine lv_iload hx hb dX0_worlds_25 (lv_at hl 5 rfl) ?_
        refine lv_aload_n hx hb dX0_worlds_27 rfl (lv_at hl 0 rfl) ?_
        refine cg (v := .int (G 0 1)) X Y 1 (by decide) q157 rfl rfl dX0_worlds_28 ?_
        refine lv_icmp_ge (tgt := 135) hx hb dX0_worlds_31 (by decide) (fun c_8 => ?_) (fun c_8 => ?_)
        · rw [if_pos c_8] at hf
          cases hf
          exact E25_45 _ _ Y _ (lv_sub hl [1, 2, 3, 4] rfl)
        · rw [if_neg c_8] at hf
          refine lv_iconst (v := (0 : Int32)) hx hb dX0_worlds_34 (by decide) ?_
          refine lv_istore (lv' := [(6, .int (0 : Int32)), (0, .ref h), (1, .int a1), (2, .int x2_4), (3, .int x3_5), (4, .int x4_6), (5, .int x5_7)]) hx hb dX0_worlds_35 hl (by decide) rfl (fun ls hl => ?_)
          obtain ⟨x2_36, x3_37, x4_38, hL, hf⟩ := bd3_s hf
          have E37_46 : ∀ (H : Heap) (locs : List Loc), CY D cA A s h ad G Z H locs → ∀ ls : Array Slot, lv_has ls 8 [(0, .ref h), (1, .int a1), (2, .int x2_36), (3, .int x3_37), (4, .int x4_38), (5, .int x5_7)] → W p l e (cR 1 0 0) s m args below meth c H locs 0 0 (MQ below (cQ D cA h ad A Z true (some (.int r)) G) args s 0 0 A) (F0 m 129 ls []) := by
            clear hL
            intro H locs Y ls hl
            obtain ⟨x5_39, ex5_39, hf⟩ := nm_s hf
            refine lv_iinc (v := x5_39) (lv' := [(5, .int x5_39), (0, .ref h), (1, .int a1), (2, .int x2_36), (3, .int x3_37), (4, .int x4_38)]) hx hb dX0_worlds_129 hl (k := 5) rfl (by rw [ex5_39]; rfl) (by decide) rfl (fun ls hl => ?_)
            refine lv_goto (tgt := 25) hx hb dX0_worlds_132 (by decide) ?_
            exact ih _ _ _ _ hf _ _ Y _ (lv_sub hl [1, 2, 3, 4, 5, 0] rfl)
          clear hf
          have L37_46 : ∀ (n_ : Nat) (x2_9 : Int32) (x3_10 : Int32) (x4_11 : Int32) (x6_12 : Int32), fX0_worlds_L37 N G x5_7 n_ x2_9 x3_10 x4_11 x6_12 = some (x2_36, x3_37, x4_38) → ∀ (H : Heap) (locs : List Loc), CY D cA A s h ad G Z H locs → ∀ ls : Array Slot, lv_has ls 8 [(0, .ref h), (1, .int a1), (2, .int x2_9), (3, .int x3_10), (4, .int x4_11), (5, .int x5_7), (6, .int x6_12)] → W p l e (cR 1 0 0) s m args below meth c H locs 0 0 (MQ below (cQ D cA h ad A Z true (some (.int r)) G) args s 0 0 A) (F0 m 37 ls []) := by
            clear hL
            intro n_
            induction n_ with
            | zero =>
              intro x2_9 x3_10 x4_11 x6_12 hf
              rw [fX0_worlds_L37.eq_1] at hf
              cases hf
            | succ n_ ih =>
              intro x2_9 x3_10 x4_11 x6_12 hf
              intro H locs Y ls hl
              rw [fX0_worlds_L37.eq_2] at hf
              refine lv_iload hx hb dX0_worlds_37 (lv_at hl 6 rfl) ?_
              refine lv_aload_n hx hb dX0_worlds_39 rfl (lv_at hl 0 rfl) ?_
              refine cg (v := .int (G 0 1)) X Y 1 (by decide) q157 rfl rfl dX0_worlds_40 ?_
              refine lv_icmp_ge (tgt := 129) hx hb dX0_worlds_43 (by decide) (fun c_13 => ?_) (fun c_13 => ?_)
              · rw [if_pos c_13] at hf
                cases hf
                exact E37_46 _ _ Y _ (lv_sub hl [0, 1, 2, 3, 4, 5] rfl)
              · rw [if_neg c_13] at hf
                refine lv_iconst (v := (-1 : Int32)) hx hb dX0_worlds_46 (by decide) ?_
                refine lv_istore (lv' := [(7, .int (-1 : Int32)), (0, .ref h), (1, .int a1), (2, .int x2_9), (3, .int x3_10), (4, .int x4_11), (5, .int x5_7), (6, .int x6_12)]) hx hb dX0_worlds_47 hl (by decide) rfl (fun ls hl => ?_)
                obtain ⟨x2_32, x3_33, x4_34, hL, hf⟩ := bd3_s hf
                have E49_47 : ∀ (H : Heap) (locs : List Loc), CY D cA A s h ad G Z H locs → ∀ ls : Array Slot, lv_has ls 8 [(0, .ref h), (1, .int a1), (2, .int x2_32), (3, .int x3_33), (4, .int x4_34), (5, .int x5_7), (6, .int x6_12)] → W p l e (cR 1 0 0) s m args below meth c H locs 0 0 (MQ below (cQ D cA h ad A Z true (some (.int r)) G) args s 0 0 A) (F0 m 123 ls []) := by
                  clear hL
                  intro H locs Y ls hl
                  obtain ⟨x6_35, ex6_35, hf⟩ := nm_s hf
                  refine lv_iinc (v := x6_35) (lv' := [(6, .int x6_35), (0, .ref h), (1, .int a1), (2, .int x2_32), (3, .int x3_33), (4, .int x4_34), (5, .int x5_7)]) hx hb dX0_worlds_123 hl (k := 6) rfl (by rw [ex6_35]; rfl) (by decide) rfl (fun ls hl => ?_)
                  refine lv_goto (tgt := 37) hx hb dX0_worlds_126 (by decide) ?_
                  exact ih _ _ _ _ hf _ _ Y _ (lv_sub hl [1, 2, 3, 4, 5, 6, 0] rfl)
                clear hf
                have L49_47 : ∀ (n_ : Nat) (x2_14 : Int32) (x3_15 : Int32) (x4_16 : Int32) (x7_17 : Int32), fX0_worlds_L49 N G x5_7 x6_12 n_ x2_14 x3_15 x4_16 x7_17 = some (x2_32, x3_33, x4_34) → ∀ (H : Heap) (locs : List Loc), CY D cA A s h ad G Z H locs → ∀ ls : Array Slot, lv_has ls 8 [(0, .ref h), (1, .int a1), (2, .int x2_14), (3, .int x3_15), (4, .int x4_16), (5, .int x5_7), (6, .int x6_12), (7, .int x7_17)] → W p l e (cR 1 0 0) s m args below meth c H locs 0 0 (MQ below (cQ D cA h ad A Z true (some (.int r)) G) args s 0 0 A) (F0 m 49 ls []) := by
                  clear hL
                  intro n_
                  induction n_ with
                  | zero =>
                    intro x2_14 x3_15 x4_16 x7_17 hf
                    rw [fX0_worlds_L49.eq_1] at hf
                    cases hf
                  | succ n_ ih =>
                    intro x2_14 x3_15 x4_16 x7_17 hf
                    intro H locs Y ls hl
                    rw [fX0_worlds_L49.eq_2] at hf
                    refine lv_iload hx hb dX0_worlds_49 (lv_at hl 7 rfl) ?_
                    refine lv_aload_n hx hb dX0_worlds_51 rfl (lv_at hl 0 rfl) ?_
                    refine cg (v := .int (G 0 3)) X Y 3 (by decide) q160 rfl rfl dX0_worlds_52 ?_
                    refine lv_icmp_ge (tgt := 123) hx hb dX0_worlds_55 (by decide) (fun c_18 => ?_) (fun c_18 => ?_)
                    · rw [if_pos c_18] at hf
                      cases hf
                      exact E49_47 _ _ Y _ (lv_sub hl [0, 1, 2, 3, 4, 5, 6] rfl)
                    · rw [if_neg c_18] at hf
                      refine lv_aload_n hx hb dX0_worlds_58 rfl (lv_at hl 0 rfl) ?_
                      refine lv_iload hx hb dX0_worlds_59 (lv_at hl 5 rfl) ?_
                      refine lv_iload hx hb dX0_worlds_61 (lv_at hl 6 rfl) ?_
                      refine lv_iload hx hb dX0_worlds_63 (lv_at hl 7 rfl) ?_
                      obtain ⟨r_19, hq_20, hf⟩ := bd1_s hf
                      refine ccI (av := [.int x5_7, .int x6_12, .int x7_17]) (rest := []) 3 X Y (tX0_isWorld l N G x5_7 x6_12 x7_17 r_19 hq_20) (lw_V q1064 q1066 qs28 q67 q1067) ydX0_isWorld ⟨by decide, by decide⟩ rfl hl.1 rfl (Nat.le_of_ble_eq_true rfl) (by decide) dX0_worlds_65 (fun H locs Y => ?_)
                      obtain ⟨x2_28, x3_29, x4_30, hj, hf⟩ := bd3_s hf
                      have J117_48 : ∀ (H : Heap) (locs : List Loc), CY D cA A s h ad G Z H locs → ∀ ls : Array Slot, lv_has ls 8 [(0, .ref h), (1, .int a1), (2, .int x2_28), (3, .int x3_29), (4, .int x4_30), (5, .int x5_7), (6, .int x6_12), (7, .int x7_17)] → W p l e (cR 1 0 0) s m args below meth c H locs 0 0 (MQ below (cQ D cA h ad A Z true (some (.int r)) G) args s 0 0 A) (F0 m 117 ls []) := by
                        clear hj
                        intro H locs Y ls hl
                        obtain ⟨x7_31, ex7_31, hf⟩ := nm_s hf
                        refine lv_iinc (v := x7_31) (lv' := [(7, .int x7_31), (0, .ref h), (1, .int a1), (2, .int x2_28), (3, .int x3_29), (4, .int x4_30), (5, .int x5_7), (6, .int x6_12)]) hx hb dX0_worlds_117 hl (k := 7) rfl (by rw [ex7_31]; rfl) (by decide) rfl (fun ls hl => ?_)
                        refine lv_goto (tgt := 49) hx hb dX0_worlds_120 (by decide) ?_
                        exact ih _ _ _ _ hf _ _ Y _ (lv_sub hl [1, 2, 3, 4, 5, 6, 7, 0] rfl)
                      replace hf := hj
                      clear hj
                      refine lv_if_eq (tgt := 117) hx hb dX0_worlds_68 (by decide) (fun c_21 => ?_) (fun c_21 => ?_)
                      · rw [if_pos c_21] at hf
                        cases hf
                        exact J117_48 _ _ Y _ (lv_sub hl [0, 1, 2, 3, 4, 5, 6, 7] rfl)
                      · rw [if_neg c_21] at hf
                        obtain ⟨x2_22, ex2_22, hf⟩ := nm_s hf
                        refine lv_iinc (v := x2_22) (lv' := [(2, .int x2_22), (0, .ref h), (1, .int a1), (3, .int x3_15), (4, .int x4_16), (5, .int x5_7), (6, .int x6_12), (7, .int x7_17)]) hx hb dX0_worlds_71 hl (k := 2) rfl (by rw [ex2_22]; rfl) (by decide) rfl (fun ls hl => ?_)
                        refine lv_iload_n hx hb dX0_worlds_74 rfl (lv_at hl 3 rfl) ?_
                        refine lv_iconst (v := (1 : Int32)) hx hb dX0_worlds_75 (by decide) ?_
                        refine lv_iload hx hb dX0_worlds_76 (lv_at hl 5 rfl) ?_
                        refine lv_iload hx hb dX0_worlds_78 (lv_at hl 6 rfl) ?_
                        refine lv_aload_n hx hb dX0_worlds_80 rfl (lv_at hl 1 rfl) ?_
                        refine cg (v := .ref (ad 8)) X Y 8 (by decide) q165 rfl rfl dX0_worlds_81 ?_
                        refine cgn (v := .int (G 8 4)) X Y 4 (by decide) q127 rfl rfl dX0_worlds_84 ?_
                        refine lv_imul hx hb dX0_worlds_87 ?_
                        refine lv_iadd hx hb dX0_worlds_88 ?_
                        refine lv_aload_n hx hb dX0_worlds_89 rfl (lv_at hl 1 rfl) ?_
                        refine cg (v := .int (G 0 1)) X Y 1 (by decide) q157 rfl rfl dX0_worlds_90 ?_
                        obtain ⟨b_23, hf⟩ := gd_s hf
                        refine lv_irem hx hb dX0_worlds_93 b_23 ?_
                        refine lv_ishl hx hb dX0_worlds_94 ?_
                        refine lv_ior hx hb dX0_worlds_95 ?_
                        obtain ⟨x3_24, ex3_24, hf⟩ := nm_s hf
                        refine lv_topE ex3_24 ?_
                        refine lv_istore_n (lv' := [(3, .int x3_24), (2, .int x2_22), (0, .ref h), (1, .int a1), (4, .int x4_16), (5, .int x5_7), (6, .int x6_12), (7, .int x7_17)]) hx hb dX0_worlds_96 rfl hl (by decide) rfl (fun ls hl => ?_)
                        refine lv_iload hx hb dX0_worlds_97 (lv_at hl 4 rfl) ?_
                        refine lv_iconst (v := (1 : Int32)) hx hb dX0_worlds_99 (by decide) ?_
                        refine lv_iload hx hb dX0_worlds_100 (lv_at hl 7 rfl) ?_
                        refine lv_iconst (v := (-1 : Int32)) hx hb dX0_worlds_102 (by decide) ?_
                        obtain ⟨j_26, hj, hf⟩ := bd1_s hf
                        have J113_49 : ∀ (H : Heap) (locs : List Loc), CY D cA A s h ad G Z H locs → ∀ ls : Array Slot, lv_has ls 8 [(0, .ref h), (1, .int a1), (2, .int x2_22), (3, .int x3_24), (5, .int x5_7), (6, .int x6_12), (7, .int x7_17)] → W p l e (cR 1 0 0) s m args below meth c H locs 0 0 (MQ below (cQ D cA h ad A Z true (some (.int r)) G) args s 0 0 A) (F0 m 113 ls [.int j_26, .int (1 : Int32), .int x4_16]) := by
                          clear hj
                          intro H locs Y ls hl
                          refine lv_ishl hx hb dX0_worlds_113 ?_
                          refine lv_ior hx hb dX0_worlds_114 ?_
                          obtain ⟨x4_27, ex4_27, hf⟩ := nm_s hf
                          refine lv_topE ex4_27 ?_
                          refine lv_istore (lv' := [(4, .int x4_27), (0, .ref h), (1, .int a1), (2, .int x2_22), (3, .int x3_24), (5, .int x5_7), (6, .int x6_12), (7, .int x7_17)]) hx hb dX0_worlds_115 hl (by decide) rfl (fun ls hl => ?_)
                          cases hf
                          exact J117_48 _ _ Y _ (lv_sub hl [1, 2, 3, 4, 0, 5, 6, 7] rfl)
                        replace hf := hj
                        clear hj
                        refine lv_icmp_ne (tgt := 111) hx hb dX0_worlds_103 (by decide) (fun c_25 => ?_) (fun c_25 => ?_)
                        · rw [if_neg c_25] at hf
                          refine lv_iload hx hb dX0_worlds_111 (lv_at hl 7 rfl) ?_
                          cases hf
                          exact J113_49 _ _ Y _ (lv_sub hl [2, 3, 1, 0, 5, 6, 7] rfl)
                        · rw [if_pos c_25] at hf
                          refine lv_bipush (v := (6 : Int32)) hx hb dX0_worlds_106 (by decide) ?_
                          refine lv_goto (tgt := 113) hx hb dX0_worlds_108 (by decide) ?_
                          cases hf
                          exact J113_49 _ _ Y _ (lv_sub hl [2, 3, 1, 0, 5, 6, 7] rfl)
                exact L49_47 N _ _ _ _ hL _ _ Y _ (lv_sub hl [1, 2, 3, 4, 5, 6, 7, 0] rfl)
          exact L37_46 N _ _ _ _ hL _ _ Y _ (lv_sub hl [1, 2, 3, 4, 5, 6, 0] rfl)
    exact L25_45 N _ _ _ _ hL _ _ Y _ (lv_sub hl [4, 5, 3, 2, 1, 0] rfl)
  · rw [if_pos c_3] at hf
    refine lv_bipush (v := (-3 : Int32)) hx hb dX0_worlds_12 (by decide) ?_
    cases hf
    exact c_iret X hZ Y dX0_worlds_14

def fX0_dangers_L29 (N : Nat) (G : GS) (a1 : Int32) (a2 : Int32) (x4_2 : Int32) (x5_5 : Int32) : Nat → Int32 → Int32 → Option Int32
  | 0, _, _ => none
  | n_ + 1, x3_7, x6_8 =>
    if (G 0 3) ≤ x6_8 then (
     some x3_7
    ) else (
     gd (¬ (G 0 1) = (0 : Int32)) <|
     bd1 (
      if ((x4_2 + (x5_5 * (G 8 4))) - (x4_2 + (x5_5 * (G 8 4))) / (G 0 1) * (G 0 1)) = a2 then (
       if x6_8 = a1 then (
        some (0 : Int32)
       ) else (
        bd1 (fX0_isWorld N G x4_2 x5_5 x6_8) fun r_13 =>
        if r_13 = (0 : Int32) then (
         some (0 : Int32)
        ) else (
         some (1 : Int32)
        )
       )
      ) else (
       some (0 : Int32)
      )
     ) fun j_16 =>
     nm ((x3_7 + j_16) : Int32) fun x3_17 =>
     nm ((x6_8 + (1 : Int32)) : Int32) fun x6_18 =>
     fX0_dangers_L29 N G a1 a2 x4_2 x5_5 n_ x3_17 x6_18
    )
def fX0_dangers_L17 (N : Nat) (G : GS) (a1 : Int32) (a2 : Int32) (x4_2 : Int32) : Nat → Int32 → Int32 → Option Int32
  | 0, _, _ => none
  | n_ + 1, x3_4, x5_5 =>
    if (G 0 1) ≤ x5_5 then (
     some x3_4
    ) else (
     bd1 (fX0_dangers_L29 N G a1 a2 x4_2 x5_5 N x3_4 (-1 : Int32)) fun x3_19 =>
     nm ((x5_5 + (1 : Int32)) : Int32) fun x5_20 =>
     fX0_dangers_L17 N G a1 a2 x4_2 n_ x3_19 x5_20
    )
def fX0_dangers_L5 (N : Nat) (G : GS) (a1 : Int32) (a2 : Int32) : Nat → Int32 → Int32 → Option Int32
  | 0, _, _ => none
  | n_ + 1, x3_1, x4_2 =>
    if (G 0 1) ≤ x4_2 then (
     some x3_1
    ) else (
     bd1 (fX0_dangers_L17 N G a1 a2 x4_2 N x3_1 (0 : Int32)) fun x3_21 =>
     nm ((x4_2 + (1 : Int32)) : Int32) fun x4_22 =>
     fX0_dangers_L5 N G a1 a2 n_ x3_21 x4_22
    )
def fX0_dangers (N : Nat) (G : GS) (a1 : Int32) (a2 : Int32) : Option Int32 :=
  bd1 (fX0_dangers_L5 N G a1 a2 N (0 : Int32) (0 : Int32)) fun x3_23 =>
  gd (inb a1 6) <|
  gd (¬ G 32 (a1).toNatClampNeg = -1) <|
  if (sparedV (G 32 (a1).toNatClampNeg)) = (0 : Int32) then (
   some x3_23
  ) else (
   some (0 : Int32)
  )
theorem ydX0_dangers : yX0_dangers.cls = RX0 ∧ yX0_dangers.cls ≠ "java/lang/invoke/MethodHandle" ∧ yX0_dangers.cls ≠ "java/lang/invoke/VarHandle" ∧ (parseMethodDescriptor yX0_dangers.desc).map (fun d => d.parameters.length) = some 2 := by decide +kernel
set_option maxHeartbeats 4000000 in
theorem tX0_dangers (l : Launch) (N : Nat) (G : GS) (a1 : Int32) (a2 : Int32) (r : Int32) (hf : fX0_dangers N G a1 a2 = some r) : cMet l yX0_dangers cX0_dangers 7 (some .int) (cR 5 0 0) [.int a1, .int a2] G (some (.int r)) G true := by
  unfold fX0_dangers at hf
  refine cMet_of (by decide +kernel) rfl (Nat.le_of_ble_eq_true rfl) (fun {p e s m args below meth c ls D cA h ad A Z} X Y hl => ?_)
  have hx := X.1.1.1
  have hb := X.1.1.2.1
  have hZ : true = true → Z = Z := fun _ => rfl
  have hl : lv_has ls 7 [(0, .ref h), (1, .int a1), (2, .int a2)] := hl
  refine lv_iconst (v := (0 : Int32)) hx hb dX0_dangers_0 (by decide) ?_
  refine lv_istore_n (lv' := [(3, .int (0 : Int32)), (0, .ref h), (1, .int a1), (2, .int a2)]) hx hb dX0_dangers_1 rfl hl (by decide) rfl (fun ls hl => ?_)
  refine lv_iconst (v := (0 : Int32)) hx hb dX0_dangers_2 (by decide) ?_
  refine lv_istore (lv' := [(4, .int (0 : Int32)), (3, .int (0 : Int32)), (0, .ref h), (1, .int a1), (2, .int a2)]) hx hb dX0_dangers_3 hl (by decide) rfl (fun ls hl => ?_)
  obtain ⟨x3_23, hL, hf⟩ := bd1_s hf
  have E5_27 : ∀ (H : Heap) (locs : List Loc), CY D cA A s h ad G Z H locs → ∀ ls : Array Slot, lv_has ls 7 [(0, .ref h), (1, .int a1), (3, .int x3_23)] → W p l e (cR 5 0 0) s m args below meth c H locs 0 0 (MQ below (cQ D cA h ad A Z true (some (.int r)) G) args s 0 0 A) (F0 m 105 ls []) := by
    clear hL
    intro H locs Y ls hl
    refine lv_aload_n hx hb dX0_dangers_105 rfl (lv_at hl 0 rfl) ?_
    refine lv_iload_n hx hb dX0_dangers_106 rfl (lv_at hl 1 rfl) ?_
    obtain ⟨b_24, hf⟩ := gd_s hf
    obtain ⟨b_25, hf⟩ := gd_s hf
    refine c_one X Y b_24 b_25 q150 (by decide) hl.1 (Nat.le_of_ble_eq_true rfl) (by decide) dX0_dangers_107 (fun H locs Y => ?_)
    refine c_spared (v := (sparedV (G 32 (a1).toNatClampNeg))) X Y (ix_lt b_24) b_25 rfl q950 (by decide) hl.1 (Nat.le_of_ble_eq_true rfl) (by decide) dX0_dangers_110 (fun H locs Y => ?_)
    refine lv_if_eq (tgt := 120) hx hb dX0_dangers_113 (by decide) (fun c_26 => ?_) (fun c_26 => ?_)
    · rw [if_pos c_26] at hf
      refine lv_iload_n hx hb dX0_dangers_120 rfl (lv_at hl 2 rfl) ?_
      cases hf
      exact c_iret X hZ Y dX0_dangers_121
    · rw [if_neg c_26] at hf
      refine lv_iconst (v := (0 : Int32)) hx hb dX0_dangers_116 (by decide) ?_
      refine lv_goto (tgt := 121) hx hb dX0_dangers_117 (by decide) ?_
      cases hf
      exact c_iret X hZ Y dX0_dangers_121
  clear hf
  have L5_27 : ∀ (n_ : Nat) (x3_1 : Int32) (x4_2 : Int32), fX0_dangers_L5 N G a1 a2 n_ x3_1 x4_2 = some x3_23 → ∀ (H : Heap) (locs : List Loc), CY D cA A s h ad G Z H locs → ∀ ls : Array Slot, lv_has ls 7 [(0, .ref h), (1, .int a1), (2, .int a2), (3, .int x3_1), (4, .int x4_2)] → W p l e (cR 5 0 0) s m args below meth c H locs 0 0 (MQ below (cQ D cA h ad A Z true (some (.int r)) G) args s 0 0 A) (F0 m 5 ls []) := by
    clear hL
    intro n_
    induction n_ with
    | zero =>
      intro x3_1 x4_2 hf
      rw [fX0_dangers_L5.eq_1] at hf
      cases hf
    | succ n_ ih =>
      intro x3_1 x4_2 hf
      intro H locs Y ls hl
      rw [fX0_dangers_L5.eq_2] at hf
      refine lv_iload hx hb dX0_dangers_5 (lv_at hl 4 rfl) ?_
      refine lv_aload_n hx hb dX0_dangers_7 rfl (lv_at hl 0 rfl) ?_
      refine cg (v := .int (G 0 1)) X Y 1 (by decide) q157 rfl rfl dX0_dangers_8 ?_
      refine lv_icmp_ge (tgt := 105) hx hb dX0_dangers_11 (by decide) (fun c_3 => ?_) (fun c_3 => ?_)
      · rw [if_pos c_3] at hf
        cases hf
        exact E5_27 _ _ Y _ (lv_sub hl [0, 1, 3] rfl)
      · rw [if_neg c_3] at hf
        refine lv_iconst (v := (0 : Int32)) hx hb dX0_dangers_14 (by decide) ?_
        refine lv_istore (lv' := [(5, .int (0 : Int32)), (0, .ref h), (1, .int a1), (2, .int a2), (3, .int x3_1), (4, .int x4_2)]) hx hb dX0_dangers_15 hl (by decide) rfl (fun ls hl => ?_)
        obtain ⟨x3_21, hL, hf⟩ := bd1_s hf
        have E17_28 : ∀ (H : Heap) (locs : List Loc), CY D cA A s h ad G Z H locs → ∀ ls : Array Slot, lv_has ls 7 [(0, .ref h), (1, .int a1), (2, .int a2), (3, .int x3_21), (4, .int x4_2)] → W p l e (cR 5 0 0) s m args below meth c H locs 0 0 (MQ below (cQ D cA h ad A Z true (some (.int r)) G) args s 0 0 A) (F0 m 99 ls []) := by
          clear hL
          intro H locs Y ls hl
          obtain ⟨x4_22, ex4_22, hf⟩ := nm_s hf
          refine lv_iinc (v := x4_22) (lv' := [(4, .int x4_22), (0, .ref h), (1, .int a1), (2, .int a2), (3, .int x3_21)]) hx hb dX0_dangers_99 hl (k := 4) rfl (by rw [ex4_22]; rfl) (by decide) rfl (fun ls hl => ?_)
          refine lv_goto (tgt := 5) hx hb dX0_dangers_102 (by decide) ?_
          exact ih _ _ hf _ _ Y _ (lv_sub hl [1, 2, 3, 4, 0] rfl)
        clear hf
        have L17_28 : ∀ (n_ : Nat) (x3_4 : Int32) (x5_5 : Int32), fX0_dangers_L17 N G a1 a2 x4_2 n_ x3_4 x5_5 = some x3_21 → ∀ (H : Heap) (locs : List Loc), CY D cA A s h ad G Z H locs → ∀ ls : Array Slot, lv_has ls 7 [(0, .ref h), (1, .int a1), (2, .int a2), (3, .int x3_4), (4, .int x4_2), (5, .int x5_5)] → W p l e (cR 5 0 0) s m args below meth c H locs 0 0 (MQ below (cQ D cA h ad A Z true (some (.int r)) G) args s 0 0 A) (F0 m 17 ls []) := by
          clear hL
          intro n_
          induction n_ with
          | zero =>
            intro x3_4 x5_5 hf
            rw [fX0_dangers_L17.eq_1] at hf
            cases hf
          | succ n_ ih =>
            intro x3_4 x5_5 hf
            intro H locs Y ls hl
            rw [fX0_dangers_L17.eq_2] at hf
            refine lv_iload hx hb dX0_dangers_17 (lv_at hl 5 rfl) ?_
            refine lv_aload_n hx hb dX0_dangers_19 rfl (lv_at hl 0 rfl) ?_
            refine cg (v := .int (G 0 1)) X Y 1 (by decide) q157 rfl rfl dX0_dangers_20 ?_
            refine lv_icmp_ge (tgt := 99) hx hb dX0_dangers_23 (by decide) (fun c_6 => ?_) (fun c_6 => ?_)
            · rw [if_pos c_6] at hf
              cases hf
              exact E17_28 _ _ Y _ (lv_sub hl [0, 1, 2, 3, 4] rfl)
            · rw [if_neg c_6] at hf
              refine lv_iconst (v := (-1 : Int32)) hx hb dX0_dangers_26 (by decide) ?_
              refine lv_istore (lv' := [(6, .int (-1 : Int32)), (0, .ref h), (1, .int a1), (2, .int a2), (3, .int x3_4), (4, .int x4_2), (5, .int x5_5)]) hx hb dX0_dangers_27 hl (by decide) rfl (fun ls hl => ?_)
              obtain ⟨x3_19, hL, hf⟩ := bd1_s hf
              have E29_29 : ∀ (H : Heap) (locs : List Loc), CY D cA A s h ad G Z H locs → ∀ ls : Array Slot, lv_has ls 7 [(0, .ref h), (1, .int a1), (2, .int a2), (3, .int x3_19), (4, .int x4_2), (5, .int x5_5)] → W p l e (cR 5 0 0) s m args below meth c H locs 0 0 (MQ below (cQ D cA h ad A Z true (some (.int r)) G) args s 0 0 A) (F0 m 93 ls []) := by
                clear hL
                intro H locs Y ls hl
                obtain ⟨x5_20, ex5_20, hf⟩ := nm_s hf
                refine lv_iinc (v := x5_20) (lv' := [(5, .int x5_20), (0, .ref h), (1, .int a1), (2, .int a2), (3, .int x3_19), (4, .int x4_2)]) hx hb dX0_dangers_93 hl (k := 5) rfl (by rw [ex5_20]; rfl) (by decide) rfl (fun ls hl => ?_)
                refine lv_goto (tgt := 17) hx hb dX0_dangers_96 (by decide) ?_
                exact ih _ _ hf _ _ Y _ (lv_sub hl [1, 2, 3, 4, 5, 0] rfl)
              clear hf
              have L29_29 : ∀ (n_ : Nat) (x3_7 : Int32) (x6_8 : Int32), fX0_dangers_L29 N G a1 a2 x4_2 x5_5 n_ x3_7 x6_8 = some x3_19 → ∀ (H : Heap) (locs : List Loc), CY D cA A s h ad G Z H locs → ∀ ls : Array Slot, lv_has ls 7 [(0, .ref h), (1, .int a1), (2, .int a2), (3, .int x3_7), (4, .int x4_2), (5, .int x5_5), (6, .int x6_8)] → W p l e (cR 5 0 0) s m args below meth c H locs 0 0 (MQ below (cQ D cA h ad A Z true (some (.int r)) G) args s 0 0 A) (F0 m 29 ls []) := by
                clear hL
                intro n_
                induction n_ with
                | zero =>
                  intro x3_7 x6_8 hf
                  rw [fX0_dangers_L29.eq_1] at hf
                  cases hf
                | succ n_ ih =>
                  intro x3_7 x6_8 hf
                  intro H locs Y ls hl
                  rw [fX0_dangers_L29.eq_2] at hf
                  refine lv_iload hx hb dX0_dangers_29 (lv_at hl 6 rfl) ?_
                  refine lv_aload_n hx hb dX0_dangers_31 rfl (lv_at hl 0 rfl) ?_
                  refine cg (v := .int (G 0 3)) X Y 3 (by decide) q160 rfl rfl dX0_dangers_32 ?_
                  refine lv_icmp_ge (tgt := 93) hx hb dX0_dangers_35 (by decide) (fun c_9 => ?_) (fun c_9 => ?_)
                  · rw [if_pos c_9] at hf
                    cases hf
                    exact E29_29 _ _ Y _ (lv_sub hl [0, 1, 2, 3, 4, 5] rfl)
                  · rw [if_neg c_9] at hf
                    refine lv_iload_n hx hb dX0_dangers_38 rfl (lv_at hl 3 rfl) ?_
                    refine lv_iload hx hb dX0_dangers_39 (lv_at hl 4 rfl) ?_
                    refine lv_iload hx hb dX0_dangers_41 (lv_at hl 5 rfl) ?_
                    refine lv_aload_n hx hb dX0_dangers_43 rfl (lv_at hl 0 rfl) ?_
                    refine cg (v := .ref (ad 8)) X Y 8 (by decide) q165 rfl rfl dX0_dangers_44 ?_
                    refine cgn (v := .int (G 8 4)) X Y 4 (by decide) q127 rfl rfl dX0_dangers_47 ?_
                    refine lv_imul hx hb dX0_dangers_50 ?_
                    refine lv_iadd hx hb dX0_dangers_51 ?_
                    refine lv_aload_n hx hb dX0_dangers_52 rfl (lv_at hl 0 rfl) ?_
                    refine cg (v := .int (G 0 1)) X Y 1 (by decide) q157 rfl rfl dX0_dangers_53 ?_
                    obtain ⟨b_10, hf⟩ := gd_s hf
                    refine lv_irem hx hb dX0_dangers_56 b_10 ?_
                    refine lv_iload_n hx hb dX0_dangers_57 rfl (lv_at hl 2 rfl) ?_
                    obtain ⟨j_16, hj, hf⟩ := bd1_s hf
                    have J85_30 : ∀ (H : Heap) (locs : List Loc), CY D cA A s h ad G Z H locs → ∀ ls : Array Slot, lv_has ls 7 [(0, .ref h), (1, .int a1), (2, .int a2), (4, .int x4_2), (5, .int x5_5), (6, .int x6_8)] → W p l e (cR 5 0 0) s m args below meth c H locs 0 0 (MQ below (cQ D cA h ad A Z true (some (.int r)) G) args s 0 0 A) (F0 m 85 ls [.int j_16, .int x3_7]) := by
                      clear hj
                      intro H locs Y ls hl
                      refine lv_iadd hx hb dX0_dangers_85 ?_
                      obtain ⟨x3_17, ex3_17, hf⟩ := nm_s hf
                      refine lv_topE ex3_17 ?_
                      refine lv_istore_n (lv' := [(3, .int x3_17), (0, .ref h), (1, .int a1), (2, .int a2), (4, .int x4_2), (5, .int x5_5), (6, .int x6_8)]) hx hb dX0_dangers_86 rfl hl (by decide) rfl (fun ls hl => ?_)
                      obtain ⟨x6_18, ex6_18, hf⟩ := nm_s hf
                      refine lv_iinc (v := x6_18) (lv' := [(6, .int x6_18), (3, .int x3_17), (0, .ref h), (1, .int a1), (2, .int a2), (4, .int x4_2), (5, .int x5_5)]) hx hb dX0_dangers_87 hl (k := 6) rfl (by rw [ex6_18]; rfl) (by decide) rfl (fun ls hl => ?_)
                      refine lv_goto (tgt := 29) hx hb dX0_dangers_90 (by decide) ?_
                      exact ih _ _ hf _ _ Y _ (lv_sub hl [2, 3, 4, 1, 5, 6, 0] rfl)
                    replace hf := hj
                    clear hj
                    refine lv_icmp_ne (tgt := 84) hx hb dX0_dangers_58 (by decide) (fun c_11 => ?_) (fun c_11 => ?_)
                    · rw [if_neg c_11] at hf
                      refine lv_iconst (v := (0 : Int32)) hx hb dX0_dangers_84 (by decide) ?_
                      cases hf
                      exact J85_30 _ _ Y _ (lv_sub hl [0, 1, 2, 4, 5, 6] rfl)
                    · rw [if_pos c_11] at hf
                      refine lv_iload hx hb dX0_dangers_61 (lv_at hl 6 rfl) ?_
                      refine lv_iload_n hx hb dX0_dangers_63 rfl (lv_at hl 1 rfl) ?_
                      refine lv_icmp_eq (tgt := 84) hx hb dX0_dangers_64 (by decide) (fun c_12 => ?_) (fun c_12 => ?_)
                      · rw [if_pos c_12] at hf
                        refine lv_iconst (v := (0 : Int32)) hx hb dX0_dangers_84 (by decide) ?_
                        cases hf
                        exact J85_30 _ _ Y _ (lv_sub hl [0, 1, 2, 4, 5, 6] rfl)
                      · rw [if_neg c_12] at hf
                        refine lv_aload_n hx hb dX0_dangers_67 rfl (lv_at hl 0 rfl) ?_
                        refine lv_iload hx hb dX0_dangers_68 (lv_at hl 4 rfl) ?_
                        refine lv_iload hx hb dX0_dangers_70 (lv_at hl 5 rfl) ?_
                        refine lv_iload hx hb dX0_dangers_72 (lv_at hl 6 rfl) ?_
                        obtain ⟨r_13, hq_14, hf⟩ := bd1_s hf
                        refine ccI (av := [.int x4_2, .int x5_5, .int x6_8]) (rest := [.int x3_7]) 3 X Y (tX0_isWorld l N G x4_2 x5_5 x6_8 r_13 hq_14) (lw_V q1064 q1066 qs28 q67 q1067) ydX0_isWorld ⟨by decide, by decide⟩ rfl hl.1 rfl (Nat.le_of_ble_eq_true rfl) (by decide) dX0_dangers_74 (fun H locs Y => ?_)
                        refine lv_if_eq (tgt := 84) hx hb dX0_dangers_77 (by decide) (fun c_15 => ?_) (fun c_15 => ?_)
                        · rw [if_pos c_15] at hf
                          refine lv_iconst (v := (0 : Int32)) hx hb dX0_dangers_84 (by decide) ?_
                          cases hf
                          exact J85_30 _ _ Y _ (lv_sub hl [0, 1, 2, 4, 5, 6] rfl)
                        · rw [if_neg c_15] at hf
                          refine lv_iconst (v := (1 : Int32)) hx hb dX0_dangers_80 (by decide) ?_
                          refine lv_goto (tgt := 85) hx hb dX0_dangers_81 (by decide) ?_
                          cases hf
                          exact J85_30 _ _ Y _ (lv_sub hl [0, 1, 2, 4, 5, 6] rfl)
              exact L29_29 N _ _ hL _ _ Y _ (lv_sub hl [1, 2, 3, 4, 5, 6, 0] rfl)
        exact L17_28 N _ _ hL _ _ Y _ (lv_sub hl [1, 2, 3, 4, 5, 0] rfl)
  exact L5_27 N _ _ hL _ _ Y _ (lv_sub hl [2, 3, 4, 1, 0] rfl)

def fX0_safest_L32 (N : Nat) (G : GS) (a1 : Int32) : Nat → Int32 → Int32 → Int32 → Option (Int32 × Int32)
  | 0, _, _, _ => none
  | n_ + 1, x3_7, x4_8, x5_9 =>
    if (G 0 1) ≤ x5_9 then (
     some (x3_7, x4_8)
    ) else (
     bd1 (fX0_fits N G a1 x5_9) fun r_11 =>
     bd1 (
      if r_11 = (0 : Int32) then (
       some (-1 : Int32)
      ) else (
       bd1 (fX0_dangers N G a1 x5_9) fun r_14 =>
       some r_14
      )
     ) fun j_16 =>
     bd2 (
      if j_16 = (-1 : Int32) then (
       some (x3_7, x4_8)
      ) else (
       if x3_7 = (-1 : Int32) then (
        some (x5_9, j_16)
       ) else (
        if x4_8 ≤ j_16 then (
         some (x3_7, x4_8)
        ) else (
         some (x5_9, j_16)
        )
       )
      )
     ) fun x3_20 x4_21 =>
     nm ((x5_9 + (1 : Int32)) : Int32) fun x5_22 =>
     fX0_safest_L32 N G a1 n_ x3_20 x4_21 x5_22
    )
def fX0_safest (N : Nat) (G : GS) (a1 : Int32) (a2 : Int32) : Option Int32 :=
  bd1 (fX0_isKnight N G a1) fun r_1 =>
  if r_1 = (0 : Int32) then (
   some (-2 : Int32)
  ) else (
   bd1 (fX0_in N (a2).toInt64 (0 : Int64) (1 : Int64)) fun r_4 =>
   if r_4 = (0 : Int32) then (
    some (-3 : Int32)
   ) else (
    bd2 (fX0_safest_L32 N G a1 N (-1 : Int32) (0 : Int32) (0 : Int32)) fun x3_23 x4_24 =>
    if x3_23 = (-1 : Int32) then (
     some x3_23
    ) else (
     if a2 = (0 : Int32) then (
      some x3_23
     ) else (
      some x4_24
     )
    )
   )
  )
theorem ydX0_safest : yX0_safest.cls = RX0 ∧ yX0_safest.cls ≠ "java/lang/invoke/MethodHandle" ∧ yX0_safest.cls ≠ "java/lang/invoke/VarHandle" ∧ (parseMethodDescriptor yX0_safest.desc).map (fun d => d.parameters.length) = some 2 := by decide +kernel
set_option maxHeartbeats 4000000 in
theorem tX0_safest (l : Launch) (N : Nat) (G : GS) (a1 : Int32) (a2 : Int32) (r : Int32) (hf : fX0_safest N G a1 a2 = some r) : cMet l yX0_safest cX0_safest 7 (some .int) (cR 6 0 0) [.int a1, .int a2] G (some (.int r)) G true := by
  unfold fX0_safest at hf
  refine cMet_of (by decide +kernel) rfl (Nat.le_of_ble_eq_true rfl) (fun {p e s m args below meth c ls D cA h ad A Z} X Y hl => ?_)
  have hx := X.1.1.1
  have hb := X.1.1.2.1
  have hZ : true = true → Z = Z := fun _ => rfl
  have hl : lv_has ls 7 [(0, .ref h), (1, .int a1), (2, .int a2)] := hl
  refine lv_aload_n hx hb dX0_safest_0 rfl (lv_at hl 0 rfl) ?_
  refine lv_iload_n hx hb dX0_safest_1 rfl (lv_at hl 1 rfl) ?_
  obtain ⟨r_1, hq_2, hf⟩ := bd1_s hf
  refine ccI (av := [.int a1]) (rest := []) 1 X Y (tX0_isKnight l N G a1 r_1 hq_2) (lw_V q794 q796 qs15 q67 q797) ydX0_isKnight ⟨by decide, by decide⟩ rfl hl.1 rfl (Nat.le_of_ble_eq_true rfl) (by decide) dX0_safest_2 (fun H locs Y => ?_)
  refine lv_if_ne (tgt := 11) hx hb dX0_safest_5 (by decide) (fun c_3 => ?_) (fun c_3 => ?_)
  · rw [if_neg c_3] at hf
    refine lv_iload_n hx hb dX0_safest_11 rfl (lv_at hl 2 rfl) ?_
    refine lv_i2l (v := (a2).toInt64) hx hb dX0_safest_12 rfl ?_
    refine lv_lconst (v := (0 : Int64)) hx hb dX0_safest_13 (by decide) ?_
    refine lv_lconst (v := (1 : Int64)) hx hb dX0_safest_14 (by decide) ?_
    obtain ⟨r_4, hq_5, hf⟩ := bd1_s hf
    refine c_callSI (av := [.long (a2).toInt64, .long (0 : Int64), .long (1 : Int64)]) (rest := []) 3 X Y (tX0_in l N (a2).toInt64 (0 : Int64) (1 : Int64) r_4 hq_5) (lw_S q235 q236 q67 q237) ydX0_in ⟨rfl, rfl, by decide, by decide⟩ rfl hl.1 rfl (Nat.le_of_ble_eq_true rfl) (by decide) dX0_safest_15 (fun H locs Y => ?_)
    refine lv_if_ne (tgt := 24) hx hb dX0_safest_18 (by decide) (fun c_6 => ?_) (fun c_6 => ?_)
    · rw [if_neg c_6] at hf
      refine lv_iconst (v := (-1 : Int32)) hx hb dX0_safest_24 (by decide) ?_
      refine lv_istore_n (lv' := [(3, .int (-1 : Int32)), (0, .ref h), (1, .int a1), (2, .int a2)]) hx hb dX0_safest_25 rfl hl (by decide) rfl (fun ls hl => ?_)
      refine lv_iconst (v := (0 : Int32)) hx hb dX0_safest_26 (by decide) ?_
      refine lv_istore (lv' := [(4, .int (0 : Int32)), (3, .int (-1 : Int32)), (0, .ref h), (1, .int a1), (2, .int a2)]) hx hb dX0_safest_27 hl (by decide) rfl (fun ls hl => ?_)
      refine lv_iconst (v := (0 : Int32)) hx hb dX0_safest_29 (by decide) ?_
      refine lv_istore (lv' := [(5, .int (0 : Int32)), (4, .int (0 : Int32)), (3, .int (-1 : Int32)), (0, .ref h), (1, .int a1), (2, .int a2)]) hx hb dX0_safest_30 hl (by decide) rfl (fun ls hl => ?_)
      obtain ⟨x3_23, x4_24, hL, hf⟩ := bd2_s hf
      have E32_27 : ∀ (H : Heap) (locs : List Loc), CY D cA A s h ad G Z H locs → ∀ ls : Array Slot, lv_has ls 7 [(2, .int a2), (3, .int x3_23), (4, .int x4_24)] → W p l e (cR 6 0 0) s m args below meth c H locs 0 0 (MQ below (cQ D cA h ad A Z true (some (.int r)) G) args s 0 0 A) (F0 m 95 ls []) := by
        clear hL
        intro H locs Y ls hl
        refine lv_iload_n hx hb dX0_safest_95 rfl (lv_at hl 1 rfl) ?_
        refine lv_iconst (v := (-1 : Int32)) hx hb dX0_safest_96 (by decide) ?_
        refine lv_icmp_eq (tgt := 104) hx hb dX0_safest_97 (by decide) (fun c_25 => ?_) (fun c_25 => ?_)
        · rw [if_pos c_25] at hf
          refine lv_iload_n hx hb dX0_safest_104 rfl (lv_at hl 1 rfl) ?_
          refine lv_goto (tgt := 110) hx hb dX0_safest_105 (by decide) ?_
          cases hf
          exact c_iret X hZ Y dX0_safest_110
        · rw [if_neg c_25] at hf
          refine lv_iload_n hx hb dX0_safest_100 rfl (lv_at hl 0 rfl) ?_
          refine lv_if_ne (tgt := 108) hx hb dX0_safest_101 (by decide) (fun c_26 => ?_) (fun c_26 => ?_)
          · rw [if_neg c_26] at hf
            refine lv_iload hx hb dX0_safest_108 (lv_at hl 2 rfl) ?_
            cases hf
            exact c_iret X hZ Y dX0_safest_110
          · rw [if_pos c_26] at hf
            refine lv_iload_n hx hb dX0_safest_104 rfl (lv_at hl 1 rfl) ?_
            refine lv_goto (tgt := 110) hx hb dX0_safest_105 (by decide) ?_
            cases hf
            exact c_iret X hZ Y dX0_safest_110
      clear hf
      have L32_27 : ∀ (n_ : Nat) (x3_7 : Int32) (x4_8 : Int32) (x5_9 : Int32), fX0_safest_L32 N G a1 n_ x3_7 x4_8 x5_9 = some (x3_23, x4_24) → ∀ (H : Heap) (locs : List Loc), CY D cA A s h ad G Z H locs → ∀ ls : Array Slot, lv_has ls 7 [(0, .ref h), (1, .int a1), (2, .int a2), (3, .int x3_7), (4, .int x4_8), (5, .int x5_9)] → W p l e (cR 6 0 0) s m args below meth c H locs 0 0 (MQ below (cQ D cA h ad A Z true (some (.int r)) G) args s 0 0 A) (F0 m 32 ls []) := by
        clear hL
        intro n_
        induction n_ with
        | zero =>
          intro x3_7 x4_8 x5_9 hf
          rw [fX0_safest_L32.eq_1] at hf
          cases hf
        | succ n_ ih =>
          intro x3_7 x4_8 x5_9 hf
          intro H locs Y ls hl
          rw [fX0_safest_L32.eq_2] at hf
          refine lv_iload hx hb dX0_safest_32 (lv_at hl 5 rfl) ?_
          refine lv_aload_n hx hb dX0_safest_34 rfl (lv_at hl 0 rfl) ?_
          refine cg (v := .int (G 0 1)) X Y 1 (by decide) q157 rfl rfl dX0_safest_35 ?_
          refine lv_icmp_ge (tgt := 95) hx hb dX0_safest_38 (by decide) (fun c_10 => ?_) (fun c_10 => ?_)
          · rw [if_pos c_10] at hf
            cases hf
            exact E32_27 _ _ Y _ (lv_sub hl [2, 3, 4] rfl)
          · rw [if_neg c_10] at hf
            refine lv_aload_n hx hb dX0_safest_41 rfl (lv_at hl 0 rfl) ?_
            refine lv_iload_n hx hb dX0_safest_42 rfl (lv_at hl 1 rfl) ?_
            refine lv_iload hx hb dX0_safest_43 (lv_at hl 5 rfl) ?_
            obtain ⟨r_11, hq_12, hf⟩ := bd1_s hf
            refine ccI (av := [.int a1, .int x5_9]) (rest := []) 2 X Y (tX0_fits l N G a1 x5_9 r_11 hq_12) (lw_V q946 q948 qs21 q67 q949) ydX0_fits ⟨by decide, by decide⟩ rfl hl.1 rfl (Nat.le_of_ble_eq_true rfl) (by decide) dX0_safest_45 (fun H locs Y => ?_)
            obtain ⟨j_16, hj, hf⟩ := bd1_s hf
            have J62_28 : ∀ (H : Heap) (locs : List Loc), CY D cA A s h ad G Z H locs → ∀ ls : Array Slot, lv_has ls 7 [(0, .ref h), (1, .int a1), (2, .int a2), (3, .int x3_7), (4, .int x4_8), (5, .int x5_9)] → W p l e (cR 6 0 0) s m args below meth c H locs 0 0 (MQ below (cQ D cA h ad A Z true (some (.int r)) G) args s 0 0 A) (F0 m 62 ls [.int j_16]) := by
              clear hj
              intro H locs Y ls hl
              refine lv_istore (lv' := [(6, .int j_16), (0, .ref h), (1, .int a1), (2, .int a2), (3, .int x3_7), (4, .int x4_8), (5, .int x5_9)]) hx hb dX0_safest_62 hl (by decide) rfl (fun ls hl => ?_)
              refine lv_iload hx hb dX0_safest_64 (lv_at hl 0 rfl) ?_
              refine lv_iconst (v := (-1 : Int32)) hx hb dX0_safest_66 (by decide) ?_
              obtain ⟨x3_20, x4_21, hj, hf⟩ := bd2_s hf
              have J89_29 : ∀ (H : Heap) (locs : List Loc), CY D cA A s h ad G Z H locs → ∀ ls : Array Slot, lv_has ls 7 [(0, .ref h), (1, .int a1), (2, .int a2), (3, .int x3_20), (4, .int x4_21), (5, .int x5_9)] → W p l e (cR 6 0 0) s m args below meth c H locs 0 0 (MQ below (cQ D cA h ad A Z true (some (.int r)) G) args s 0 0 A) (F0 m 89 ls []) := by
                clear hj
                intro H locs Y ls hl
                obtain ⟨x5_22, ex5_22, hf⟩ := nm_s hf
                refine lv_iinc (v := x5_22) (lv' := [(5, .int x5_22), (0, .ref h), (1, .int a1), (2, .int a2), (3, .int x3_20), (4, .int x4_21)]) hx hb dX0_safest_89 hl (k := 5) rfl (by rw [ex5_22]; rfl) (by decide) rfl (fun ls hl => ?_)
                refine lv_goto (tgt := 32) hx hb dX0_safest_92 (by decide) ?_
                exact ih _ _ _ hf _ _ Y _ (lv_sub hl [1, 2, 3, 4, 5, 0] rfl)
              replace hf := hj
              clear hj
              refine lv_icmp_eq (tgt := 89) hx hb dX0_safest_67 (by decide) (fun c_17 => ?_) (fun c_17 => ?_)
              · rw [if_pos c_17] at hf
                cases hf
                exact J89_29 _ _ Y _ (lv_sub hl [1, 2, 3, 4, 5, 6] rfl)
              · rw [if_neg c_17] at hf
                refine lv_iload_n hx hb dX0_safest_70 rfl (lv_at hl 4 rfl) ?_
                refine lv_iconst (v := (-1 : Int32)) hx hb dX0_safest_71 (by decide) ?_
                refine lv_icmp_eq (tgt := 82) hx hb dX0_safest_72 (by decide) (fun c_18 => ?_) (fun c_18 => ?_)
                · rw [if_pos c_18] at hf
                  refine lv_iload hx hb dX0_safest_82 (lv_at hl 6 rfl) ?_
                  refine lv_istore_n (lv' := [(3, .int x5_9), (6, .int j_16), (0, .ref h), (1, .int a1), (2, .int a2), (4, .int x4_8), (5, .int x5_9)]) hx hb dX0_safest_84 rfl hl (by decide) rfl (fun ls hl => ?_)
                  refine lv_iload hx hb dX0_safest_85 (lv_at hl 1 rfl) ?_
                  refine lv_istore (lv' := [(4, .int j_16), (3, .int x5_9), (6, .int j_16), (0, .ref h), (1, .int a1), (2, .int a2), (5, .int x5_9)]) hx hb dX0_safest_87 hl (by decide) rfl (fun ls hl => ?_)
                  cases hf
                  exact J89_29 _ _ Y _ (lv_sub hl [3, 4, 5, 1, 0, 6] rfl)
                · rw [if_neg c_18] at hf
                  refine lv_iload hx hb dX0_safest_75 (lv_at hl 0 rfl) ?_
                  refine lv_iload hx hb dX0_safest_77 (lv_at hl 5 rfl) ?_
                  refine lv_icmp_ge (tgt := 89) hx hb dX0_safest_79 (by decide) (fun c_19 => ?_) (fun c_19 => ?_)
                  · rw [if_pos c_19] at hf
                    cases hf
                    exact J89_29 _ _ Y _ (lv_sub hl [1, 2, 3, 4, 5, 6] rfl)
                  · rw [if_neg c_19] at hf
                    refine lv_iload hx hb dX0_safest_82 (lv_at hl 6 rfl) ?_
                    refine lv_istore_n (lv' := [(3, .int x5_9), (6, .int j_16), (0, .ref h), (1, .int a1), (2, .int a2), (4, .int x4_8), (5, .int x5_9)]) hx hb dX0_safest_84 rfl hl (by decide) rfl (fun ls hl => ?_)
                    refine lv_iload hx hb dX0_safest_85 (lv_at hl 1 rfl) ?_
                    refine lv_istore (lv' := [(4, .int j_16), (3, .int x5_9), (6, .int j_16), (0, .ref h), (1, .int a1), (2, .int a2), (5, .int x5_9)]) hx hb dX0_safest_87 hl (by decide) rfl (fun ls hl => ?_)
                    cases hf
                    exact J89_29 _ _ Y _ (lv_sub hl [3, 4, 5, 1, 0, 6] rfl)
            replace hf := hj
            clear hj
            refine lv_if_eq (tgt := 61) hx hb dX0_safest_48 (by decide) (fun c_13 => ?_) (fun c_13 => ?_)
            · rw [if_pos c_13] at hf
              refine lv_iconst (v := (-1 : Int32)) hx hb dX0_safest_61 (by decide) ?_
              cases hf
              exact J62_28 _ _ Y _ (lv_sub hl [0, 1, 2, 3, 4, 5] rfl)
            · rw [if_neg c_13] at hf
              refine lv_aload_n hx hb dX0_safest_51 rfl (lv_at hl 0 rfl) ?_
              refine lv_iload_n hx hb dX0_safest_52 rfl (lv_at hl 1 rfl) ?_
              refine lv_iload hx hb dX0_safest_53 (lv_at hl 5 rfl) ?_
              obtain ⟨r_14, hq_15, hf⟩ := bd1_s hf
              refine ccI (av := [.int a1, .int x5_9]) (rest := []) 2 X Y (tX0_dangers l N G a1 x5_9 r_14 hq_15) (lw_V q1072 q1074 qs29 q67 q1075) ydX0_dangers ⟨by decide, by decide⟩ rfl hl.1 rfl (Nat.le_of_ble_eq_true rfl) (by decide) dX0_safest_55 (fun H locs Y => ?_)
              refine lv_goto (tgt := 62) hx hb dX0_safest_58 (by decide) ?_
              cases hf
              exact J62_28 _ _ Y _ (lv_sub hl [0, 1, 2, 3, 4, 5] rfl)
      exact L32_27 N _ _ _ hL _ _ Y _ (lv_sub hl [3, 4, 5, 2, 1, 0] rfl)
    · rw [if_pos c_6] at hf
      refine lv_bipush (v := (-3 : Int32)) hx hb dX0_safest_21 (by decide) ?_
      cases hf
      exact c_iret X hZ Y dX0_safest_23
  · rw [if_pos c_3] at hf
    refine lv_bipush (v := (-2 : Int32)) hx hb dX0_safest_8 (by decide) ?_
    cases hf
    exact c_iret X hZ Y dX0_safest_10

def fJ11_bitCount (N : Nat) (a1 : Int32) : Option Int32 :=
  nm ((a1 - (((a1).toUInt32 >>> (((1 : Int32)).toUInt32 &&& Int32.toUInt32 31)).toInt32 &&& (1431655765 : Int32))) : Int32) fun x0_1 =>
  nm (((x0_1 &&& (858993459 : Int32)) + (((x0_1).toUInt32 >>> (((2 : Int32)).toUInt32 &&& Int32.toUInt32 31)).toInt32 &&& (858993459 : Int32))) : Int32) fun x0_2 =>
  nm (((x0_2 + ((x0_2).toUInt32 >>> (((4 : Int32)).toUInt32 &&& Int32.toUInt32 31)).toInt32) &&& (252645135 : Int32)) : Int32) fun x0_3 =>
  nm ((x0_3 + ((x0_3).toUInt32 >>> (((8 : Int32)).toUInt32 &&& Int32.toUInt32 31)).toInt32) : Int32) fun x0_4 =>
  nm ((x0_4 + ((x0_4).toUInt32 >>> (((16 : Int32)).toUInt32 &&& Int32.toUInt32 31)).toInt32) : Int32) fun x0_5 =>
  some (x0_5 &&& (63 : Int32))
theorem ydJ11_bitCount : yJ11_bitCount.cls ≠ "java/lang/invoke/MethodHandle" ∧ yJ11_bitCount.cls ≠ "java/lang/invoke/VarHandle" ∧ (parseMethodDescriptor yJ11_bitCount.desc).map (fun d => d.parameters.length) = some 1 := by decide +kernel
set_option maxHeartbeats 4000000 in
theorem tJ11_bitCount (l : Launch) (N : Nat) (a1 : Int32) (r : Int32) (hf : fJ11_bitCount N a1 = some r) : sMet l yJ11_bitCount cJ11_bitCount 1 (some .int) (mR 0) [.int a1] (some (.int r)) := by
  unfold fJ11_bitCount at hf
  refine sMet_of (by decide +kernel) (Nat.le_of_ble_eq_true rfl) (fun {p e s m args below meth c ls} B hS hl => ?_)
  have hx := B.1
  have hb := B.2.1
  have hl : lv_has ls 1 [(0, .int a1)] := hl
  refine lv_iload_n hx hb dJ11_bitCount_0 rfl (lv_at hl 0 rfl) ?_
  refine lv_iload_n hx hb dJ11_bitCount_1 rfl (lv_at hl 0 rfl) ?_
  refine lv_iconst (v := (1 : Int32)) hx hb dJ11_bitCount_2 (by decide) ?_
  refine lv_iushr (v := ((a1).toUInt32 >>> (((1 : Int32)).toUInt32 &&& Int32.toUInt32 31)).toInt32) hx hb dJ11_bitCount_3 rfl ?_
  refine lv_ldcw (v := (1431655765 : Int32)) hx hb B.2.2.2.1 (B.2.2.2.2.1 _ q923) dJ11_bitCount_4 ?_
  refine lv_iand hx hb dJ11_bitCount_7 ?_
  refine lv_isub hx hb dJ11_bitCount_8 ?_
  obtain ⟨x0_1, ex0_1, hf⟩ := nm_s hf
  refine lv_topE ex0_1 ?_
  refine lv_istore_n (lv' := [(0, .int x0_1)]) hx hb dJ11_bitCount_9 rfl hl (by decide) rfl (fun ls hl => ?_)
  refine lv_iload_n hx hb dJ11_bitCount_10 rfl (lv_at hl 0 rfl) ?_
  refine lv_ldcw (v := (858993459 : Int32)) hx hb B.2.2.2.1 (B.2.2.2.2.1 _ q924) dJ11_bitCount_11 ?_
  refine lv_iand hx hb dJ11_bitCount_14 ?_
  refine lv_iload_n hx hb dJ11_bitCount_15 rfl (lv_at hl 0 rfl) ?_
  refine lv_iconst (v := (2 : Int32)) hx hb dJ11_bitCount_16 (by decide) ?_
  refine lv_iushr (v := ((x0_1).toUInt32 >>> (((2 : Int32)).toUInt32 &&& Int32.toUInt32 31)).toInt32) hx hb dJ11_bitCount_17 rfl ?_
  refine lv_ldcw (v := (858993459 : Int32)) hx hb B.2.2.2.1 (B.2.2.2.2.1 _ q924) dJ11_bitCount_18 ?_
  refine lv_iand hx hb dJ11_bitCount_21 ?_
  refine lv_iadd hx hb dJ11_bitCount_22 ?_
  obtain ⟨x0_2, ex0_2, hf⟩ := nm_s hf
  refine lv_topE ex0_2 ?_
  refine lv_istore_n (lv' := [(0, .int x0_2)]) hx hb dJ11_bitCount_23 rfl hl (by decide) rfl (fun ls hl => ?_)
  refine lv_iload_n hx hb dJ11_bitCount_24 rfl (lv_at hl 0 rfl) ?_
  refine lv_iload_n hx hb dJ11_bitCount_25 rfl (lv_at hl 0 rfl) ?_
  refine lv_iconst (v := (4 : Int32)) hx hb dJ11_bitCount_26 (by decide) ?_
  refine lv_iushr (v := ((x0_2).toUInt32 >>> (((4 : Int32)).toUInt32 &&& Int32.toUInt32 31)).toInt32) hx hb dJ11_bitCount_27 rfl ?_
  refine lv_iadd hx hb dJ11_bitCount_28 ?_
  refine lv_ldcw (v := (252645135 : Int32)) hx hb B.2.2.2.1 (B.2.2.2.2.1 _ q925) dJ11_bitCount_29 ?_
  refine lv_iand hx hb dJ11_bitCount_32 ?_
  obtain ⟨x0_3, ex0_3, hf⟩ := nm_s hf
  refine lv_topE ex0_3 ?_
  refine lv_istore_n (lv' := [(0, .int x0_3)]) hx hb dJ11_bitCount_33 rfl hl (by decide) rfl (fun ls hl => ?_)
  refine lv_iload_n hx hb dJ11_bitCount_34 rfl (lv_at hl 0 rfl) ?_
  refine lv_iload_n hx hb dJ11_bitCount_35 rfl (lv_at hl 0 rfl) ?_
  refine lv_bipush (v := (8 : Int32)) hx hb dJ11_bitCount_36 (by decide) ?_
  refine lv_iushr (v := ((x0_3).toUInt32 >>> (((8 : Int32)).toUInt32 &&& Int32.toUInt32 31)).toInt32) hx hb dJ11_bitCount_38 rfl ?_
  refine lv_iadd hx hb dJ11_bitCount_39 ?_
  obtain ⟨x0_4, ex0_4, hf⟩ := nm_s hf
  refine lv_topE ex0_4 ?_
  refine lv_istore_n (lv' := [(0, .int x0_4)]) hx hb dJ11_bitCount_40 rfl hl (by decide) rfl (fun ls hl => ?_)
  refine lv_iload_n hx hb dJ11_bitCount_41 rfl (lv_at hl 0 rfl) ?_
  refine lv_iload_n hx hb dJ11_bitCount_42 rfl (lv_at hl 0 rfl) ?_
  refine lv_bipush (v := (16 : Int32)) hx hb dJ11_bitCount_43 (by decide) ?_
  refine lv_iushr (v := ((x0_4).toUInt32 >>> (((16 : Int32)).toUInt32 &&& Int32.toUInt32 31)).toInt32) hx hb dJ11_bitCount_45 rfl ?_
  refine lv_iadd hx hb dJ11_bitCount_46 ?_
  obtain ⟨x0_5, ex0_5, hf⟩ := nm_s hf
  refine lv_topE ex0_5 ?_
  refine lv_istore_n (lv' := [(0, .int x0_5)]) hx hb dJ11_bitCount_47 rfl hl (by decide) rfl (fun ls hl => ?_)
  refine lv_iload_n hx hb dJ11_bitCount_48 rfl (lv_at hl 0 rfl) ?_
  refine lv_bipush (v := (63 : Int32)) hx hb dJ11_bitCount_49 (by decide) ?_
  refine lv_iand hx hb dJ11_bitCount_51 ?_
  cases hf
  exact s_iret B hS dJ11_bitCount_52

def fX0_count_L4 (N : Nat) (G : GS) : Nat → Int32 → Int32 → Option Int32
  | 0, _, _ => none
  | n_ + 1, x2_1, x3_2 =>
    if (G 0 3) ≤ x3_2 then (
     some x2_1
    ) else (
     gd (inb x3_2 6) <|
     nm (G 4 (x3_2).toNatClampNeg : Int32) fun v_5 =>
     bd1 (fJ11_bitCount N v_5) fun r_6 =>
     nm ((x2_1 + r_6) : Int32) fun x2_8 =>
     nm ((x3_2 + (1 : Int32)) : Int32) fun x3_9 =>
     fX0_count_L4 N G n_ x2_8 x3_9
    )
def fX0_count (N : Nat) (G : GS) (a1 : Int32) : Option Int32 :=
  bd1 (fX0_count_L4 N G N (0 : Int32) (0 : Int32)) fun x2_10 =>
  if a1 = (0 : Int32) then (
   some (G 0 1)
  ) else (
  if a1 = (1 : Int32) then (
   some (G 0 3)
  ) else (
  if a1 = (2 : Int32) then (
   some (G 8 4)
  ) else (
  if a1 = (3 : Int32) then (
   bd1 (fX0_perilNow N G) fun r_12 =>
   some r_12
  ) else (
  if a1 = (4 : Int32) then (
   some (G 8 3)
  ) else (
  if a1 = (5 : Int32) then (
   bd1 (fX0_sitting N G) fun r_14 =>
   some r_14
  ) else (
  if a1 = (6 : Int32) then (
   some (G 0 13)
  ) else (
  if a1 = (7 : Int32) then (
   gd (¬ (2 : Int32) = (0 : Int32)) <|
   some (x2_10 / (2 : Int32))
  ) else (
  if a1 = (8 : Int32) then (
   some (G 0 11)
  ) else (
  if a1 = (9 : Int32) then (
   some (G 0 15)
  ) else (
   some (-3 : Int32)
  ))))))))))
theorem ydX0_count : yX0_count.cls = RX0 ∧ yX0_count.cls ≠ "java/lang/invoke/MethodHandle" ∧ yX0_count.cls ≠ "java/lang/invoke/VarHandle" ∧ (parseMethodDescriptor yX0_count.desc).map (fun d => d.parameters.length) = some 1 := by decide +kernel
set_option maxHeartbeats 4000000 in
theorem tX0_count (l : Launch) (N : Nat) (G : GS) (a1 : Int32) (r : Int32) (hf : fX0_count N G a1 = some r) : cMet l yX0_count cX0_count 4 (some .int) (cR 1 0 0) [.int a1] G (some (.int r)) G true := by
  unfold fX0_count at hf
  refine cMet_of (by decide +kernel) rfl (Nat.le_of_ble_eq_true rfl) (fun {p e s m args below meth c ls D cA h ad A Z} X Y hl => ?_)
  have hx := X.1.1.1
  have hb := X.1.1.2.1
  have hZ : true = true → Z = Z := fun _ => rfl
  have hl : lv_has ls 4 [(0, .ref h), (1, .int a1)] := hl
  refine lv_iconst (v := (0 : Int32)) hx hb dX0_count_0 (by decide) ?_
  refine lv_istore_n (lv' := [(2, .int (0 : Int32)), (0, .ref h), (1, .int a1)]) hx hb dX0_count_1 rfl hl (by decide) rfl (fun ls hl => ?_)
  refine lv_iconst (v := (0 : Int32)) hx hb dX0_count_2 (by decide) ?_
  refine lv_istore_n (lv' := [(3, .int (0 : Int32)), (2, .int (0 : Int32)), (0, .ref h), (1, .int a1)]) hx hb dX0_count_3 rfl hl (by decide) rfl (fun ls hl => ?_)
  obtain ⟨x2_10, hL, hf⟩ := bd1_s hf
  have E4_17 : ∀ (H : Heap) (locs : List Loc), CY D cA A s h ad G Z H locs → ∀ ls : Array Slot, lv_has ls 4 [(0, .ref h), (1, .int a1), (2, .int x2_10)] → W p l e (cR 1 0 0) s m args below meth c H locs 0 0 (MQ below (cQ D cA h ad A Z true (some (.int r)) G) args s 0 0 A) (F0 m 30 ls []) := by
    clear hL
    intro H locs Y ls hl
    refine lv_iload_n hx hb dX0_count_30 rfl (lv_at hl 1 rfl) ?_
    by_cases c_11_0 : a1 = (0 : Int32)
    · rw [if_pos c_11_0] at hf
      refine lv_tableIn (off := 53) (tgt := 84) hx hb dX0_count_31 (by rw [c_11_0]; decide) (by rw [c_11_0]; decide) (by rw [c_11_0]; rfl) (by decide) ?_
      refine lv_aload_n hx hb dX0_count_84 rfl (lv_at hl 0 rfl) ?_
      refine cg (v := .int (G 0 1)) X Y 1 (by decide) q157 rfl rfl dX0_count_85 ?_
      cases hf
      exact c_iret X hZ Y dX0_count_88
    rw [if_neg c_11_0] at hf
    by_cases c_11_1 : a1 = (1 : Int32)
    · rw [if_pos c_11_1] at hf
      refine lv_tableIn (off := 58) (tgt := 89) hx hb dX0_count_31 (by rw [c_11_1]; decide) (by rw [c_11_1]; decide) (by rw [c_11_1]; rfl) (by decide) ?_
      refine lv_aload_n hx hb dX0_count_89 rfl (lv_at hl 0 rfl) ?_
      refine cg (v := .int (G 0 3)) X Y 3 (by decide) q160 rfl rfl dX0_count_90 ?_
      cases hf
      exact c_iret X hZ Y dX0_count_93
    rw [if_neg c_11_1] at hf
    by_cases c_11_2 : a1 = (2 : Int32)
    · rw [if_pos c_11_2] at hf
      refine lv_tableIn (off := 63) (tgt := 94) hx hb dX0_count_31 (by rw [c_11_2]; decide) (by rw [c_11_2]; decide) (by rw [c_11_2]; rfl) (by decide) ?_
      refine lv_aload_n hx hb dX0_count_94 rfl (lv_at hl 0 rfl) ?_
      refine cg (v := .ref (ad 8)) X Y 8 (by decide) q165 rfl rfl dX0_count_95 ?_
      refine cgn (v := .int (G 8 4)) X Y 4 (by decide) q127 rfl rfl dX0_count_98 ?_
      cases hf
      exact c_iret X hZ Y dX0_count_101
    rw [if_neg c_11_2] at hf
    by_cases c_11_3 : a1 = (3 : Int32)
    · rw [if_pos c_11_3] at hf
      refine lv_tableIn (off := 71) (tgt := 102) hx hb dX0_count_31 (by rw [c_11_3]; decide) (by rw [c_11_3]; decide) (by rw [c_11_3]; rfl) (by decide) ?_
      refine lv_aload_n hx hb dX0_count_102 rfl (lv_at hl 0 rfl) ?_
      obtain ⟨r_12, hq_13, hf⟩ := bd1_s hf
      refine ccI (av := []) (rest := []) 0 X Y (tX0_perilNow l N G r_12 hq_13) (lw_V q786 q788 qs14 q67 q789) ydX0_perilNow ⟨by decide, by decide⟩ rfl hl.1 rfl (Nat.le_of_ble_eq_true rfl) (by decide) dX0_count_103 (fun H locs Y => ?_)
      cases hf
      exact c_iret X hZ Y dX0_count_106
    rw [if_neg c_11_3] at hf
    by_cases c_11_4 : a1 = (4 : Int32)
    · rw [if_pos c_11_4] at hf
      refine lv_tableIn (off := 76) (tgt := 107) hx hb dX0_count_31 (by rw [c_11_4]; decide) (by rw [c_11_4]; decide) (by rw [c_11_4]; rfl) (by decide) ?_
      refine lv_aload_n hx hb dX0_count_107 rfl (lv_at hl 0 rfl) ?_
      refine cg (v := .ref (ad 8)) X Y 8 (by decide) q165 rfl rfl dX0_count_108 ?_
      refine cgn (v := .int (G 8 3)) X Y 3 (by decide) q125 rfl rfl dX0_count_111 ?_
      cases hf
      exact c_iret X hZ Y dX0_count_114
    rw [if_neg c_11_4] at hf
    by_cases c_11_5 : a1 = (5 : Int32)
    · rw [if_pos c_11_5] at hf
      refine lv_tableIn (off := 84) (tgt := 115) hx hb dX0_count_31 (by rw [c_11_5]; decide) (by rw [c_11_5]; decide) (by rw [c_11_5]; rfl) (by decide) ?_
      refine lv_aload_n hx hb dX0_count_115 rfl (lv_at hl 0 rfl) ?_
      obtain ⟨r_14, hq_15, hf⟩ := bd1_s hf
      refine ccI (av := []) (rest := []) 0 X Y (tX0_sitting l N G r_14 hq_15) (lw_V q906 q908 qs17 q67 q909) ydX0_sitting ⟨by decide, by decide⟩ rfl hl.1 rfl (Nat.le_of_ble_eq_true rfl) (by decide) dX0_count_116 (fun H locs Y => ?_)
      cases hf
      exact c_iret X hZ Y dX0_count_119
    rw [if_neg c_11_5] at hf
    by_cases c_11_6 : a1 = (6 : Int32)
    · rw [if_pos c_11_6] at hf
      refine lv_tableIn (off := 89) (tgt := 120) hx hb dX0_count_31 (by rw [c_11_6]; decide) (by rw [c_11_6]; decide) (by rw [c_11_6]; rfl) (by decide) ?_
      refine lv_aload_n hx hb dX0_count_120 rfl (lv_at hl 0 rfl) ?_
      refine cg (v := .int (G 0 13)) X Y 13 (by decide) q170 rfl rfl dX0_count_121 ?_
      cases hf
      exact c_iret X hZ Y dX0_count_124
    rw [if_neg c_11_6] at hf
    by_cases c_11_7 : a1 = (7 : Int32)
    · rw [if_pos c_11_7] at hf
      refine lv_tableIn (off := 94) (tgt := 125) hx hb dX0_count_31 (by rw [c_11_7]; decide) (by rw [c_11_7]; decide) (by rw [c_11_7]; rfl) (by decide) ?_
      refine lv_iload_n hx hb dX0_count_125 rfl (lv_at hl 2 rfl) ?_
      refine lv_iconst (v := (2 : Int32)) hx hb dX0_count_126 (by decide) ?_
      obtain ⟨b_16, hf⟩ := gd_s hf
      refine lv_idiv hx hb dX0_count_127 b_16 ?_
      cases hf
      exact c_iret X hZ Y dX0_count_128
    rw [if_neg c_11_7] at hf
    by_cases c_11_8 : a1 = (8 : Int32)
    · rw [if_pos c_11_8] at hf
      refine lv_tableIn (off := 98) (tgt := 129) hx hb dX0_count_31 (by rw [c_11_8]; decide) (by rw [c_11_8]; decide) (by rw [c_11_8]; rfl) (by decide) ?_
      refine lv_aload_n hx hb dX0_count_129 rfl (lv_at hl 0 rfl) ?_
      refine cg (v := .int (G 0 11)) X Y 11 (by decide) q168 rfl rfl dX0_count_130 ?_
      cases hf
      exact c_iret X hZ Y dX0_count_133
    rw [if_neg c_11_8] at hf
    by_cases c_11_9 : a1 = (9 : Int32)
    · rw [if_pos c_11_9] at hf
      refine lv_tableIn (off := 103) (tgt := 134) hx hb dX0_count_31 (by rw [c_11_9]; decide) (by rw [c_11_9]; decide) (by rw [c_11_9]; rfl) (by decide) ?_
      refine lv_aload_n hx hb dX0_count_134 rfl (lv_at hl 0 rfl) ?_
      refine cg (v := .int (G 0 15)) X Y 15 (by decide) q174 rfl rfl dX0_count_135 ?_
      cases hf
      exact c_iret X hZ Y dX0_count_138
    rw [if_neg c_11_9] at hf
    refine lv_tableOut (tgt := 139) hx hb dX0_count_31 (sw_z (hi := 9) (sw_s (a := 9) (b := 10) (by decide) (by decide) c_11_9 (sw_s (a := 8) (b := 9) (by decide) (by decide) c_11_8 (sw_s (a := 7) (b := 8) (by decide) (by decide) c_11_7 (sw_s (a := 6) (b := 7) (by decide) (by decide) c_11_6 (sw_s (a := 5) (b := 6) (by decide) (by decide) c_11_5 (sw_s (a := 4) (b := 5) (by decide) (by decide) c_11_4 (sw_s (a := 3) (b := 4) (by decide) (by decide) c_11_3 (sw_s (a := 2) (b := 3) (by decide) (by decide) c_11_2 (sw_s (a := 1) (b := 2) (by decide) (by decide) c_11_1 (sw_s (a := 0) (b := 1) (by decide) (by decide) c_11_0 (sw_0 _ 0))))))))))) (by decide)) (by decide) ?_
    refine lv_bipush (v := (-3 : Int32)) hx hb dX0_count_139 (by decide) ?_
    cases hf
    exact c_iret X hZ Y dX0_count_141
  clear hf
  have L4_17 : ∀ (n_ : Nat) (x2_1 : Int32) (x3_2 : Int32), fX0_count_L4 N G n_ x2_1 x3_2 = some x2_10 → ∀ (H : Heap) (locs : List Loc), CY D cA A s h ad G Z H locs → ∀ ls : Array Slot, lv_has ls 4 [(0, .ref h), (1, .int a1), (2, .int x2_1), (3, .int x3_2)] → W p l e (cR 1 0 0) s m args below meth c H locs 0 0 (MQ below (cQ D cA h ad A Z true (some (.int r)) G) args s 0 0 A) (F0 m 4 ls []) := by
    clear hL
    intro n_
    induction n_ with
    | zero =>
      intro x2_1 x3_2 hf
      rw [fX0_count_L4.eq_1] at hf
      cases hf
    | succ n_ ih =>
      intro x2_1 x3_2 hf
      intro H locs Y ls hl
      rw [fX0_count_L4.eq_2] at hf
      refine lv_iload_n hx hb dX0_count_4 rfl (lv_at hl 3 rfl) ?_
      refine lv_aload_n hx hb dX0_count_5 rfl (lv_at hl 0 rfl) ?_
      refine cg (v := .int (G 0 3)) X Y 3 (by decide) q160 rfl rfl dX0_count_6 ?_
      refine lv_icmp_ge (tgt := 30) hx hb dX0_count_9 (by decide) (fun c_3 => ?_) (fun c_3 => ?_)
      · rw [if_pos c_3] at hf
        cases hf
        exact E4_17 _ _ Y _ (lv_sub hl [0, 1, 2] rfl)
      · rw [if_neg c_3] at hf
        refine lv_iload_n hx hb dX0_count_12 rfl (lv_at hl 2 rfl) ?_
        refine lv_aload_n hx hb dX0_count_13 rfl (lv_at hl 0 rfl) ?_
        refine cg (v := .ref (ad 4)) X Y 4 (by decide) q161 rfl rfl dX0_count_14 ?_
        refine lv_iload_n hx hb dX0_count_17 rfl (lv_at hl 3 rfl) ?_
        obtain ⟨b_4, hf⟩ := gd_s hf
        obtain ⟨v_5, ev_5, hf⟩ := nm_s hf
        refine ca (n := 6) X Y 4 3 rfl b_4 ev_5 dX0_count_18 ?_
        obtain ⟨r_6, hq_7, hf⟩ := bd1_s hf
        refine c_callSI (av := [.int v_5]) (rest := [.int x2_1]) 1 X Y (tJ11_bitCount l N v_5 r_6 hq_7) (lw_S q920 q921 q85 q922) ydJ11_bitCount ⟨rfl, rfl, by decide, by decide⟩ rfl hl.1 rfl (Nat.le_of_ble_eq_true rfl) (by decide) dX0_count_19 (fun H locs Y => ?_)
        refine lv_iadd hx hb dX0_count_22 ?_
        obtain ⟨x2_8, ex2_8, hf⟩ := nm_s hf
        refine lv_topE ex2_8 ?_
        refine lv_istore_n (lv' := [(2, .int x2_8), (0, .ref h), (1, .int a1), (3, .int x3_2)]) hx hb dX0_count_23 rfl hl (by decide) rfl (fun ls hl => ?_)
        obtain ⟨x3_9, ex3_9, hf⟩ := nm_s hf
        refine lv_iinc (v := x3_9) (lv' := [(3, .int x3_9), (2, .int x2_8), (0, .ref h), (1, .int a1)]) hx hb dX0_count_24 hl (k := 3) rfl (by rw [ex3_9]; rfl) (by decide) rfl (fun ls hl => ?_)
        refine lv_goto (tgt := 4) hx hb dX0_count_27 (by decide) ?_
        exact ih _ _ hf _ _ Y _ (lv_sub hl [2, 3, 1, 0] rfl)
  exact L4_17 N _ _ hL _ _ Y _ (lv_sub hl [2, 3, 1, 0] rfl)

def fX0_knowers_L4 (N : Nat) (G : GS) : Nat → Int32 → Int32 → Option Int32
  | 0, _, _ => none
  | n_ + 1, x1_1, x2_2 =>
    if (G 0 3) ≤ x2_2 then (
     some x1_1
    ) else (
     gd (inb x2_2 6) <|
     nm (G 17 (x2_2).toNatClampNeg : Int32) fun v_5 =>
     bd1 (
      if v_5 = (-1 : Int32) then (
       some x1_1
      ) else (
       gd (inb x2_2 6) <|
       nm (G 17 (x2_2).toNatClampNeg : Int32) fun v_8 =>
       bd1 (fX0_behind N G v_8) fun r_9 =>
       gd (inb r_9 8) <|
       nm (G 16 (r_9).toNatClampNeg : Int32) fun v_12 =>
       gd (inb x2_2 6) <|
       nm (G 21 (x2_2).toNatClampNeg : Int32) fun v_14 =>
       bd1 (fX0_has N v_14 (G 0 22)) fun r_15 =>
       bd1 (
        if r_15 = (0 : Int32) then (
         if v_12 = (-1 : Int32) then (
          some (0 : Int32)
         ) else (
          gd (inb v_12 6) <|
          nm (G 21 (v_12).toNatClampNeg : Int32) fun v_20 =>
          bd1 (fX0_has N v_20 (G 0 22)) fun r_21 =>
          if r_21 = (0 : Int32) then (
           some (0 : Int32)
          ) else (
           some (1 : Int32)
          )
         )
        ) else (
         some (1 : Int32)
        )
       ) fun j_24 =>
       nm ((x1_1 + j_24) : Int32) fun x1_25 =>
       some x1_25
      )
     ) fun x1_26 =>
     nm ((x2_2 + (1 : Int32)) : Int32) fun x2_27 =>
     fX0_knowers_L4 N G n_ x1_26 x2_27
    )
def fX0_knowers (N : Nat) (G : GS) : Option Int32 :=
  bd1 (fX0_knowers_L4 N G N (0 : Int32) (0 : Int32)) fun x1_28 =>
  some x1_28
theorem ydX0_knowers : yX0_knowers.cls = RX0 ∧ yX0_knowers.cls ≠ "java/lang/invoke/MethodHandle" ∧ yX0_knowers.cls ≠ "java/lang/invoke/VarHandle" ∧ (parseMethodDescriptor yX0_knowers.desc).map (fun d => d.parameters.length) = some 0 := by decide +kernel
set_option maxHeartbeats 4000000 in
theorem tX0_knowers (l : Launch) (N : Nat) (G : GS) (r : Int32) (hf : fX0_knowers N G = some r) : cMet l yX0_knowers cX0_knowers 4 (some .int) (cR 1 0 0) [] G (some (.int r)) G true := by
  unfold fX0_knowers at hf
  refine cMet_of (by decide +kernel) rfl (Nat.le_of_ble_eq_true rfl) (fun {p e s m args below meth c ls D cA h ad A Z} X Y hl => ?_)
  have hx := X.1.1.1
  have hb := X.1.1.2.1
  have hZ : true = true → Z = Z := fun _ => rfl
  have hl : lv_has ls 4 [(0, .ref h)] := hl
  refine lv_iconst (v := (0 : Int32)) hx hb dX0_knowers_0 (by decide) ?_
  refine lv_istore_n (lv' := [(1, .int (0 : Int32)), (0, .ref h)]) hx hb dX0_knowers_1 rfl hl (by decide) rfl (fun ls hl => ?_)
  refine lv_iconst (v := (0 : Int32)) hx hb dX0_knowers_2 (by decide) ?_
  refine lv_istore_n (lv' := [(2, .int (0 : Int32)), (1, .int (0 : Int32)), (0, .ref h)]) hx hb dX0_knowers_3 rfl hl (by decide) rfl (fun ls hl => ?_)
  obtain ⟨x1_28, hL, hf⟩ := bd1_s hf
  have E4_29 : ∀ (H : Heap) (locs : List Loc), CY D cA A s h ad G Z H locs → ∀ ls : Array Slot, lv_has ls 4 [(1, .int x1_28)] → W p l e (cR 1 0 0) s m args below meth c H locs 0 0 (MQ below (cQ D cA h ad A Z true (some (.int r)) G) args s 0 0 A) (F0 m 95 ls []) := by
    clear hL
    intro H locs Y ls hl
    refine lv_iload_n hx hb dX0_knowers_95 rfl (lv_at hl 0 rfl) ?_
    cases hf
    exact c_iret X hZ Y dX0_knowers_96
  clear hf
  have L4_29 : ∀ (n_ : Nat) (x1_1 : Int32) (x2_2 : Int32), fX0_knowers_L4 N G n_ x1_1 x2_2 = some x1_28 → ∀ (H : Heap) (locs : List Loc), CY D cA A s h ad G Z H locs → ∀ ls : Array Slot, lv_has ls 4 [(0, .ref h), (1, .int x1_1), (2, .int x2_2)] → W p l e (cR 1 0 0) s m args below meth c H locs 0 0 (MQ below (cQ D cA h ad A Z true (some (.int r)) G) args s 0 0 A) (F0 m 4 ls []) := by
    clear hL
    intro n_
    induction n_ with
    | zero =>
      intro x1_1 x2_2 hf
      rw [fX0_knowers_L4.eq_1] at hf
      cases hf
    | succ n_ ih =>
      intro x1_1 x2_2 hf
      intro H locs Y ls hl
      rw [fX0_knowers_L4.eq_2] at hf
      refine lv_iload_n hx hb dX0_knowers_4 rfl (lv_at hl 2 rfl) ?_
      refine lv_aload_n hx hb dX0_knowers_5 rfl (lv_at hl 0 rfl) ?_
      refine cg (v := .int (G 0 3)) X Y 3 (by decide) q160 rfl rfl dX0_knowers_6 ?_
      refine lv_icmp_ge (tgt := 95) hx hb dX0_knowers_9 (by decide) (fun c_3 => ?_) (fun c_3 => ?_)
      · rw [if_pos c_3] at hf
        cases hf
        exact E4_29 _ _ Y _ (lv_sub hl [1] rfl)
      · rw [if_neg c_3] at hf
        refine lv_aload_n hx hb dX0_knowers_12 rfl (lv_at hl 0 rfl) ?_
        refine cg (v := .ref (ad 17)) X Y 17 (by decide) q176 rfl rfl dX0_knowers_13 ?_
        refine lv_iload_n hx hb dX0_knowers_16 rfl (lv_at hl 2 rfl) ?_
        obtain ⟨b_4, hf⟩ := gd_s hf
        obtain ⟨v_5, ev_5, hf⟩ := nm_s hf
        refine ca (n := 6) X Y 17 13 rfl b_4 ev_5 dX0_knowers_17 ?_
        refine lv_iconst (v := (-1 : Int32)) hx hb dX0_knowers_18 (by decide) ?_
        obtain ⟨x1_26, hj, hf⟩ := bd1_s hf
        have J89_30 : ∀ (H : Heap) (locs : List Loc), CY D cA A s h ad G Z H locs → ∀ ls : Array Slot, lv_has ls 4 [(0, .ref h), (1, .int x1_26), (2, .int x2_2)] → W p l e (cR 1 0 0) s m args below meth c H locs 0 0 (MQ below (cQ D cA h ad A Z true (some (.int r)) G) args s 0 0 A) (F0 m 89 ls []) := by
          clear hj
          intro H locs Y ls hl
          obtain ⟨x2_27, ex2_27, hf⟩ := nm_s hf
          refine lv_iinc (v := x2_27) (lv' := [(2, .int x2_27), (0, .ref h), (1, .int x1_26)]) hx hb dX0_knowers_89 hl (k := 2) rfl (by rw [ex2_27]; rfl) (by decide) rfl (fun ls hl => ?_)
          refine lv_goto (tgt := 4) hx hb dX0_knowers_92 (by decide) ?_
          exact ih _ _ hf _ _ Y _ (lv_sub hl [1, 2, 0] rfl)
        replace hf := hj
        clear hj
        refine lv_icmp_eq (tgt := 89) hx hb dX0_knowers_19 (by decide) (fun c_6 => ?_) (fun c_6 => ?_)
        · rw [if_pos c_6] at hf
          cases hf
          exact J89_30 _ _ Y _ (lv_sub hl [0, 1, 2] rfl)
        · rw [if_neg c_6] at hf
          refine lv_aload_n hx hb dX0_knowers_22 rfl (lv_at hl 0 rfl) ?_
          refine cg (v := .ref (ad 16)) X Y 16 (by decide) q175 rfl rfl dX0_knowers_23 ?_
          refine lv_aload_n hx hb dX0_knowers_26 rfl (lv_at hl 0 rfl) ?_
          refine lv_aload_n hx hb dX0_knowers_27 rfl (lv_at hl 0 rfl) ?_
          refine cg (v := .ref (ad 17)) X Y 17 (by decide) q176 rfl rfl dX0_knowers_28 ?_
          refine lv_iload_n hx hb dX0_knowers_31 rfl (lv_at hl 2 rfl) ?_
          obtain ⟨b_7, hf⟩ := gd_s hf
          obtain ⟨v_8, ev_8, hf⟩ := nm_s hf
          refine ca (n := 6) X Y 17 13 rfl b_7 ev_8 dX0_knowers_32 ?_
          obtain ⟨r_9, hq_10, hf⟩ := bd1_s hf
          refine ccI (av := [.int v_8]) (rest := [.ref (ad 16)]) 1 X Y (tX0_behind l N G v_8 r_9 hq_10) (lw_V q968 q970 qs22 q67 q971) ydX0_behind ⟨by decide, by decide⟩ rfl hl.1 rfl (Nat.le_of_ble_eq_true rfl) (by decide) dX0_knowers_33 (fun H locs Y => ?_)
          obtain ⟨b_11, hf⟩ := gd_s hf
          obtain ⟨v_12, ev_12, hf⟩ := nm_s hf
          refine ca (n := 8) X Y 16 12 rfl b_11 ev_12 dX0_knowers_36 ?_
          refine lv_istore_n (lv' := [(3, .int v_12), (0, .ref h), (1, .int x1_1), (2, .int x2_2)]) hx hb dX0_knowers_37 rfl hl (by decide) rfl (fun ls hl => ?_)
          refine lv_iload_n hx hb dX0_knowers_38 rfl (lv_at hl 2 rfl) ?_
          refine lv_aload_n hx hb dX0_knowers_39 rfl (lv_at hl 1 rfl) ?_
          refine cg (v := .ref (ad 8)) X Y 8 (by decide) q165 rfl rfl dX0_knowers_40 ?_
          refine cgn (v := .ref (ad 21)) X Y 1 (by decide) q121 rfl rfl dX0_knowers_43 ?_
          refine lv_iload_n hx hb dX0_knowers_46 rfl (lv_at hl 3 rfl) ?_
          obtain ⟨b_13, hf⟩ := gd_s hf
          obtain ⟨v_14, ev_14, hf⟩ := nm_s hf
          refine ca (n := 6) X Y 21 6 rfl b_13 ev_14 dX0_knowers_47 ?_
          refine lv_aload_n hx hb dX0_knowers_48 rfl (lv_at hl 1 rfl) ?_
          refine cg (v := .int (G 0 22)) X Y 22 (by decide) q181 rfl rfl dX0_knowers_49 ?_
          obtain ⟨r_15, hq_16, hf⟩ := bd1_s hf
          refine c_callSI (av := [.int v_14, .int (G 0 22)]) (rest := [.int x1_1]) 2 X Y (tX0_has l N v_14 (G 0 22) r_15 hq_16) (lw_S q899 q900 q67 q901) ydX0_has ⟨rfl, rfl, by decide, by decide⟩ rfl hl.1 rfl (Nat.le_of_ble_eq_true rfl) (by decide) dX0_knowers_52 (fun H locs Y => ?_)
          obtain ⟨j_24, hj, hf⟩ := bd1_s hf
          have J87_31 : ∀ (H : Heap) (locs : List Loc), CY D cA A s h ad G Z H locs → ∀ ls : Array Slot, lv_has ls 4 [(0, .ref h), (2, .int x2_2)] → W p l e (cR 1 0 0) s m args below meth c H locs 0 0 (MQ below (cQ D cA h ad A Z true (some (.int r)) G) args s 0 0 A) (F0 m 87 ls [.int j_24, .int x1_1]) := by
            clear hj
            intro H locs Y ls hl
            refine lv_iadd hx hb dX0_knowers_87 ?_
            obtain ⟨x1_25, ex1_25, hf⟩ := nm_s hf
            refine lv_topE ex1_25 ?_
            refine lv_istore_n (lv' := [(1, .int x1_25), (0, .ref h), (2, .int x2_2)]) hx hb dX0_knowers_88 rfl hl (by decide) rfl (fun ls hl => ?_)
            cases hf
            exact J89_30 _ _ Y _ (lv_sub hl [1, 0, 2] rfl)
          replace hf := hj
          clear hj
          refine lv_if_ne (tgt := 82) hx hb dX0_knowers_55 (by decide) (fun c_17 => ?_) (fun c_17 => ?_)
          · rw [if_neg c_17] at hf
            refine lv_iconst (v := (1 : Int32)) hx hb dX0_knowers_82 (by decide) ?_
            refine lv_goto (tgt := 87) hx hb dX0_knowers_83 (by decide) ?_
            cases hf
            exact J87_31 _ _ Y _ (lv_sub hl [1, 3] rfl)
          · rw [if_pos c_17] at hf
            refine lv_iload_n hx hb dX0_knowers_58 rfl (lv_at hl 0 rfl) ?_
            refine lv_iconst (v := (-1 : Int32)) hx hb dX0_knowers_59 (by decide) ?_
            refine lv_icmp_eq (tgt := 86) hx hb dX0_knowers_60 (by decide) (fun c_18 => ?_) (fun c_18 => ?_)
            · rw [if_pos c_18] at hf
              refine lv_iconst (v := (0 : Int32)) hx hb dX0_knowers_86 (by decide) ?_
              cases hf
              exact J87_31 _ _ Y _ (lv_sub hl [1, 3] rfl)
            · rw [if_neg c_18] at hf
              refine lv_aload_n hx hb dX0_knowers_63 rfl (lv_at hl 1 rfl) ?_
              refine cg (v := .ref (ad 8)) X Y 8 (by decide) q165 rfl rfl dX0_knowers_64 ?_
              refine cgn (v := .ref (ad 21)) X Y 1 (by decide) q121 rfl rfl dX0_knowers_67 ?_
              refine lv_iload_n hx hb dX0_knowers_70 rfl (lv_at hl 0 rfl) ?_
              obtain ⟨b_19, hf⟩ := gd_s hf
              obtain ⟨v_20, ev_20, hf⟩ := nm_s hf
              refine ca (n := 6) X Y 21 6 rfl b_19 ev_20 dX0_knowers_71 ?_
              refine lv_aload_n hx hb dX0_knowers_72 rfl (lv_at hl 1 rfl) ?_
              refine cg (v := .int (G 0 22)) X Y 22 (by decide) q181 rfl rfl dX0_knowers_73 ?_
              obtain ⟨r_21, hq_22, hf⟩ := bd1_s hf
              refine c_callSI (av := [.int v_20, .int (G 0 22)]) (rest := [.int x1_1]) 2 X Y (tX0_has l N v_20 (G 0 22) r_21 hq_22) (lw_S q899 q900 q67 q901) ydX0_has ⟨rfl, rfl, by decide, by decide⟩ rfl hl.1 rfl (Nat.le_of_ble_eq_true rfl) (by decide) dX0_knowers_76 (fun H locs Y => ?_)
              refine lv_if_eq (tgt := 86) hx hb dX0_knowers_79 (by decide) (fun c_23 => ?_) (fun c_23 => ?_)
              · rw [if_pos c_23] at hf
                refine lv_iconst (v := (0 : Int32)) hx hb dX0_knowers_86 (by decide) ?_
                cases hf
                exact J87_31 _ _ Y _ (lv_sub hl [1, 3] rfl)
              · rw [if_neg c_23] at hf
                refine lv_iconst (v := (1 : Int32)) hx hb dX0_knowers_82 (by decide) ?_
                refine lv_goto (tgt := 87) hx hb dX0_knowers_83 (by decide) ?_
                cases hf
                exact J87_31 _ _ Y _ (lv_sub hl [1, 3] rfl)
  exact L4_29 N _ _ hL _ _ Y _ (lv_sub hl [2, 1, 0] rfl)

def fX0_seatAll_L22 (N : Nat) : Nat → Int32 → Int32 → GS → Option (Int32 × GS)
  | 0, _, _, _ => none
  | n_ + 1, x2_47, x3_48, G_49 =>
    if (G_49 0 3) ≤ x3_48 then (
     some (x2_47, G_49)
    ) else (
     bd1 (
      if (G_49 0 19) = (1 : Int32) then (
       gd (inb x3_48 6) <|
       nm (G_49 17 (x3_48).toNatClampNeg : Int32) fun v_55 =>
       some v_55
      ) else (
       gd (inb x3_48 6) <|
       nm (G_49 18 (x3_48).toNatClampNeg : Int32) fun v_53 =>
       some v_53
      )
     ) fun j_56 =>
     gd (inb x3_48 6) <|
     nm (gu G_49 18 (x3_48).toNatClampNeg j_56 : GS) fun G_58 =>
     gd (inb x3_48 6) <|
     nm (G_58 17 (x3_48).toNatClampNeg : Int32) fun v_60 =>
     bd1 (
      if v_60 = (-1 : Int32) then (
       some (0 : Int32)
      ) else (
       gd (inb x3_48 6) <|
       nm (G_58 17 (x3_48).toNatClampNeg : Int32) fun v_63 =>
       gd (inb v_63 8) <|
       nm (G_58 22 (v_63).toNatClampNeg : Int32) fun v_65 =>
       if v_65 = x3_48 then (
        some (0 : Int32)
       ) else (
        some (1 : Int32)
       )
      )
     ) fun j_67 =>
     nm ((x2_47 + j_67) : Int32) fun x2_68 =>
     nm ((x3_48 + (1 : Int32)) : Int32) fun x3_69 =>
     fX0_seatAll_L22 N n_ x2_68 x3_69 G_58
    )
def fX0_seatAll_L160 (N : Nat) (rec_ : (GS → Int32 → Option GS)) (a1 : Int32) : Nat → Int32 → GS → Option GS
  | 0, _, _ => none
  | n_ + 1, x2_7, G_8 =>
    if (G_8 0 1) ≤ x2_7 then (
     some G_8
    ) else (
     gd (inb x2_7 8) <|
     nm (G_8 16 (x2_7).toNatClampNeg : Int32) fun v_11 =>
     bd1 (
      if v_11 = (-1 : Int32) then (
       bd1 (fX0_isWrong N G_8 a1 x2_7) fun r_13 =>
       if r_13 = (0 : Int32) then (
        bd1 (fX0_behind N G_8 x2_7) fun r_16 =>
        gd (inb r_16 8) <|
        nm (G_8 16 (r_16).toNatClampNeg : Int32) fun v_19 =>
        bd1 (fX0_areEnemies N G_8 a1 v_19) fun r_20 =>
        if r_20 = (0 : Int32) then (
         gd (¬ (G_8 0 1) = (0 : Int32)) <|
         gd (inb (((x2_7 + (G_8 0 1)) - (1 : Int32)) - ((x2_7 + (G_8 0 1)) - (1 : Int32)) / (G_8 0 1) * (G_8 0 1)) 8) <|
         nm (G_8 16 ((((x2_7 + (G_8 0 1)) - (1 : Int32)) - ((x2_7 + (G_8 0 1)) - (1 : Int32)) / (G_8 0 1) * (G_8 0 1))).toNatClampNeg : Int32) fun v_25 =>
         bd1 (fX0_areEnemies N G_8 a1 v_25) fun r_26 =>
         if r_26 = (0 : Int32) then (
          some (1 : Int32)
         ) else (
          some (0 : Int32)
         )
        ) else (
         some (0 : Int32)
        )
       ) else (
        some (0 : Int32)
       )
      ) else (
       some (0 : Int32)
      )
     ) fun j_29 =>
     bd1 (
      if j_29 = (0 : Int32) then (
       some G_8
      ) else (
       gd (inb x2_7 8) <|
       nm (gu G_8 16 (x2_7).toNatClampNeg a1 : GS) fun G_32 =>
       gd (inb a1 6) <|
       nm (gu G_32 17 (a1).toNatClampNeg x2_7 : GS) fun G_34 =>
       bd1 (rec_ G_34 (a1 + (1 : Int32))) fun G_35 =>
       gd (inb x2_7 8) <|
       nm (gu G_35 16 (x2_7).toNatClampNeg (-1 : Int32) : GS) fun G_38 =>
       some G_38
      )
     ) fun G_39 =>
     nm ((x2_7 + (1 : Int32)) : Int32) fun x2_40 =>
     fX0_seatAll_L160 N rec_ a1 n_ x2_40 G_39
    )
def fX0_seatAll (N : Nat) : Nat → GS → Int32 → Option GS
  | 0, _, _ => none
  | K_ + 1, G, a1 =>
  if a1 = (G 0 3) then (
   nm (gu G 0 19 ((G 0 19) + (1 : Int32)) : GS) fun G_46 =>
   bd2 (fX0_seatAll_L22 N N (0 : Int32) (0 : Int32) G_46) fun x2_70 G_71 =>
   nm (gu G_71 0 20 (if x2_70 < (G_71 0 20) then x2_70 else (G_71 0 20)) : GS) fun G_72 =>
   bd1 (fX0_knowers N G_72) fun r_73 =>
   nm (gu G_72 0 21 (if (G_72 0 21) < r_73 then r_73 else (G_72 0 21)) : GS) fun G_75 =>
   some G_75
  ) else (
   gd (inb a1 6) <|
   nm (gu G 17 (a1).toNatClampNeg (-1 : Int32) : GS) fun G_3 =>
   bd1 (fX0_has N (G_3 8 3) a1) fun r_4 =>
   if r_4 = (0 : Int32) then (
    bd1 ((fX0_seatAll N K_) G_3 (a1 + (1 : Int32))) fun G_44 =>
    some G_44
   ) else (
    bd1 (fX0_seatAll_L160 N (fX0_seatAll N K_) a1 N (0 : Int32) G_3) fun G_41 =>
    gd (inb a1 6) <|
    nm (gu G_41 17 (a1).toNatClampNeg (-1 : Int32) : GS) fun G_43 =>
    some G_43
   )
  )
theorem ydX0_seatAll : yX0_seatAll.cls = RX0 ∧ yX0_seatAll.cls ≠ "java/lang/invoke/MethodHandle" ∧ yX0_seatAll.cls ≠ "java/lang/invoke/VarHandle" ∧ (parseMethodDescriptor yX0_seatAll.desc).map (fun d => d.parameters.length) = some 1 := by decide +kernel
set_option maxHeartbeats 4000000 in
theorem tX0_seatAll (l : Launch) (N : Nat) : ∀ (K_ : Nat) (G : GS) (a1 : Int32) (G' : GS) (hf : fX0_seatAll N K_ G a1 = some G'), cMet l yX0_seatAll cX0_seatAll 4 none (cR (10 + K_) 0 0) [.int a1] G (none) G' true := by
  intro K_
  induction K_ with
  | zero =>
    intro G a1 G' hf
    rw [fX0_seatAll.eq_1] at hf
    cases hf
  | succ K_ ih =>
  intro G a1 G' hf
  rw [fX0_seatAll.eq_2] at hf
  refine cMet_of (by decide +kernel) rfl (Nat.le_of_ble_eq_true rfl) (fun {p e s m args below meth c ls D cA h ad A Z} X Y hl => ?_)
  have hx := X.1.1.1
  have hb := X.1.1.2.1
  have hZ : true = true → Z = Z := fun _ => rfl
  have hl : lv_has ls 4 [(0, .ref h), (1, .int a1)] := hl
  refine lv_iload_n hx hb dX0_seatAll_0 rfl (lv_at hl 1 rfl) ?_
  refine lv_aload_n hx hb dX0_seatAll_1 rfl (lv_at hl 0 rfl) ?_
  refine cg (v := .int (G 0 3)) X Y 3 (by decide) q160 rfl rfl dX0_seatAll_2 ?_
  refine lv_icmp_ne (tgt := 129) hx hb dX0_seatAll_5 (by decide) (fun c_1 => ?_) (fun c_1 => ?_)
  · rw [if_neg c_1] at hf
    refine lv_aload_n hx hb dX0_seatAll_129 rfl (lv_at hl 0 rfl) ?_
    refine cg (v := .ref (ad 17)) X Y 17 (by decide) q176 rfl rfl dX0_seatAll_130 ?_
    refine lv_iload_n hx hb dX0_seatAll_133 rfl (lv_at hl 1 rfl) ?_
    refine lv_iconst (v := (-1 : Int32)) hx hb dX0_seatAll_134 (by decide) ?_
    obtain ⟨b_2, hf⟩ := gd_s hf
    obtain ⟨G_3, eG_3, hf⟩ := nm_s hf
    refine cs (n := 6) X Y 17 13 (by decide) rfl cz17 b_2 eG_3 dX0_seatAll_135 (fun H locs Y => ?_)
    refine lv_aload_n hx hb dX0_seatAll_136 rfl (lv_at hl 0 rfl) ?_
    refine cg (v := .ref (ad 8)) X Y 8 (by decide) q165 rfl rfl dX0_seatAll_137 ?_
    refine cgn (v := .int (G_3 8 3)) X Y 3 (by decide) q125 rfl rfl dX0_seatAll_140 ?_
    refine lv_iload_n hx hb dX0_seatAll_143 rfl (lv_at hl 1 rfl) ?_
    obtain ⟨r_4, hq_5, hf⟩ := bd1_s hf
    refine c_callSI (av := [.int (G_3 8 3), .int a1]) (rest := []) 2 X Y (tX0_has l N (G_3 8 3) a1 r_4 hq_5) (lw_S q899 q900 q67 q901) ydX0_has ⟨rfl, rfl, (by dsimp only; omega), (by dsimp only; omega)⟩ rfl hl.1 rfl (Nat.le_of_ble_eq_true rfl) (⟨Nat.le_refl _, Nat.le_refl _⟩) dX0_seatAll_144 (fun H locs Y => ?_)
    refine lv_if_ne (tgt := 158) hx hb dX0_seatAll_147 (by decide) (fun c_6 => ?_) (fun c_6 => ?_)
    · rw [if_neg c_6] at hf
      refine lv_iconst (v := (0 : Int32)) hx hb dX0_seatAll_158 (by decide) ?_
      refine lv_istore_n (lv' := [(2, .int (0 : Int32)), (0, .ref h), (1, .int a1)]) hx hb dX0_seatAll_159 rfl hl (by decide) rfl (fun ls hl => ?_)
      obtain ⟨G_41, hL, hf⟩ := bd1_s hf
      have E160_76 : ∀ (H : Heap) (locs : List Loc), CY D cA A s h ad G_41 Z H locs → ∀ ls : Array Slot, lv_has ls 4 [(0, .ref h), (1, .int a1)] → W p l e (cR (10 + (K_ + 1)) 0 0) s m args below meth c H locs 0 0 (MQ below (cQ D cA h ad A Z true (none) G') args s 0 0 A) (F0 m 275 ls []) := by
        clear hL
        intro H locs Y ls hl
        refine lv_aload_n hx hb dX0_seatAll_275 rfl (lv_at hl 0 rfl) ?_
        refine cg (v := .ref (ad 17)) X Y 17 (by decide) q176 rfl rfl dX0_seatAll_276 ?_
        refine lv_iload_n hx hb dX0_seatAll_279 rfl (lv_at hl 1 rfl) ?_
        refine lv_iconst (v := (-1 : Int32)) hx hb dX0_seatAll_280 (by decide) ?_
        obtain ⟨b_42, hf⟩ := gd_s hf
        obtain ⟨G_43, eG_43, hf⟩ := nm_s hf
        refine cs (n := 6) X Y 17 13 (by decide) rfl cz17 b_42 eG_43 dX0_seatAll_281 (fun H locs Y => ?_)
        cases hf
        exact c_vret X hZ Y dX0_seatAll_282
      clear hf
      have L160_76 : ∀ (n_ : Nat) (x2_7 : Int32) (G_8 : GS), fX0_seatAll_L160 N (fX0_seatAll N K_) a1 n_ x2_7 G_8 = some G_41 → ∀ (H : Heap) (locs : List Loc), CY D cA A s h ad G_8 Z H locs → ∀ ls : Array Slot, lv_has ls 4 [(0, .ref h), (1, .int a1), (2, .int x2_7)] → W p l e (cR (10 + (K_ + 1)) 0 0) s m args below meth c H locs 0 0 (MQ below (cQ D cA h ad A Z true (none) G') args s 0 0 A) (F0 m 160 ls []) := by
        clear hL
        intro n_
        induction n_ with
        | zero =>
          intro x2_7 G_8 hf
          rw [fX0_seatAll_L160.eq_1] at hf
          cases hf
        | succ n_ ih2 =>
          intro x2_7 G_8 hf
          intro H locs Y ls hl
          rw [fX0_seatAll_L160.eq_2] at hf
          refine lv_iload_n hx hb dX0_seatAll_160 rfl (lv_at hl 2 rfl) ?_
          refine lv_aload_n hx hb dX0_seatAll_161 rfl (lv_at hl 0 rfl) ?_
          refine cg (v := .int (G_8 0 1)) X Y 1 (by decide) q157 rfl rfl dX0_seatAll_162 ?_
          refine lv_icmp_ge (tgt := 275) hx hb dX0_seatAll_165 (by decide) (fun c_9 => ?_) (fun c_9 => ?_)
          · rw [if_pos c_9] at hf
            cases hf
            exact E160_76 _ _ Y _ (lv_sub hl [0, 1] rfl)
          · rw [if_neg c_9] at hf
            refine lv_aload_n hx hb dX0_seatAll_168 rfl (lv_at hl 0 rfl) ?_
            refine cg (v := .ref (ad 16)) X Y 16 (by decide) q175 rfl rfl dX0_seatAll_169 ?_
            refine lv_iload_n hx hb dX0_seatAll_172 rfl (lv_at hl 2 rfl) ?_
            obtain ⟨b_10, hf⟩ := gd_s hf
            obtain ⟨v_11, ev_11, hf⟩ := nm_s hf
            refine ca (n := 8) X Y 16 12 rfl b_10 ev_11 dX0_seatAll_173 ?_
            refine lv_iconst (v := (-1 : Int32)) hx hb dX0_seatAll_174 (by decide) ?_
            obtain ⟨j_29, hj, hf⟩ := bd1_s hf
            have J236_77 : ∀ (H : Heap) (locs : List Loc), CY D cA A s h ad G_8 Z H locs → ∀ ls : Array Slot, lv_has ls 4 [(0, .ref h), (1, .int a1), (2, .int x2_7)] → W p l e (cR (10 + (K_ + 1)) 0 0) s m args below meth c H locs 0 0 (MQ below (cQ D cA h ad A Z true (none) G') args s 0 0 A) (F0 m 236 ls [.int j_29]) := by
              clear hj
              intro H locs Y ls hl
              refine lv_istore_n (lv' := [(3, .int j_29), (0, .ref h), (1, .int a1), (2, .int x2_7)]) hx hb dX0_seatAll_236 rfl hl (by decide) rfl (fun ls hl => ?_)
              refine lv_iload_n hx hb dX0_seatAll_237 rfl (lv_at hl 0 rfl) ?_
              obtain ⟨G_39, hj, hf⟩ := bd1_s hf
              have J269_78 : ∀ (H : Heap) (locs : List Loc), CY D cA A s h ad G_39 Z H locs → ∀ ls : Array Slot, lv_has ls 4 [(0, .ref h), (1, .int a1), (2, .int x2_7)] → W p l e (cR (10 + (K_ + 1)) 0 0) s m args below meth c H locs 0 0 (MQ below (cQ D cA h ad A Z true (none) G') args s 0 0 A) (F0 m 269 ls []) := by
                clear hj
                intro H locs Y ls hl
                obtain ⟨x2_40, ex2_40, hf⟩ := nm_s hf
                refine lv_iinc (v := x2_40) (lv' := [(2, .int x2_40), (0, .ref h), (1, .int a1)]) hx hb dX0_seatAll_269 hl (k := 2) rfl (by rw [ex2_40]; rfl) (by decide) rfl (fun ls hl => ?_)
                refine lv_goto (tgt := 160) hx hb dX0_seatAll_272 (by decide) ?_
                exact ih2 _ _ hf _ _ Y _ (lv_sub hl [1, 2, 0] rfl)
              replace hf := hj
              clear hj
              refine lv_if_eq (tgt := 269) hx hb dX0_seatAll_238 (by decide) (fun c_30 => ?_) (fun c_30 => ?_)
              · rw [if_pos c_30] at hf
                cases hf
                exact J269_78 _ _ Y _ (lv_sub hl [1, 2, 3] rfl)
              · rw [if_neg c_30] at hf
                refine lv_aload_n hx hb dX0_seatAll_241 rfl (lv_at hl 1 rfl) ?_
                refine cg (v := .ref (ad 16)) X Y 16 (by decide) q175 rfl rfl dX0_seatAll_242 ?_
                refine lv_iload_n hx hb dX0_seatAll_245 rfl (lv_at hl 3 rfl) ?_
                refine lv_iload_n hx hb dX0_seatAll_246 rfl (lv_at hl 2 rfl) ?_
                obtain ⟨b_31, hf⟩ := gd_s hf
                obtain ⟨G_32, eG_32, hf⟩ := nm_s hf
                refine cs (n := 8) X Y 16 12 (by decide) rfl cz16 b_31 eG_32 dX0_seatAll_247 (fun H locs Y => ?_)
                refine lv_aload_n hx hb dX0_seatAll_248 rfl (lv_at hl 1 rfl) ?_
                refine cg (v := .ref (ad 17)) X Y 17 (by decide) q176 rfl rfl dX0_seatAll_249 ?_
                refine lv_iload_n hx hb dX0_seatAll_252 rfl (lv_at hl 2 rfl) ?_
                refine lv_iload_n hx hb dX0_seatAll_253 rfl (lv_at hl 3 rfl) ?_
                obtain ⟨b_33, hf⟩ := gd_s hf
                obtain ⟨G_34, eG_34, hf⟩ := nm_s hf
                refine cs (n := 6) X Y 17 13 (by decide) rfl cz17 b_33 eG_34 dX0_seatAll_254 (fun H locs Y => ?_)
                refine lv_aload_n hx hb dX0_seatAll_255 rfl (lv_at hl 1 rfl) ?_
                refine lv_iload_n hx hb dX0_seatAll_256 rfl (lv_at hl 2 rfl) ?_
                refine lv_iconst (v := (1 : Int32)) hx hb dX0_seatAll_257 (by decide) ?_
                refine lv_iadd hx hb dX0_seatAll_258 ?_
                obtain ⟨G_35, hq_36, hf⟩ := bd1_s hf
                refine ccV (av := [.int (a1 + (1 : Int32))]) (rest := []) 1 X Y (ih G_34 (a1 + (1 : Int32)) G_35 hq_36) (lw_V q1027 q1029 qs26 q67 q1030) ydX0_seatAll ⟨(by dsimp only; omega), (by dsimp only; omega)⟩ rfl hl.1 rfl (Nat.le_of_ble_eq_true rfl) (⟨Nat.le_refl _, Nat.le_refl _⟩) dX0_seatAll_259 (fun H locs Y => ?_)
                refine lv_aload_n hx hb dX0_seatAll_262 rfl (lv_at hl 1 rfl) ?_
                refine cg (v := .ref (ad 16)) X Y 16 (by decide) q175 rfl rfl dX0_seatAll_263 ?_
                refine lv_iload_n hx hb dX0_seatAll_266 rfl (lv_at hl 3 rfl) ?_
                refine lv_iconst (v := (-1 : Int32)) hx hb dX0_seatAll_267 (by decide) ?_
                obtain ⟨b_37, hf⟩ := gd_s hf
                obtain ⟨G_38, eG_38, hf⟩ := nm_s hf
                refine cs (n := 8) X Y 16 12 (by decide) rfl cz16 b_37 eG_38 dX0_seatAll_268 (fun H locs Y => ?_)
                cases hf
                exact J269_78 _ _ Y _ (lv_sub hl [1, 2, 3] rfl)
            replace hf := hj
            clear hj
            refine lv_icmp_ne (tgt := 235) hx hb dX0_seatAll_175 (by decide) (fun c_12 => ?_) (fun c_12 => ?_)
            · rw [if_neg c_12] at hf
              refine lv_iconst (v := (0 : Int32)) hx hb dX0_seatAll_235 (by decide) ?_
              cases hf
              exact J236_77 _ _ Y _ (lv_sub hl [0, 1, 2] rfl)
            · rw [if_pos c_12] at hf
              refine lv_aload_n hx hb dX0_seatAll_178 rfl (lv_at hl 0 rfl) ?_
              refine lv_iload_n hx hb dX0_seatAll_179 rfl (lv_at hl 1 rfl) ?_
              refine lv_iload_n hx hb dX0_seatAll_180 rfl (lv_at hl 2 rfl) ?_
              obtain ⟨r_13, hq_14, hf⟩ := bd1_s hf
              refine ccI (av := [.int a1, .int x2_7]) (rest := []) 2 X Y (tX0_isWrong l N G_8 a1 x2_7 r_13 hq_14) (lw_V q942 q944 qs20 q67 q945) ydX0_isWrong ⟨(by dsimp only; omega), (by dsimp only; omega)⟩ rfl hl.1 rfl (Nat.le_of_ble_eq_true rfl) (⟨Nat.le_refl _, Nat.le_refl _⟩) dX0_seatAll_181 (fun H locs Y => ?_)
              refine lv_if_ne (tgt := 235) hx hb dX0_seatAll_184 (by decide) (fun c_15 => ?_) (fun c_15 => ?_)
              · rw [if_neg c_15] at hf
                refine lv_iconst (v := (0 : Int32)) hx hb dX0_seatAll_235 (by decide) ?_
                cases hf
                exact J236_77 _ _ Y _ (lv_sub hl [0, 1, 2] rfl)
              · rw [if_pos c_15] at hf
                refine lv_aload_n hx hb dX0_seatAll_187 rfl (lv_at hl 0 rfl) ?_
                refine lv_iload_n hx hb dX0_seatAll_188 rfl (lv_at hl 1 rfl) ?_
                refine lv_aload_n hx hb dX0_seatAll_189 rfl (lv_at hl 0 rfl) ?_
                refine cg (v := .ref (ad 16)) X Y 16 (by decide) q175 rfl rfl dX0_seatAll_190 ?_
                refine lv_aload_n hx hb dX0_seatAll_193 rfl (lv_at hl 0 rfl) ?_
                refine lv_iload_n hx hb dX0_seatAll_194 rfl (lv_at hl 2 rfl) ?_
                obtain ⟨r_16, hq_17, hf⟩ := bd1_s hf
                refine ccI (av := [.int x2_7]) (rest := [.ref (ad 16), .int a1, .ref h]) 1 X Y (tX0_behind l N G_8 x2_7 r_16 hq_17) (lw_V q968 q970 qs22 q67 q971) ydX0_behind ⟨(by dsimp only; omega), (by dsimp only; omega)⟩ rfl hl.1 rfl (Nat.le_of_ble_eq_true rfl) (⟨Nat.le_refl _, Nat.le_refl _⟩) dX0_seatAll_195 (fun H locs Y => ?_)
                obtain ⟨b_18, hf⟩ := gd_s hf
                obtain ⟨v_19, ev_19, hf⟩ := nm_s hf
                refine ca (n := 8) X Y 16 12 rfl b_18 ev_19 dX0_seatAll_198 ?_
                obtain ⟨r_20, hq_21, hf⟩ := bd1_s hf
                refine ccI (av := [.int a1, .int v_19]) (rest := []) 2 X Y (tX0_areEnemies l N G_8 a1 v_19 r_20 hq_21) (lw_V q976 q978 qs24 q67 q979) ydX0_areEnemies ⟨(by dsimp only; omega), (by dsimp only; omega)⟩ rfl hl.1 rfl (Nat.le_of_ble_eq_true rfl) (⟨Nat.le_refl _, Nat.le_refl _⟩) dX0_seatAll_199 (fun H locs Y => ?_)
                refine lv_if_ne (tgt := 235) hx hb dX0_seatAll_202 (by decide) (fun c_22 => ?_) (fun c_22 => ?_)
                · rw [if_neg c_22] at hf
                  refine lv_iconst (v := (0 : Int32)) hx hb dX0_seatAll_235 (by decide) ?_
                  cases hf
                  exact J236_77 _ _ Y _ (lv_sub hl [0, 1, 2] rfl)
                · rw [if_pos c_22] at hf
                  refine lv_aload_n hx hb dX0_seatAll_205 rfl (lv_at hl 0 rfl) ?_
                  refine lv_iload_n hx hb dX0_seatAll_206 rfl (lv_at hl 1 rfl) ?_
                  refine lv_aload_n hx hb dX0_seatAll_207 rfl (lv_at hl 0 rfl) ?_
                  refine cg (v := .ref (ad 16)) X Y 16 (by decide) q175 rfl rfl dX0_seatAll_208 ?_
                  refine lv_iload_n hx hb dX0_seatAll_211 rfl (lv_at hl 2 rfl) ?_
                  refine lv_aload_n hx hb dX0_seatAll_212 rfl (lv_at hl 0 rfl) ?_
                  refine cg (v := .int (G_8 0 1)) X Y 1 (by decide) q157 rfl rfl dX0_seatAll_213 ?_
                  refine lv_iadd hx hb dX0_seatAll_216 ?_
                  refine lv_iconst (v := (1 : Int32)) hx hb dX0_seatAll_217 (by decide) ?_
                  refine lv_isub hx hb dX0_seatAll_218 ?_
                  refine lv_aload_n hx hb dX0_seatAll_219 rfl (lv_at hl 0 rfl) ?_
                  refine cg (v := .int (G_8 0 1)) X Y 1 (by decide) q157 rfl rfl dX0_seatAll_220 ?_
                  obtain ⟨b_23, hf⟩ := gd_s hf
                  refine lv_irem hx hb dX0_seatAll_223 b_23 ?_
                  obtain ⟨b_24, hf⟩ := gd_s hf
                  obtain ⟨v_25, ev_25, hf⟩ := nm_s hf
                  refine ca (n := 8) X Y 16 12 rfl b_24 ev_25 dX0_seatAll_224 ?_
                  obtain ⟨r_26, hq_27, hf⟩ := bd1_s hf
                  refine ccI (av := [.int a1, .int v_25]) (rest := []) 2 X Y (tX0_areEnemies l N G_8 a1 v_25 r_26 hq_27) (lw_V q976 q978 qs24 q67 q979) ydX0_areEnemies ⟨(by dsimp only; omega), (by dsimp only; omega)⟩ rfl hl.1 rfl (Nat.le_of_ble_eq_true rfl) (⟨Nat.le_refl _, Nat.le_refl _⟩) dX0_seatAll_225 (fun H locs Y => ?_)
                  refine lv_if_ne (tgt := 235) hx hb dX0_seatAll_228 (by decide) (fun c_28 => ?_) (fun c_28 => ?_)
                  · rw [if_neg c_28] at hf
                    refine lv_iconst (v := (0 : Int32)) hx hb dX0_seatAll_235 (by decide) ?_
                    cases hf
                    exact J236_77 _ _ Y _ (lv_sub hl [0, 1, 2] rfl)
                  · rw [if_pos c_28] at hf
                    refine lv_iconst (v := (1 : Int32)) hx hb dX0_seatAll_231 (by decide) ?_
                    refine lv_goto (tgt := 236) hx hb dX0_seatAll_232 (by decide) ?_
                    cases hf
                    exact J236_77 _ _ Y _ (lv_sub hl [0, 1, 2] rfl)
      exact L160_76 N _ _ hL _ _ Y _ (lv_sub hl [1, 2, 0] rfl)
    · rw [if_pos c_6] at hf
      refine lv_aload_n hx hb dX0_seatAll_150 rfl (lv_at hl 0 rfl) ?_
      refine lv_iload_n hx hb dX0_seatAll_151 rfl (lv_at hl 1 rfl) ?_
      refine lv_iconst (v := (1 : Int32)) hx hb dX0_seatAll_152 (by decide) ?_
      refine lv_iadd hx hb dX0_seatAll_153 ?_
      obtain ⟨G_44, hq_45, hf⟩ := bd1_s hf
      refine ccV (av := [.int (a1 + (1 : Int32))]) (rest := []) 1 X Y (ih G_3 (a1 + (1 : Int32)) G_44 hq_45) (lw_V q1027 q1029 qs26 q67 q1030) ydX0_seatAll ⟨(by dsimp only; omega), (by dsimp only; omega)⟩ rfl hl.1 rfl (Nat.le_of_ble_eq_true rfl) (⟨Nat.le_refl _, Nat.le_refl _⟩) dX0_seatAll_154 (fun H locs Y => ?_)
      cases hf
      exact c_vret X hZ Y dX0_seatAll_157
  · rw [if_pos c_1] at hf
    refine lv_aload_n hx hb dX0_seatAll_8 rfl (lv_at hl 0 rfl) ?_
    refine lv_dup hx hb dX0_seatAll_9 rfl ?_
    refine cg (v := .int (G 0 19)) X Y 19 (by decide) q178 rfl rfl dX0_seatAll_10 ?_
    refine lv_iconst (v := (1 : Int32)) hx hb dX0_seatAll_13 (by decide) ?_
    refine lv_iadd hx hb dX0_seatAll_14 ?_
    obtain ⟨G_46, eG_46, hf⟩ := nm_s hf
    refine cp X Y 19 (by decide) q178 ⟨rfl, rfl⟩ rfl cz0_19 eG_46 dX0_seatAll_15 (fun H locs Y => ?_)
    refine lv_iconst (v := (0 : Int32)) hx hb dX0_seatAll_18 (by decide) ?_
    refine lv_istore_n (lv' := [(2, .int (0 : Int32)), (0, .ref h), (1, .int a1)]) hx hb dX0_seatAll_19 rfl hl (by decide) rfl (fun ls hl => ?_)
    refine lv_iconst (v := (0 : Int32)) hx hb dX0_seatAll_20 (by decide) ?_
    refine lv_istore_n (lv' := [(3, .int (0 : Int32)), (2, .int (0 : Int32)), (0, .ref h), (1, .int a1)]) hx hb dX0_seatAll_21 rfl hl (by decide) rfl (fun ls hl => ?_)
    obtain ⟨x2_70, G_71, hL, hf⟩ := bd2_s hf
    have E22_79 : ∀ (H : Heap) (locs : List Loc), CY D cA A s h ad G_71 Z H locs → ∀ ls : Array Slot, lv_has ls 4 [(0, .ref h), (2, .int x2_70)] → W p l e (cR (10 + (K_ + 1)) 0 0) s m args below meth c H locs 0 0 (MQ below (cQ D cA h ad A Z true (none) G') args s 0 0 A) (F0 m 101 ls []) := by
      clear hL
      intro H locs Y ls hl
      refine lv_aload_n hx hb dX0_seatAll_101 rfl (lv_at hl 0 rfl) ?_
      refine lv_aload_n hx hb dX0_seatAll_102 rfl (lv_at hl 0 rfl) ?_
      refine cg (v := .int (G_71 0 20)) X Y 20 (by decide) q179 rfl rfl dX0_seatAll_103 ?_
      refine lv_iload_n hx hb dX0_seatAll_106 rfl (lv_at hl 1 rfl) ?_
      refine c_mmin (v := (if x2_70 < (G_71 0 20) then x2_70 else (G_71 0 20))) X Y rfl q981 (by dsimp only; omega) hl.1 (Nat.le_of_ble_eq_true rfl) ⟨Nat.le_refl _, Nat.le_refl _⟩ dX0_seatAll_107 ?_
      obtain ⟨G_72, eG_72, hf⟩ := nm_s hf
      refine cp X Y 20 (by decide) q179 ⟨rfl, rfl⟩ rfl cz0_20 eG_72 dX0_seatAll_110 (fun H locs Y => ?_)
      refine lv_aload_n hx hb dX0_seatAll_113 rfl (lv_at hl 0 rfl) ?_
      refine lv_aload_n hx hb dX0_seatAll_114 rfl (lv_at hl 0 rfl) ?_
      refine cg (v := .int (G_72 0 21)) X Y 21 (by decide) q180 rfl rfl dX0_seatAll_115 ?_
      refine lv_aload_n hx hb dX0_seatAll_118 rfl (lv_at hl 0 rfl) ?_
      obtain ⟨r_73, hq_74, hf⟩ := bd1_s hf
      refine ccI (av := []) (rest := [.int (G_72 0 21), .ref h]) 0 X Y (tX0_knowers l N G_72 r_73 hq_74) (lw_V q1031 q1033 qs27 q67 q1034) ydX0_knowers ⟨(by dsimp only; omega), (by dsimp only; omega)⟩ rfl hl.1 rfl (Nat.le_of_ble_eq_true rfl) (⟨Nat.le_refl _, Nat.le_refl _⟩) dX0_seatAll_119 (fun H locs Y => ?_)
      refine c_mmax (v := (if (G_72 0 21) < r_73 then r_73 else (G_72 0 21))) X Y rfl q980 (by dsimp only; omega) hl.1 (Nat.le_of_ble_eq_true rfl) ⟨Nat.le_refl _, Nat.le_refl _⟩ dX0_seatAll_122 ?_
      obtain ⟨G_75, eG_75, hf⟩ := nm_s hf
      refine cp X Y 21 (by decide) q180 ⟨rfl, rfl⟩ rfl cz0_21 eG_75 dX0_seatAll_125 (fun H locs Y => ?_)
      cases hf
      exact c_vret X hZ Y dX0_seatAll_128
    clear hf
    have L22_79 : ∀ (n_ : Nat) (x2_47 : Int32) (x3_48 : Int32) (G_49 : GS), fX0_seatAll_L22 N n_ x2_47 x3_48 G_49 = some (x2_70, G_71) → ∀ (H : Heap) (locs : List Loc), CY D cA A s h ad G_49 Z H locs → ∀ ls : Array Slot, lv_has ls 4 [(0, .ref h), (2, .int x2_47), (3, .int x3_48)] → W p l e (cR (10 + (K_ + 1)) 0 0) s m args below meth c H locs 0 0 (MQ below (cQ D cA h ad A Z true (none) G') args s 0 0 A) (F0 m 22 ls []) := by
      clear hL
      intro n_
      induction n_ with
      | zero =>
        intro x2_47 x3_48 G_49 hf
        rw [fX0_seatAll_L22.eq_1] at hf
        cases hf
      | succ n_ ih2 =>
        intro x2_47 x3_48 G_49 hf
        intro H locs Y ls hl
        rw [fX0_seatAll_L22.eq_2] at hf
        refine lv_iload_n hx hb dX0_seatAll_22 rfl (lv_at hl 2 rfl) ?_
        refine lv_aload_n hx hb dX0_seatAll_23 rfl (lv_at hl 0 rfl) ?_
        refine cg (v := .int (G_49 0 3)) X Y 3 (by decide) q160 rfl rfl dX0_seatAll_24 ?_
        refine lv_icmp_ge (tgt := 101) hx hb dX0_seatAll_27 (by decide) (fun c_50 => ?_) (fun c_50 => ?_)
        · rw [if_pos c_50] at hf
          cases hf
          exact E22_79 _ _ Y _ (lv_sub hl [0, 1] rfl)
        · rw [if_neg c_50] at hf
          refine lv_aload_n hx hb dX0_seatAll_30 rfl (lv_at hl 0 rfl) ?_
          refine cg (v := .ref (ad 18)) X Y 18 (by decide) q177 rfl rfl dX0_seatAll_31 ?_
          refine lv_iload_n hx hb dX0_seatAll_34 rfl (lv_at hl 2 rfl) ?_
          refine lv_aload_n hx hb dX0_seatAll_35 rfl (lv_at hl 0 rfl) ?_
          refine cg (v := .int (G_49 0 19)) X Y 19 (by decide) q178 rfl rfl dX0_seatAll_36 ?_
          refine lv_iconst (v := (1 : Int32)) hx hb dX0_seatAll_39 (by decide) ?_
          obtain ⟨j_56, hj, hf⟩ := bd1_s hf
          have J58_80 : ∀ (H : Heap) (locs : List Loc), CY D cA A s h ad G_49 Z H locs → ∀ ls : Array Slot, lv_has ls 4 [(0, .ref h), (2, .int x2_47), (3, .int x3_48)] → W p l e (cR (10 + (K_ + 1)) 0 0) s m args below meth c H locs 0 0 (MQ below (cQ D cA h ad A Z true (none) G') args s 0 0 A) (F0 m 58 ls [.int j_56, .int x3_48, .ref (ad 18)]) := by
            clear hj
            intro H locs Y ls hl
            obtain ⟨b_57, hf⟩ := gd_s hf
            obtain ⟨G_58, eG_58, hf⟩ := nm_s hf
            refine cs (n := 6) X Y 18 14 (by decide) rfl cz18 b_57 eG_58 dX0_seatAll_58 (fun H locs Y => ?_)
            refine lv_iload_n hx hb dX0_seatAll_59 rfl (lv_at hl 1 rfl) ?_
            refine lv_aload_n hx hb dX0_seatAll_60 rfl (lv_at hl 0 rfl) ?_
            refine cg (v := .ref (ad 17)) X Y 17 (by decide) q176 rfl rfl dX0_seatAll_61 ?_
            refine lv_iload_n hx hb dX0_seatAll_64 rfl (lv_at hl 2 rfl) ?_
            obtain ⟨b_59, hf⟩ := gd_s hf
            obtain ⟨v_60, ev_60, hf⟩ := nm_s hf
            refine ca (n := 6) X Y 17 13 rfl b_59 ev_60 dX0_seatAll_65 ?_
            refine lv_iconst (v := (-1 : Int32)) hx hb dX0_seatAll_66 (by decide) ?_
            obtain ⟨j_67, hj, hf⟩ := bd1_s hf
            have J93_81 : ∀ (H : Heap) (locs : List Loc), CY D cA A s h ad G_58 Z H locs → ∀ ls : Array Slot, lv_has ls 4 [(0, .ref h), (3, .int x3_48)] → W p l e (cR (10 + (K_ + 1)) 0 0) s m args below meth c H locs 0 0 (MQ below (cQ D cA h ad A Z true (none) G') args s 0 0 A) (F0 m 93 ls [.int j_67, .int x2_47]) := by
              clear hj
              intro H locs Y ls hl
              refine lv_iadd hx hb dX0_seatAll_93 ?_
              obtain ⟨x2_68, ex2_68, hf⟩ := nm_s hf
              refine lv_topE ex2_68 ?_
              refine lv_istore_n (lv' := [(2, .int x2_68), (0, .ref h), (3, .int x3_48)]) hx hb dX0_seatAll_94 rfl hl (by decide) rfl (fun ls hl => ?_)
              obtain ⟨x3_69, ex3_69, hf⟩ := nm_s hf
              refine lv_iinc (v := x3_69) (lv' := [(3, .int x3_69), (2, .int x2_68), (0, .ref h)]) hx hb dX0_seatAll_95 hl (k := 2) rfl (by rw [ex3_69]; rfl) (by decide) rfl (fun ls hl => ?_)
              refine lv_goto (tgt := 22) hx hb dX0_seatAll_98 (by decide) ?_
              exact ih2 _ _ _ hf _ _ Y _ (lv_sub hl [2, 1, 0] rfl)
            replace hf := hj
            clear hj
            refine lv_icmp_eq (tgt := 92) hx hb dX0_seatAll_67 (by decide) (fun c_61 => ?_) (fun c_61 => ?_)
            · rw [if_pos c_61] at hf
              refine lv_iconst (v := (0 : Int32)) hx hb dX0_seatAll_92 (by decide) ?_
              cases hf
              exact J93_81 _ _ Y _ (lv_sub hl [0, 2] rfl)
            · rw [if_neg c_61] at hf
              refine lv_aload_n hx hb dX0_seatAll_70 rfl (lv_at hl 0 rfl) ?_
              refine cg (v := .ref (ad 8)) X Y 8 (by decide) q165 rfl rfl dX0_seatAll_71 ?_
              refine cgn (v := .ref (ad 22)) X Y 2 (by decide) q123 rfl rfl dX0_seatAll_74 ?_
              refine lv_aload_n hx hb dX0_seatAll_77 rfl (lv_at hl 0 rfl) ?_
              refine cg (v := .ref (ad 17)) X Y 17 (by decide) q176 rfl rfl dX0_seatAll_78 ?_
              refine lv_iload_n hx hb dX0_seatAll_81 rfl (lv_at hl 2 rfl) ?_
              obtain ⟨b_62, hf⟩ := gd_s hf
              obtain ⟨v_63, ev_63, hf⟩ := nm_s hf
              refine ca (n := 6) X Y 17 13 rfl b_62 ev_63 dX0_seatAll_82 ?_
              obtain ⟨b_64, hf⟩ := gd_s hf
              obtain ⟨v_65, ev_65, hf⟩ := nm_s hf
              refine ca (n := 8) X Y 22 7 rfl b_64 ev_65 dX0_seatAll_83 ?_
              refine lv_iload_n hx hb dX0_seatAll_84 rfl (lv_at hl 2 rfl) ?_
              refine lv_icmp_eq (tgt := 92) hx hb dX0_seatAll_85 (by decide) (fun c_66 => ?_) (fun c_66 => ?_)
              · rw [if_pos c_66] at hf
                refine lv_iconst (v := (0 : Int32)) hx hb dX0_seatAll_92 (by decide) ?_
                cases hf
                exact J93_81 _ _ Y _ (lv_sub hl [0, 2] rfl)
              · rw [if_neg c_66] at hf
                refine lv_iconst (v := (1 : Int32)) hx hb dX0_seatAll_88 (by decide) ?_
                refine lv_goto (tgt := 93) hx hb dX0_seatAll_89 (by decide) ?_
                cases hf
                exact J93_81 _ _ Y _ (lv_sub hl [0, 2] rfl)
          replace hf := hj
          clear hj
          refine lv_icmp_ne (tgt := 52) hx hb dX0_seatAll_40 (by decide) (fun c_51 => ?_) (fun c_51 => ?_)
          · rw [if_neg c_51] at hf
            refine lv_aload_n hx hb dX0_seatAll_52 rfl (lv_at hl 0 rfl) ?_
            refine cg (v := .ref (ad 18)) X Y 18 (by decide) q177 rfl rfl dX0_seatAll_53 ?_
            refine lv_iload_n hx hb dX0_seatAll_56 rfl (lv_at hl 2 rfl) ?_
            obtain ⟨b_52, hf⟩ := gd_s hf
            obtain ⟨v_53, ev_53, hf⟩ := nm_s hf
            refine ca (n := 6) X Y 18 14 rfl b_52 ev_53 dX0_seatAll_57 ?_
            cases hf
            exact J58_80 _ _ Y _ (lv_sub hl [0, 1, 2] rfl)
          · rw [if_pos c_51] at hf
            refine lv_aload_n hx hb dX0_seatAll_43 rfl (lv_at hl 0 rfl) ?_
            refine cg (v := .ref (ad 17)) X Y 17 (by decide) q176 rfl rfl dX0_seatAll_44 ?_
            refine lv_iload_n hx hb dX0_seatAll_47 rfl (lv_at hl 2 rfl) ?_
            obtain ⟨b_54, hf⟩ := gd_s hf
            obtain ⟨v_55, ev_55, hf⟩ := nm_s hf
            refine ca (n := 6) X Y 17 13 rfl b_54 ev_55 dX0_seatAll_48 ?_
            refine lv_goto (tgt := 58) hx hb dX0_seatAll_49 (by decide) ?_
            cases hf
            exact J58_80 _ _ Y _ (lv_sub hl [0, 1, 2] rfl)
    exact L22_79 N _ _ _ hL _ _ Y _ (lv_sub hl [2, 1, 0] rfl)

def fX0_search (N : Nat) (G : GS) (a1 : Int32) : Option (Int32 × GS) :=
  nm (gfill G 16 (-1 : Int32) : GS) fun G_1 =>
  nm (gu G_1 0 19 (0 : Int32) : GS) fun G_2 =>
  nm (gu G_2 0 20 (7 : Int32) : GS) fun G_3 =>
  nm (gu G_3 0 21 (-1 : Int32) : GS) fun G_4 =>
  nm (gu G_4 0 22 a1 : GS) fun G_5 =>
  bd1 (fX0_seatAll N 8 G_5 (0 : Int32)) fun G_6 =>
  some ((G_6 0 19), G_6)
theorem ydX0_search : yX0_search.cls = RX0 ∧ yX0_search.cls ≠ "java/lang/invoke/MethodHandle" ∧ yX0_search.cls ≠ "java/lang/invoke/VarHandle" ∧ (parseMethodDescriptor yX0_search.desc).map (fun d => d.parameters.length) = some 1 := by decide +kernel
set_option maxHeartbeats 4000000 in
theorem tX0_search (l : Launch) (N : Nat) (G : GS) (a1 : Int32) (r : Int32) (G' : GS) (hf : fX0_search N G a1 = some (r, G')) : cMet l yX0_search cX0_search 2 (some .int) (cR 19 0 0) [.int a1] G (some (.int r)) G' true := by
  unfold fX0_search at hf
  refine cMet_of (by decide +kernel) rfl (Nat.le_of_ble_eq_true rfl) (fun {p e s m args below meth c ls D cA h ad A Z} X Y hl => ?_)
  have hx := X.1.1.1
  have hb := X.1.1.2.1
  have hZ : true = true → Z = Z := fun _ => rfl
  have hl : lv_has ls 2 [(0, .ref h), (1, .int a1)] := hl
  refine lv_aload_n hx hb dX0_search_0 rfl (lv_at hl 0 rfl) ?_
  refine cg (v := .ref (ad 16)) X Y 16 (by decide) q175 rfl rfl dX0_search_1 ?_
  refine lv_iconst (v := (-1 : Int32)) hx hb dX0_search_4 (by decide) ?_
  obtain ⟨G_1, eG_1, hf⟩ := nm_s hf
  refine c_fill (n := 8) (q0 := 12) X Y (by decide) (by decide) rfl (by rw [eG_1]; rfl) eG_1 q147 (by decide) hl.1 (Nat.le_of_ble_eq_true rfl) (by decide) dX0_search_5 (fun H locs Y => ?_)
  refine lv_aload_n hx hb dX0_search_8 rfl (lv_at hl 0 rfl) ?_
  refine lv_iconst (v := (0 : Int32)) hx hb dX0_search_9 (by decide) ?_
  obtain ⟨G_2, eG_2, hf⟩ := nm_s hf
  refine cp X Y 19 (by decide) q178 ⟨rfl, rfl⟩ rfl cz0_19 eG_2 dX0_search_10 (fun H locs Y => ?_)
  refine lv_aload_n hx hb dX0_search_13 rfl (lv_at hl 0 rfl) ?_
  refine lv_bipush (v := (7 : Int32)) hx hb dX0_search_14 (by decide) ?_
  obtain ⟨G_3, eG_3, hf⟩ := nm_s hf
  refine cp X Y 20 (by decide) q179 ⟨rfl, rfl⟩ rfl cz0_20 eG_3 dX0_search_16 (fun H locs Y => ?_)
  refine lv_aload_n hx hb dX0_search_19 rfl (lv_at hl 0 rfl) ?_
  refine lv_iconst (v := (-1 : Int32)) hx hb dX0_search_20 (by decide) ?_
  obtain ⟨G_4, eG_4, hf⟩ := nm_s hf
  refine cp X Y 21 (by decide) q180 ⟨rfl, rfl⟩ rfl cz0_21 eG_4 dX0_search_21 (fun H locs Y => ?_)
  refine lv_aload_n hx hb dX0_search_24 rfl (lv_at hl 0 rfl) ?_
  refine lv_iload_n hx hb dX0_search_25 rfl (lv_at hl 1 rfl) ?_
  obtain ⟨G_5, eG_5, hf⟩ := nm_s hf
  refine cp X Y 22 (by decide) q181 ⟨rfl, rfl⟩ rfl cz0_22 eG_5 dX0_search_26 (fun H locs Y => ?_)
  refine lv_aload_n hx hb dX0_search_29 rfl (lv_at hl 0 rfl) ?_
  refine lv_iconst (v := (0 : Int32)) hx hb dX0_search_30 (by decide) ?_
  obtain ⟨G_6, hq_7, hf⟩ := bd1_s hf
  refine ccV (av := [.int (0 : Int32)]) (rest := []) 1 X Y (tX0_seatAll l N 8 G_5 (0 : Int32) G_6 hq_7) (lw_V q1027 q1029 qs26 q67 q1030) ydX0_seatAll ⟨by decide, by decide⟩ rfl hl.1 rfl (Nat.le_of_ble_eq_true rfl) (by decide) dX0_search_31 (fun H locs Y => ?_)
  refine lv_aload_n hx hb dX0_search_34 rfl (lv_at hl 0 rfl) ?_
  refine cg (v := .int (G_6 0 19)) X Y 19 (by decide) q178 rfl rfl dX0_search_35 ?_
  cases hf
  exact c_iret X hZ Y dX0_search_38

def fX0_seatings (N : Nat) (G : GS) : Option (Int32 × GS) :=
  bd2 (fX0_search N G (0 : Int32)) fun r_1 G_2 =>
  some (r_1, G_2)
theorem ydX0_seatings : yX0_seatings.cls = RX0 ∧ yX0_seatings.cls ≠ "java/lang/invoke/MethodHandle" ∧ yX0_seatings.cls ≠ "java/lang/invoke/VarHandle" ∧ (parseMethodDescriptor yX0_seatings.desc).map (fun d => d.parameters.length) = some 0 := by decide +kernel
set_option maxHeartbeats 4000000 in
theorem tX0_seatings (l : Launch) (N : Nat) (G : GS) (r : Int32) (G' : GS) (hf : fX0_seatings N G = some (r, G')) : cMet l yX0_seatings cX0_seatings 1 (some .int) (cR 20 0 0) [] G (some (.int r)) G' true := by
  unfold fX0_seatings at hf
  refine cMet_of (by decide +kernel) rfl (Nat.le_of_ble_eq_true rfl) (fun {p e s m args below meth c ls D cA h ad A Z} X Y hl => ?_)
  have hx := X.1.1.1
  have hb := X.1.1.2.1
  have hZ : true = true → Z = Z := fun _ => rfl
  have hl : lv_has ls 1 [(0, .ref h)] := hl
  refine lv_aload_n hx hb dX0_seatings_0 rfl (lv_at hl 0 rfl) ?_
  refine lv_iconst (v := (0 : Int32)) hx hb dX0_seatings_1 (by decide) ?_
  obtain ⟨r_1, G_2, hq_3, hf⟩ := bd2_s hf
  refine ccI (av := [.int (0 : Int32)]) (rest := []) 1 X Y (tX0_search l N G (0 : Int32) r_1 G_2 hq_3) (lw_V q1023 q1025 qs25 q67 q1026) ydX0_search ⟨by decide, by decide⟩ rfl hl.1 rfl (Nat.le_of_ble_eq_true rfl) (by decide) dX0_seatings_2 (fun H locs Y => ?_)
  cases hf
  exact c_iret X hZ Y dX0_seatings_5

def fX0_seatOf (N : Nat) (G : GS) (a1 : Int32) : Option (Int32 × GS) :=
  bd1 (fX0_isKnight N G a1) fun r_1 =>
  if r_1 = (0 : Int32) then (
   some ((-2 : Int32), G)
  ) else (
   bd2 (fX0_search N G (0 : Int32)) fun r_4 G_5 =>
   if r_4 = (0 : Int32) then (
    some ((-1 : Int32), G_5)
   ) else (
    gd (inb a1 6) <|
    nm (G_5 18 (a1).toNatClampNeg : Int32) fun v_9 =>
    some (v_9, G_5)
   )
  )
theorem ydX0_seatOf : yX0_seatOf.cls = RX0 ∧ yX0_seatOf.cls ≠ "java/lang/invoke/MethodHandle" ∧ yX0_seatOf.cls ≠ "java/lang/invoke/VarHandle" ∧ (parseMethodDescriptor yX0_seatOf.desc).map (fun d => d.parameters.length) = some 1 := by decide +kernel
set_option maxHeartbeats 4000000 in
theorem tX0_seatOf (l : Launch) (N : Nat) (G : GS) (a1 : Int32) (r : Int32) (G' : GS) (hf : fX0_seatOf N G a1 = some (r, G')) : cMet l yX0_seatOf cX0_seatOf 2 (some .int) (cR 20 0 0) [.int a1] G (some (.int r)) G' true := by
  unfold fX0_seatOf at hf
  refine cMet_of (by decide +kernel) rfl (Nat.le_of_ble_eq_true rfl) (fun {p e s m args below meth c ls D cA h ad A Z} X Y hl => ?_)
  have hx := X.1.1.1
  have hb := X.1.1.2.1
  have hZ : true = true → Z = Z := fun _ => rfl
  have hl : lv_has ls 2 [(0, .ref h), (1, .int a1)] := hl
  refine lv_aload_n hx hb dX0_seatOf_0 rfl (lv_at hl 0 rfl) ?_
  refine lv_iload_n hx hb dX0_seatOf_1 rfl (lv_at hl 1 rfl) ?_
  obtain ⟨r_1, hq_2, hf⟩ := bd1_s hf
  refine ccI (av := [.int a1]) (rest := []) 1 X Y (tX0_isKnight l N G a1 r_1 hq_2) (lw_V q794 q796 qs15 q67 q797) ydX0_isKnight ⟨by decide, by decide⟩ rfl hl.1 rfl (Nat.le_of_ble_eq_true rfl) (by decide) dX0_seatOf_2 (fun H locs Y => ?_)
  refine lv_if_ne (tgt := 11) hx hb dX0_seatOf_5 (by decide) (fun c_3 => ?_) (fun c_3 => ?_)
  · rw [if_neg c_3] at hf
    refine lv_aload_n hx hb dX0_seatOf_11 rfl (lv_at hl 0 rfl) ?_
    refine lv_iconst (v := (0 : Int32)) hx hb dX0_seatOf_12 (by decide) ?_
    obtain ⟨r_4, G_5, hq_6, hf⟩ := bd2_s hf
    refine ccI (av := [.int (0 : Int32)]) (rest := []) 1 X Y (tX0_search l N G (0 : Int32) r_4 G_5 hq_6) (lw_V q1023 q1025 qs25 q67 q1026) ydX0_search ⟨by decide, by decide⟩ rfl hl.1 rfl (Nat.le_of_ble_eq_true rfl) (by decide) dX0_seatOf_13 (fun H locs Y => ?_)
    refine lv_if_ne (tgt := 23) hx hb dX0_seatOf_16 (by decide) (fun c_7 => ?_) (fun c_7 => ?_)
    · rw [if_neg c_7] at hf
      refine lv_aload_n hx hb dX0_seatOf_23 rfl (lv_at hl 0 rfl) ?_
      refine cg (v := .ref (ad 18)) X Y 18 (by decide) q177 rfl rfl dX0_seatOf_24 ?_
      refine lv_iload_n hx hb dX0_seatOf_27 rfl (lv_at hl 1 rfl) ?_
      obtain ⟨b_8, hf⟩ := gd_s hf
      obtain ⟨v_9, ev_9, hf⟩ := nm_s hf
      refine ca (n := 6) X Y 18 14 rfl b_8 ev_9 dX0_seatOf_28 ?_
      cases hf
      exact c_iret X hZ Y dX0_seatOf_29
    · rw [if_pos c_7] at hf
      refine lv_iconst (v := (-1 : Int32)) hx hb dX0_seatOf_19 (by decide) ?_
      refine lv_goto (tgt := 29) hx hb dX0_seatOf_20 (by decide) ?_
      cases hf
      exact c_iret X hZ Y dX0_seatOf_29
  · rw [if_pos c_3] at hf
    refine lv_bipush (v := (-2 : Int32)) hx hb dX0_seatOf_8 (by decide) ?_
    cases hf
    exact c_iret X hZ Y dX0_seatOf_10

def fX0_moved (N : Nat) (G : GS) : Option (Int32 × GS) :=
  bd2 (fX0_search N G (0 : Int32)) fun r_1 G_2 =>
  if r_1 = (0 : Int32) then (
   some ((-1 : Int32), G_2)
  ) else (
   some ((G_2 0 20), G_2)
  )
theorem ydX0_moved : yX0_moved.cls = RX0 ∧ yX0_moved.cls ≠ "java/lang/invoke/MethodHandle" ∧ yX0_moved.cls ≠ "java/lang/invoke/VarHandle" ∧ (parseMethodDescriptor yX0_moved.desc).map (fun d => d.parameters.length) = some 0 := by decide +kernel
set_option maxHeartbeats 4000000 in
theorem tX0_moved (l : Launch) (N : Nat) (G : GS) (r : Int32) (G' : GS) (hf : fX0_moved N G = some (r, G')) : cMet l yX0_moved cX0_moved 1 (some .int) (cR 20 0 0) [] G (some (.int r)) G' true := by
  unfold fX0_moved at hf
  refine cMet_of (by decide +kernel) rfl (Nat.le_of_ble_eq_true rfl) (fun {p e s m args below meth c ls D cA h ad A Z} X Y hl => ?_)
  have hx := X.1.1.1
  have hb := X.1.1.2.1
  have hZ : true = true → Z = Z := fun _ => rfl
  have hl : lv_has ls 1 [(0, .ref h)] := hl
  refine lv_aload_n hx hb dX0_moved_0 rfl (lv_at hl 0 rfl) ?_
  refine lv_iconst (v := (0 : Int32)) hx hb dX0_moved_1 (by decide) ?_
  obtain ⟨r_1, G_2, hq_3, hf⟩ := bd2_s hf
  refine ccI (av := [.int (0 : Int32)]) (rest := []) 1 X Y (tX0_search l N G (0 : Int32) r_1 G_2 hq_3) (lw_V q1023 q1025 qs25 q67 q1026) ydX0_search ⟨by decide, by decide⟩ rfl hl.1 rfl (Nat.le_of_ble_eq_true rfl) (by decide) dX0_moved_2 (fun H locs Y => ?_)
  refine lv_if_ne (tgt := 12) hx hb dX0_moved_5 (by decide) (fun c_4 => ?_) (fun c_4 => ?_)
  · rw [if_neg c_4] at hf
    refine lv_aload_n hx hb dX0_moved_12 rfl (lv_at hl 0 rfl) ?_
    refine cg (v := .int (G_2 0 20)) X Y 20 (by decide) q179 rfl rfl dX0_moved_13 ?_
    cases hf
    exact c_iret X hZ Y dX0_moved_16
  · rw [if_pos c_4] at hf
    refine lv_iconst (v := (-1 : Int32)) hx hb dX0_moved_8 (by decide) ?_
    refine lv_goto (tgt := 16) hx hb dX0_moved_9 (by decide) ?_
    cases hf
    exact c_iret X hZ Y dX0_moved_16

def fX0_knows (N : Nat) (G : GS) (a1 : Int32) : Option (Int32 × GS) :=
  bd1 (fX0_in N (a1).toInt64 (0 : Int64) (3 : Int64)) fun r_1 =>
  if r_1 = (0 : Int32) then (
   some ((-3 : Int32), G)
  ) else (
   bd2 (fX0_search N G a1) fun r_4 G_5 =>
   if r_4 = (0 : Int32) then (
    some ((-1 : Int32), G_5)
   ) else (
    some ((G_5 0 21), G_5)
   )
  )
theorem ydX0_knows : yX0_knows.cls = RX0 ∧ yX0_knows.cls ≠ "java/lang/invoke/MethodHandle" ∧ yX0_knows.cls ≠ "java/lang/invoke/VarHandle" ∧ (parseMethodDescriptor yX0_knows.desc).map (fun d => d.parameters.length) = some 1 := by decide +kernel
set_option maxHeartbeats 4000000 in
theorem tX0_knows (l : Launch) (N : Nat) (G : GS) (a1 : Int32) (r : Int32) (G' : GS) (hf : fX0_knows N G a1 = some (r, G')) : cMet l yX0_knows cX0_knows 2 (some .int) (cR 20 0 0) [.int a1] G (some (.int r)) G' true := by
  unfold fX0_knows at hf
  refine cMet_of (by decide +kernel) rfl (Nat.le_of_ble_eq_true rfl) (fun {p e s m args below meth c ls D cA h ad A Z} X Y hl => ?_)
  have hx := X.1.1.1
  have hb := X.1.1.2.1
  have hZ : true = true → Z = Z := fun _ => rfl
  have hl : lv_has ls 2 [(0, .ref h), (1, .int a1)] := hl
  refine lv_iload_n hx hb dX0_knows_0 rfl (lv_at hl 1 rfl) ?_
  refine lv_i2l (v := (a1).toInt64) hx hb dX0_knows_1 rfl ?_
  refine lv_lconst (v := (0 : Int64)) hx hb dX0_knows_2 (by decide) ?_
  refine lv_ldc2 (v := (3 : Int64)) hx hb X.1.1.2.2.2.1 (X.1.1.2.2.2.2.1 _ q843) dX0_knows_3 ?_
  obtain ⟨r_1, hq_2, hf⟩ := bd1_s hf
  refine c_callSI (av := [.long (a1).toInt64, .long (0 : Int64), .long (3 : Int64)]) (rest := []) 3 X Y (tX0_in l N (a1).toInt64 (0 : Int64) (3 : Int64) r_1 hq_2) (lw_S q235 q236 q67 q237) ydX0_in ⟨rfl, rfl, by decide, by decide⟩ rfl hl.1 rfl (Nat.le_of_ble_eq_true rfl) (by decide) dX0_knows_6 (fun H locs Y => ?_)
  refine lv_if_ne (tgt := 15) hx hb dX0_knows_9 (by decide) (fun c_3 => ?_) (fun c_3 => ?_)
  · rw [if_neg c_3] at hf
    refine lv_aload_n hx hb dX0_knows_15 rfl (lv_at hl 0 rfl) ?_
    refine lv_iload_n hx hb dX0_knows_16 rfl (lv_at hl 1 rfl) ?_
    obtain ⟨r_4, G_5, hq_6, hf⟩ := bd2_s hf
    refine ccI (av := [.int a1]) (rest := []) 1 X Y (tX0_search l N G a1 r_4 G_5 hq_6) (lw_V q1023 q1025 qs25 q67 q1026) ydX0_search ⟨by decide, by decide⟩ rfl hl.1 rfl (Nat.le_of_ble_eq_true rfl) (by decide) dX0_knows_17 (fun H locs Y => ?_)
    refine lv_if_ne (tgt := 27) hx hb dX0_knows_20 (by decide) (fun c_7 => ?_) (fun c_7 => ?_)
    · rw [if_neg c_7] at hf
      refine lv_aload_n hx hb dX0_knows_27 rfl (lv_at hl 0 rfl) ?_
      refine cg (v := .int (G_5 0 21)) X Y 21 (by decide) q180 rfl rfl dX0_knows_28 ?_
      cases hf
      exact c_iret X hZ Y dX0_knows_31
    · rw [if_pos c_7] at hf
      refine lv_iconst (v := (-1 : Int32)) hx hb dX0_knows_23 (by decide) ?_
      refine lv_goto (tgt := 31) hx hb dX0_knows_24 (by decide) ?_
      cases hf
      exact c_iret X hZ Y dX0_knows_31
  · rw [if_pos c_3] at hf
    refine lv_bipush (v := (-3 : Int32)) hx hb dX0_knows_12 (by decide) ?_
    cases hf
    exact c_iret X hZ Y dX0_knows_14

def fX0_begin_L24 (N : Nat) : Nat → Int32 → GS → Option GS
  | 0, _, _ => none
  | n_ + 1, x1_3, G_4 =>
    if (G_4 0 3) ≤ x1_3 then (
     some G_4
    ) else (
     gd (inb x1_3 6) <|
     gd (¬ G_4 32 (x1_3).toNatClampNeg = -1) <|
     gd (inb x1_3 6) <|
     nm (gu G_4 20 (x1_3).toNatClampNeg (G_4 33 (x1_3).toNatClampNeg) : GS) fun G_9 =>
     nm ((x1_3 + (1 : Int32)) : Int32) fun x1_10 =>
     fX0_begin_L24 N n_ x1_10 G_9
    )
def fX0_begin (N : Nat) (G : GS) : Option GS :=
  nm (gfill G 21 (0 : Int32) : GS) fun G_1 =>
  nm (gfill G_1 22 (-1 : Int32) : GS) fun G_2 =>
  bd1 (fX0_begin_L24 N N (0 : Int32) G_2) fun G_11 =>
  nm (gu G_11 8 3 (((1 : Int32) <<< ((G_11 0 3) &&& 31)) - (1 : Int32)) : GS) fun G_12 =>
  nm (gu G_12 8 4 (0 : Int32) : GS) fun G_13 =>
  nm (gu G_13 0 11 (0 : Int32) : GS) fun G_14 =>
  nm (gu G_14 0 13 (0 : Int32) : GS) fun G_15 =>
  gd (inb (0 : Int32) 2) <|
  nm (gu G_15 35 ((0 : Int32)).toNatClampNeg 0 : GS) fun G_17 =>
  gd (inb (1 : Int32) 2) <|
  nm (gu G_17 35 ((1 : Int32)).toNatClampNeg 0 : GS) fun G_19 =>
  some G_19
theorem ydX0_begin : yX0_begin.cls = RX0 ∧ yX0_begin.cls ≠ "java/lang/invoke/MethodHandle" ∧ yX0_begin.cls ≠ "java/lang/invoke/VarHandle" ∧ (parseMethodDescriptor yX0_begin.desc).map (fun d => d.parameters.length) = some 0 := by decide +kernel
set_option maxHeartbeats 4000000 in
theorem tX0_begin (l : Launch) (N : Nat) (G : GS) (G' : GS) (hf : fX0_begin N G = some G') : cMet l yX0_begin cX0_begin 2 none (cR 2 0 0) [] G (none) G' false := by
  unfold fX0_begin at hf
  refine cMet_of (by decide +kernel) rfl (Nat.le_of_ble_eq_true rfl) (fun {p e s m args below meth c ls D cA h ad A Z} X Y hl => ?_)
  have hx := X.1.1.1
  have hb := X.1.1.2.1
  obtain ⟨Z0, hZ0⟩ : ∃ z, z = Z := ⟨_, rfl⟩
  rw [← hZ0]
  have hl : lv_has ls 2 [(0, .ref h)] := hl
  refine lv_aload_n hx hb dX0_begin_0 rfl (lv_at hl 0 rfl) ?_
  refine cg (v := .ref (ad 8)) X Y 8 (by decide) q165 rfl rfl dX0_begin_1 ?_
  refine cgn (v := .ref (ad 21)) X Y 1 (by decide) q121 rfl rfl dX0_begin_4 ?_
  refine lv_iconst (v := (0 : Int32)) hx hb dX0_begin_7 (by decide) ?_
  obtain ⟨G_1, eG_1, hf⟩ := nm_s hf
  refine c_fill (n := 6) (q0 := 6) X Y (by decide) (by decide) rfl (by rw [eG_1]; rfl) eG_1 q147 (by decide) hl.1 (Nat.le_of_ble_eq_true rfl) (by decide) dX0_begin_8 (fun H locs Y => ?_)
  refine lv_aload_n hx hb dX0_begin_11 rfl (lv_at hl 0 rfl) ?_
  refine cg (v := .ref (ad 8)) X Y 8 (by decide) q165 rfl rfl dX0_begin_12 ?_
  refine cgn (v := .ref (ad 22)) X Y 2 (by decide) q123 rfl rfl dX0_begin_15 ?_
  refine lv_iconst (v := (-1 : Int32)) hx hb dX0_begin_18 (by decide) ?_
  obtain ⟨G_2, eG_2, hf⟩ := nm_s hf
  refine c_fill (n := 8) (q0 := 7) X Y (by decide) (by decide) rfl (by rw [eG_2]; rfl) eG_2 q147 (by decide) hl.1 (Nat.le_of_ble_eq_true rfl) (by decide) dX0_begin_19 (fun H locs Y => ?_)
  refine lv_iconst (v := (0 : Int32)) hx hb dX0_begin_22 (by decide) ?_
  refine lv_istore_n (lv' := [(1, .int (0 : Int32)), (0, .ref h)]) hx hb dX0_begin_23 rfl hl (by decide) rfl (fun ls hl => ?_)
  obtain ⟨G_11, hL, hf⟩ := bd1_s hf
  have E24_20 : ∀ (Z : ZT) (H : Heap) (locs : List Loc), CY D cA A s h ad G_11 Z H locs → ∀ ls : Array Slot, lv_has ls 2 [(0, .ref h)] → W p l e (cR 2 0 0) s m args below meth c H locs 0 0 (MQ below (cQ D cA h ad A Z0 false (none) G') args s 0 0 A) (F0 m 55 ls []) := by
    clear hL
    intro Z H locs Y ls hl
    refine lv_aload_n hx hb dX0_begin_55 rfl (lv_at hl 0 rfl) ?_
    refine cg (v := .ref (ad 8)) X Y 8 (by decide) q165 rfl rfl dX0_begin_56 ?_
    refine lv_iconst (v := (1 : Int32)) hx hb dX0_begin_59 (by decide) ?_
    refine lv_aload_n hx hb dX0_begin_60 rfl (lv_at hl 0 rfl) ?_
    refine cg (v := .int (G_11 0 3)) X Y 3 (by decide) q160 rfl rfl dX0_begin_61 ?_
    refine lv_ishl hx hb dX0_begin_64 ?_
    refine lv_iconst (v := (1 : Int32)) hx hb dX0_begin_65 (by decide) ?_
    refine lv_isub hx hb dX0_begin_66 ?_
    obtain ⟨G_12, eG_12, hf⟩ := nm_s hf
    refine cpn X Y 3 (by decide) q125 ⟨rfl, rfl⟩ rfl cz8_3 eG_12 dX0_begin_67 (fun H locs Y => ?_)
    refine lv_aload_n hx hb dX0_begin_70 rfl (lv_at hl 0 rfl) ?_
    refine cg (v := .ref (ad 8)) X Y 8 (by decide) q165 rfl rfl dX0_begin_71 ?_
    refine lv_iconst (v := (0 : Int32)) hx hb dX0_begin_74 (by decide) ?_
    obtain ⟨G_13, eG_13, hf⟩ := nm_s hf
    refine cpn X Y 4 (by decide) q127 ⟨rfl, rfl⟩ rfl cz8_4 eG_13 dX0_begin_75 (fun H locs Y => ?_)
    refine lv_aload_n hx hb dX0_begin_78 rfl (lv_at hl 0 rfl) ?_
    refine lv_iconst (v := (0 : Int32)) hx hb dX0_begin_79 (by decide) ?_
    obtain ⟨G_14, eG_14, hf⟩ := nm_s hf
    refine cp X Y 11 (by decide) q168 ⟨rfl, rfl⟩ rfl cz0_11 eG_14 dX0_begin_80 (fun H locs Y => ?_)
    refine lv_aload_n hx hb dX0_begin_83 rfl (lv_at hl 0 rfl) ?_
    refine lv_iconst (v := (0 : Int32)) hx hb dX0_begin_84 (by decide) ?_
    obtain ⟨G_15, eG_15, hf⟩ := nm_s hf
    refine cp X Y 13 (by decide) q170 ⟨rfl, rfl⟩ rfl cz0_13 eG_15 dX0_begin_85 (fun H locs Y => ?_)
    refine lv_aload_n hx hb dX0_begin_88 rfl (lv_at hl 0 rfl) ?_
    refine cg (v := .ref (ad 9)) X Y 9 (by decide) q166 rfl rfl dX0_begin_89 ?_
    refine lv_iconst (v := (0 : Int32)) hx hb dX0_begin_92 (by decide) ?_
    refine lv_null hx hb dX0_begin_93 ?_
    obtain ⟨b_16, hf⟩ := gd_s hf
    obtain ⟨G_17, eG_17, hf⟩ := nm_s hf
    refine c_keptN X Y b_16 eG_17 dX0_begin_94 (fun H locs Z Y => ?_)
    refine lv_aload_n hx hb dX0_begin_95 rfl (lv_at hl 0 rfl) ?_
    refine cg (v := .ref (ad 9)) X Y 9 (by decide) q166 rfl rfl dX0_begin_96 ?_
    refine lv_iconst (v := (1 : Int32)) hx hb dX0_begin_99 (by decide) ?_
    refine lv_null hx hb dX0_begin_100 ?_
    obtain ⟨b_18, hf⟩ := gd_s hf
    obtain ⟨G_19, eG_19, hf⟩ := nm_s hf
    refine c_keptN X Y b_18 eG_19 dX0_begin_101 (fun H locs Z Y => ?_)
    cases hf
    exact c_vret X (fun h => by cases h) Y dX0_begin_102
  clear hf
  have L24_20 : ∀ (n_ : Nat) (x1_3 : Int32) (G_4 : GS), fX0_begin_L24 N n_ x1_3 G_4 = some G_11 → ∀ (Z : ZT) (H : Heap) (locs : List Loc), CY D cA A s h ad G_4 Z H locs → ∀ ls : Array Slot, lv_has ls 2 [(0, .ref h), (1, .int x1_3)] → W p l e (cR 2 0 0) s m args below meth c H locs 0 0 (MQ below (cQ D cA h ad A Z0 false (none) G') args s 0 0 A) (F0 m 24 ls []) := by
    clear hL
    intro n_
    induction n_ with
    | zero =>
      intro x1_3 G_4 hf
      rw [fX0_begin_L24.eq_1] at hf
      cases hf
    | succ n_ ih =>
      intro x1_3 G_4 hf
      intro Z H locs Y ls hl
      rw [fX0_begin_L24.eq_2] at hf
      refine lv_iload_n hx hb dX0_begin_24 rfl (lv_at hl 1 rfl) ?_
      refine lv_aload_n hx hb dX0_begin_25 rfl (lv_at hl 0 rfl) ?_
      refine cg (v := .int (G_4 0 3)) X Y 3 (by decide) q160 rfl rfl dX0_begin_26 ?_
      refine lv_icmp_ge (tgt := 55) hx hb dX0_begin_29 (by decide) (fun c_5 => ?_) (fun c_5 => ?_)
      · rw [if_pos c_5] at hf
        cases hf
        exact E24_20 _ _ _ Y _ (lv_sub hl [0] rfl)
      · rw [if_neg c_5] at hf
        refine lv_aload_n hx hb dX0_begin_32 rfl (lv_at hl 0 rfl) ?_
        refine cg (v := .ref (ad 8)) X Y 8 (by decide) q165 rfl rfl dX0_begin_33 ?_
        refine cgn (v := .ref (ad 20)) X Y 0 (by decide) q119 rfl rfl dX0_begin_36 ?_
        refine lv_iload_n hx hb dX0_begin_39 rfl (lv_at hl 1 rfl) ?_
        refine lv_aload_n hx hb dX0_begin_40 rfl (lv_at hl 0 rfl) ?_
        refine lv_iload_n hx hb dX0_begin_41 rfl (lv_at hl 1 rfl) ?_
        obtain ⟨b_6, hf⟩ := gd_s hf
        obtain ⟨b_7, hf⟩ := gd_s hf
        refine c_one X Y b_6 b_7 q150 (by decide) hl.1 (Nat.le_of_ble_eq_true rfl) (by decide) dX0_begin_42 (fun H locs Y => ?_)
        refine c_getO (v := (G_4 33 (x1_3).toNatClampNeg)) (f := 0) X Y (ix_lt b_6) b_7 (Or.inl ⟨rfl, rfl⟩) q727 dX0_begin_45 ?_
        obtain ⟨b_8, hf⟩ := gd_s hf
        obtain ⟨G_9, eG_9, hf⟩ := nm_s hf
        refine cs (n := 6) X Y 20 5 (by decide) rfl cz20 b_8 eG_9 dX0_begin_48 (fun H locs Y => ?_)
        obtain ⟨x1_10, ex1_10, hf⟩ := nm_s hf
        refine lv_iinc (v := x1_10) (lv' := [(1, .int x1_10), (0, .ref h)]) hx hb dX0_begin_49 hl (k := 1) rfl (by rw [ex1_10]; rfl) (by decide) rfl (fun ls hl => ?_)
        refine lv_goto (tgt := 24) hx hb dX0_begin_52 (by decide) ?_
        exact ih _ _ hf _ _ _ Y _ (lv_sub hl [1, 0] rfl)
  exact L24_20 N _ _ hL _ _ _ Y _ (lv_sub hl [1, 0] rfl)

def fX0_gcd (N : Nat) : Nat → Int64 → Int64 → Option Int64
  | 0, _, _ => none
  | K_ + 1, a1, a2 =>
    if lg_cmp a2 (0 : Int64) = (0 : Int32) then (
     some a1
    ) else (
     gd (¬ a2 = (0 : Int64)) <|
     fX0_gcd N K_ a2 (a1 - a1 / a2 * a2)
    )
theorem ydX0_gcd : yX0_gcd.cls ≠ "java/lang/invoke/MethodHandle" ∧ yX0_gcd.cls ≠ "java/lang/invoke/VarHandle" ∧ (parseMethodDescriptor yX0_gcd.desc).map (fun d => d.parameters.length) = some 2 := by decide +kernel
set_option maxHeartbeats 4000000 in
theorem tX0_gcd (l : Launch) (N : Nat) : ∀ (K_ : Nat) (a1 : Int64) (a2 : Int64) (r : Int64) (hf : fX0_gcd N K_ a1 a2 = some r), sMet l yX0_gcd cX0_gcd 4 (some .long) (mR K_) [.long a1, .long a2] (some (.long r)) := by
  intro K_
  induction K_ with
  | zero =>
    intro a1 a2 r hf
    rw [fX0_gcd.eq_1] at hf
    cases hf
  | succ K_ ih =>
  intro a1 a2 r hf
  rw [fX0_gcd.eq_2] at hf
  refine sMet_of (by decide +kernel) (Nat.le_of_ble_eq_true rfl) (fun {p e s m args below meth c ls} B hS hl => ?_)
  have hx := B.1
  have hb := B.2.1
  have hl : lv_has ls 4 [(0, .long a1), (2, .long a2)] := hl
  refine lv_lload_n hx hb dX0_gcd_0 rfl (lv_at hl 1 rfl) ?_
  refine lv_lconst (v := (0 : Int64)) hx hb dX0_gcd_1 (by decide) ?_
  refine W.lcmp hx hb dX0_gcd_2 ?_
  refine lv_if_ne (tgt := 10) hx hb dX0_gcd_3 (by decide) (fun c_1 => ?_) (fun c_1 => ?_)
  · rw [if_neg c_1] at hf
    obtain ⟨g_1, hf⟩ := gd_s hf
    refine lv_lload_n hx hb dX0_gcd_10 rfl (lv_at hl 1 rfl) ?_
    refine lv_lload_n hx hb dX0_gcd_11 rfl (lv_at hl 0 rfl) ?_
    refine lv_lload_n hx hb dX0_gcd_12 rfl (lv_at hl 1 rfl) ?_
    refine lv_lrem hx hb dX0_gcd_13 g_1 ?_
    refine s_call (av := [.long a2, .long (a1 - a1 / a2 * a2)]) (rest := []) 2 B hS (ih a2 (a1 - a1 / a2 * a2) r hf) (lw_S q1084 q1085 q67 q1086) ydX0_gcd ⟨rfl, rfl, by show K_ + 1 ≤ K_ + 1; omega, by show 8 + (4 + 11) + 40 * K_ ≤ 40 * (K_ + 1); omega⟩ rfl hl.1 rfl (Nat.le_of_ble_eq_true rfl) ⟨Nat.zero_le _, Nat.zero_le _⟩ dX0_gcd_14 (fun H locs _ _ hS => ?_)
    exact s_lret B hS dX0_gcd_17
  · rw [if_pos c_1] at hf
    cases hf
    refine lv_lload_n hx hb dX0_gcd_6 rfl (lv_at hl 0 rfl) ?_
    refine lv_goto (tgt := 17) hx hb dX0_gcd_7 (by decide) ?_
    exact s_lret B hS dX0_gcd_17
def fX0_quests_L69 (N : Nat) (a3 : Int32) : Nat → Int64 → Int32 → Option Int64
  | 0, _, _ => none
  | n_ + 1, x8_16, x10_17 =>
    if a3 ≤ x10_17 then (
     some x8_16
    ) else (
     nm ((x8_16 * (10 : Int64)) : Int64) fun x8_19 =>
     nm ((x10_17 + (1 : Int32)) : Int32) fun x10_20 =>
     fX0_quests_L69 N a3 n_ x8_19 x10_20
    )
def fX0_quests_L150 (N : Nat) (a3 : Int32) (a4 : Int32) (x10_23 : Int32) : Nat → Int64 → Int32 → Option Int64
  | 0, _, _ => none
  | n_ + 1, x12_36, x14_37 =>
    if a3 ≤ x14_37 then (
     some x12_36
    ) else (
     bd1 (fX0_has N x10_23 x14_37) fun r_39 =>
     bd1 (
      if r_39 = (0 : Int32) then (
       some (((10 : Int32) - a4)).toInt64
      ) else (
       some (a4).toInt64
      )
     ) fun j_42 =>
     nm ((x12_36 * j_42) : Int64) fun x12_43 =>
     nm ((x14_37 + (1 : Int32)) : Int32) fun x14_44 =>
     fX0_quests_L150 N a3 a4 x10_23 n_ x12_43 x14_44
    )
def fX0_quests_L92 (N : Nat) (G : GS) (a1 : Int32) (a2 : Int32) (a3 : Int32) (a4 : Int32) : Nat → Int64 → Int32 → Option Int64
  | 0, _, _ => none
  | n_ + 1, x6_22, x10_23 =>
    if ((1 : Int32) <<< (a3 &&& 31)) ≤ x10_23 then (
     some x6_22
    ) else (
     gd (inb a1 6) <|
     nm (G 20 (a1).toNatClampNeg : Int32) fun v_26 =>
     bd1 (fJ11_bitCount N x10_23) fun r_27 =>
     nm ((if (v_26 + r_27) < (9 : Int32) then (v_26 + r_27) else (9 : Int32)) : Int32) fun x11_29 =>
     gd (inb a1 6) <|
     gd (¬ G 32 (a1).toNatClampNeg = -1) <|
     gd (inb a2 8) <|
     gd (¬ G 30 (a2).toNatClampNeg = -1) <|
     bd1 (
      if (fitV (G 32 (a1).toNatClampNeg) (G 34 (a1).toNatClampNeg) (G 30 (a2).toNatClampNeg) (G 31 (a2).toNatClampNeg) x11_29) = (0 : Int32) then (
       some (0 : Int64)
      ) else (
       some (1 : Int64)
      )
     ) fun j_35 =>
     bd1 (fX0_quests_L150 N a3 a4 x10_23 N j_35 (0 : Int32)) fun x12_45 =>
     nm ((x6_22 + x12_45) : Int64) fun x6_46 =>
     nm ((x10_23 + (1 : Int32)) : Int32) fun x10_47 =>
     fX0_quests_L92 N G a1 a2 a3 a4 n_ x6_46 x10_47
    )
def fX0_quests (N : Nat) (G : GS) (a1 : Int32) (a2 : Int32) (a3 : Int32) (a4 : Int32) (a5 : Int32) : Option Int64 :=
  bd1 (fX0_isKnight N G a1) fun r_1 =>
  if r_1 = (0 : Int32) then (
   some (-2 : Int64)
  ) else (
   bd1 (fX0_isSeat N G a2) fun r_4 =>
   if r_4 = (0 : Int32) then (
    some (-2 : Int64)
   ) else (
    bd1 (fX0_in N (a3).toInt64 (0 : Int64) (8 : Int64)) fun r_7 =>
    if r_7 = (0 : Int32) then (
     some (-3 : Int64)
    ) else (
     bd1 (fX0_in N (a4).toInt64 (0 : Int64) (10 : Int64)) fun r_10 =>
     if r_10 = (0 : Int32) then (
      some (-3 : Int64)
     ) else (
      bd1 (fX0_in N (a5).toInt64 (0 : Int64) (1 : Int64)) fun r_13 =>
      if r_13 = (0 : Int32) then (
       some (-3 : Int64)
      ) else (
       bd1 (fX0_quests_L69 N a3 N (1 : Int64) (0 : Int32)) fun x8_21 =>
       bd1 (fX0_quests_L92 N G a1 a2 a3 a4 N (0 : Int64) (0 : Int32)) fun x6_48 =>
       bd1 (
        if a5 = (0 : Int32) then (
         some x6_48
        ) else (
         some x8_21
        )
       ) fun j_50 =>
       bd1 (fX0_gcd N 60 x6_48 x8_21) fun r_51 =>
       gd (¬ r_51 = (0 : Int64)) <|
       some (j_50 / r_51)
      )
     )
    )
   )
  )
theorem ydX0_quests : yX0_quests.cls = RX0 ∧ yX0_quests.cls ≠ "java/lang/invoke/MethodHandle" ∧ yX0_quests.cls ≠ "java/lang/invoke/VarHandle" ∧ (parseMethodDescriptor yX0_quests.desc).map (fun d => d.parameters.length) = some 5 := by decide +kernel
set_option maxHeartbeats 4000000 in
theorem tX0_quests (l : Launch) (N : Nat) (G : GS) (a1 : Int32) (a2 : Int32) (a3 : Int32) (a4 : Int32) (a5 : Int32) (r : Int64) (hf : fX0_quests N G a1 a2 a3 a4 a5 = some r) : cMet l yX0_quests cX0_quests 15 (some .long) (cR 61 0 0) [.int a1, .int a2, .int a3, .int a4, .int a5] G (some (.long r)) G true := by
  unfold fX0_quests at hf
  refine cMet_of (by decide +kernel) rfl (Nat.le_of_ble_eq_true rfl) (fun {p e s m args below meth c ls D cA h ad A Z} X Y hl => ?_)
  have hx := X.1.1.1
  have hb := X.1.1.2.1
  have hZ : true = true → Z = Z := fun _ => rfl
  have hl : lv_has ls 15 [(0, .ref h), (1, .int a1), (2, .int a2), (3, .int a3), (4, .int a4), (5, .int a5)] := hl
  refine lv_aload_n hx hb dX0_quests_0 rfl (lv_at hl 0 rfl) ?_
  refine lv_iload_n hx hb dX0_quests_1 rfl (lv_at hl 1 rfl) ?_
  obtain ⟨r_1, hq_2, hf⟩ := bd1_s hf
  refine ccI (av := [.int a1]) (rest := []) 1 X Y (tX0_isKnight l N G a1 r_1 hq_2) (lw_V q794 q796 qs15 q67 q797) ydX0_isKnight ⟨by decide, by decide⟩ rfl hl.1 rfl (Nat.le_of_ble_eq_true rfl) (by decide) dX0_quests_2 (fun H locs Y => ?_)
  refine lv_if_eq (tgt := 16) hx hb dX0_quests_5 (by decide) (fun c_3 => ?_) (fun c_3 => ?_)
  · rw [if_pos c_3] at hf
    refine lv_ldc2 (v := (-2 : Int64)) hx hb X.1.1.2.2.2.1 (X.1.1.2.2.2.2.1 _ q1080) dX0_quests_16 ?_
    cases hf
    exact c_lret X hZ Y dX0_quests_19
  · rw [if_neg c_3] at hf
    refine lv_aload_n hx hb dX0_quests_8 rfl (lv_at hl 0 rfl) ?_
    refine lv_iload_n hx hb dX0_quests_9 rfl (lv_at hl 2 rfl) ?_
    obtain ⟨r_4, hq_5, hf⟩ := bd1_s hf
    refine ccI (av := [.int a2]) (rest := []) 1 X Y (tX0_isSeat l N G a2 r_4 hq_5) (lw_V q757 q759 qs12 q67 q760) ydX0_isSeat ⟨by decide, by decide⟩ rfl hl.1 rfl (Nat.le_of_ble_eq_true rfl) (by decide) dX0_quests_10 (fun H locs Y => ?_)
    refine lv_if_ne (tgt := 20) hx hb dX0_quests_13 (by decide) (fun c_6 => ?_) (fun c_6 => ?_)
    · rw [if_neg c_6] at hf
      refine lv_iload_n hx hb dX0_quests_20 rfl (lv_at hl 3 rfl) ?_
      refine lv_i2l (v := (a3).toInt64) hx hb dX0_quests_21 rfl ?_
      refine lv_lconst (v := (0 : Int64)) hx hb dX0_quests_22 (by decide) ?_
      refine lv_ldc2 (v := (8 : Int64)) hx hb X.1.1.2.2.2.1 (X.1.1.2.2.2.2.1 _ q1081) dX0_quests_23 ?_
      obtain ⟨r_7, hq_8, hf⟩ := bd1_s hf
      refine c_callSI (av := [.long (a3).toInt64, .long (0 : Int64), .long (8 : Int64)]) (rest := []) 3 X Y (tX0_in l N (a3).toInt64 (0 : Int64) (8 : Int64) r_7 hq_8) (lw_S q235 q236 q67 q237) ydX0_in ⟨rfl, rfl, by decide, by decide⟩ rfl hl.1 rfl (Nat.le_of_ble_eq_true rfl) (by decide) dX0_quests_26 (fun H locs Y => ?_)
      refine lv_if_eq (tgt := 56) hx hb dX0_quests_29 (by decide) (fun c_9 => ?_) (fun c_9 => ?_)
      · rw [if_pos c_9] at hf
        refine lv_ldc2 (v := (-3 : Int64)) hx hb X.1.1.2.2.2.1 (X.1.1.2.2.2.2.1 _ q1083) dX0_quests_56 ?_
        cases hf
        exact c_lret X hZ Y dX0_quests_59
      · rw [if_neg c_9] at hf
        refine lv_iload hx hb dX0_quests_32 (lv_at hl 4 rfl) ?_
        refine lv_i2l (v := (a4).toInt64) hx hb dX0_quests_34 rfl ?_
        refine lv_lconst (v := (0 : Int64)) hx hb dX0_quests_35 (by decide) ?_
        refine lv_ldc2 (v := (10 : Int64)) hx hb X.1.1.2.2.2.1 (X.1.1.2.2.2.2.1 _ q1082) dX0_quests_36 ?_
        obtain ⟨r_10, hq_11, hf⟩ := bd1_s hf
        refine c_callSI (av := [.long (a4).toInt64, .long (0 : Int64), .long (10 : Int64)]) (rest := []) 3 X Y (tX0_in l N (a4).toInt64 (0 : Int64) (10 : Int64) r_10 hq_11) (lw_S q235 q236 q67 q237) ydX0_in ⟨rfl, rfl, by decide, by decide⟩ rfl hl.1 rfl (Nat.le_of_ble_eq_true rfl) (by decide) dX0_quests_39 (fun H locs Y => ?_)
        refine lv_if_eq (tgt := 56) hx hb dX0_quests_42 (by decide) (fun c_12 => ?_) (fun c_12 => ?_)
        · rw [if_pos c_12] at hf
          refine lv_ldc2 (v := (-3 : Int64)) hx hb X.1.1.2.2.2.1 (X.1.1.2.2.2.2.1 _ q1083) dX0_quests_56 ?_
          cases hf
          exact c_lret X hZ Y dX0_quests_59
        · rw [if_neg c_12] at hf
          refine lv_iload hx hb dX0_quests_45 (lv_at hl 5 rfl) ?_
          refine lv_i2l (v := (a5).toInt64) hx hb dX0_quests_47 rfl ?_
          refine lv_lconst (v := (0 : Int64)) hx hb dX0_quests_48 (by decide) ?_
          refine lv_lconst (v := (1 : Int64)) hx hb dX0_quests_49 (by decide) ?_
          obtain ⟨r_13, hq_14, hf⟩ := bd1_s hf
          refine c_callSI (av := [.long (a5).toInt64, .long (0 : Int64), .long (1 : Int64)]) (rest := []) 3 X Y (tX0_in l N (a5).toInt64 (0 : Int64) (1 : Int64) r_13 hq_14) (lw_S q235 q236 q67 q237) ydX0_in ⟨rfl, rfl, by decide, by decide⟩ rfl hl.1 rfl (Nat.le_of_ble_eq_true rfl) (by decide) dX0_quests_50 (fun H locs Y => ?_)
          refine lv_if_ne (tgt := 60) hx hb dX0_quests_53 (by decide) (fun c_15 => ?_) (fun c_15 => ?_)
          · rw [if_neg c_15] at hf
            refine lv_lconst (v := (0 : Int64)) hx hb dX0_quests_60 (by decide) ?_
            refine lv_lstore (lv' := [(6, .long (0 : Int64)), (0, .ref h), (1, .int a1), (2, .int a2), (3, .int a3), (4, .int a4), (5, .int a5)]) hx hb dX0_quests_61 hl (by decide) rfl (fun ls hl => ?_)
            refine lv_lconst (v := (1 : Int64)) hx hb dX0_quests_63 (by decide) ?_
            refine lv_lstore (lv' := [(8, .long (1 : Int64)), (6, .long (0 : Int64)), (0, .ref h), (1, .int a1), (2, .int a2), (3, .int a3), (4, .int a4), (5, .int a5)]) hx hb dX0_quests_64 hl (by decide) rfl (fun ls hl => ?_)
            refine lv_iconst (v := (0 : Int32)) hx hb dX0_quests_66 (by decide) ?_
            refine lv_istore (lv' := [(10, .int (0 : Int32)), (8, .long (1 : Int64)), (6, .long (0 : Int64)), (0, .ref h), (1, .int a1), (2, .int a2), (3, .int a3), (4, .int a4), (5, .int a5)]) hx hb dX0_quests_67 hl (by decide) rfl (fun ls hl => ?_)
            obtain ⟨x8_21, hL, hf⟩ := bd1_s hf
            have E69_54 : ∀ (H : Heap) (locs : List Loc), CY D cA A s h ad G Z H locs → ∀ ls : Array Slot, lv_has ls 15 [(0, .ref h), (1, .int a1), (2, .int a2), (3, .int a3), (4, .int a4), (5, .int a5), (6, .long (0 : Int64)), (8, .long x8_21)] → W p l e (cR 61 0 0) s m args below meth c H locs 0 0 (MQ below (cQ D cA h ad A Z true (some (.long r)) G) args s 0 0 A) (F0 m 89 ls []) := by
              clear hL
              intro H locs Y ls hl
              refine lv_iconst (v := (0 : Int32)) hx hb dX0_quests_89 (by decide) ?_
              refine lv_istore (lv' := [(10, .int (0 : Int32)), (0, .ref h), (1, .int a1), (2, .int a2), (3, .int a3), (4, .int a4), (5, .int a5), (6, .long (0 : Int64)), (8, .long x8_21)]) hx hb dX0_quests_90 hl (by decide) rfl (fun ls hl => ?_)
              obtain ⟨x6_48, hL, hf⟩ := bd1_s hf
              have E92_55 : ∀ (H : Heap) (locs : List Loc), CY D cA A s h ad G Z H locs → ∀ ls : Array Slot, lv_has ls 15 [(5, .int a5), (6, .long x6_48), (8, .long x8_21)] → W p l e (cR 61 0 0) s m args below meth c H locs 0 0 (MQ below (cQ D cA h ad A Z true (some (.long r)) G) args s 0 0 A) (F0 m 202 ls []) := by
                clear hL
                intro H locs Y ls hl
                refine lv_iload hx hb dX0_quests_202 (lv_at hl 0 rfl) ?_
                obtain ⟨j_50, hj, hf⟩ := bd1_s hf
                have J214_56 : ∀ (H : Heap) (locs : List Loc), CY D cA A s h ad G Z H locs → ∀ ls : Array Slot, lv_has ls 15 [(6, .long x6_48), (8, .long x8_21)] → W p l e (cR 61 0 0) s m args below meth c H locs 0 0 (MQ below (cQ D cA h ad A Z true (some (.long r)) G) args s 0 0 A) (F0 m 214 ls [.long j_50]) := by
                  clear hj
                  intro H locs Y ls hl
                  refine lv_lload hx hb dX0_quests_214 (lv_at hl 0 rfl) ?_
                  refine lv_lload hx hb dX0_quests_216 (lv_at hl 1 rfl) ?_
                  obtain ⟨r_51, hq_52, hf⟩ := bd1_s hf
                  refine c_callSJ (av := [.long x6_48, .long x8_21]) (rest := [.long j_50]) 2 X Y (tX0_gcd l N 60 x6_48 x8_21 r_51 hq_52) (lw_S q1084 q1085 q67 q1086) ydX0_gcd ⟨rfl, rfl, by decide, by decide⟩ rfl hl.1 rfl (Nat.le_of_ble_eq_true rfl) (by decide) dX0_quests_218 (fun H locs Y => ?_)
                  obtain ⟨b_53, hf⟩ := gd_s hf
                  refine lv_ldiv hx hb dX0_quests_221 b_53 ?_
                  cases hf
                  exact c_lret X hZ Y dX0_quests_222
                replace hf := hj
                clear hj
                refine lv_if_ne (tgt := 212) hx hb dX0_quests_204 (by decide) (fun c_49 => ?_) (fun c_49 => ?_)
                · rw [if_neg c_49] at hf
                  refine lv_lload hx hb dX0_quests_212 (lv_at hl 2 rfl) ?_
                  cases hf
                  exact J214_56 _ _ Y _ (lv_sub hl [1, 2] rfl)
                · rw [if_pos c_49] at hf
                  refine lv_lload hx hb dX0_quests_207 (lv_at hl 1 rfl) ?_
                  refine lv_goto (tgt := 214) hx hb dX0_quests_209 (by decide) ?_
                  cases hf
                  exact J214_56 _ _ Y _ (lv_sub hl [1, 2] rfl)
              clear hf
              have L92_55 : ∀ (n_ : Nat) (x6_22 : Int64) (x10_23 : Int32), fX0_quests_L92 N G a1 a2 a3 a4 n_ x6_22 x10_23 = some x6_48 → ∀ (H : Heap) (locs : List Loc), CY D cA A s h ad G Z H locs → ∀ ls : Array Slot, lv_has ls 15 [(0, .ref h), (1, .int a1), (2, .int a2), (3, .int a3), (4, .int a4), (5, .int a5), (6, .long x6_22), (8, .long x8_21), (10, .int x10_23)] → W p l e (cR 61 0 0) s m args below meth c H locs 0 0 (MQ below (cQ D cA h ad A Z true (some (.long r)) G) args s 0 0 A) (F0 m 92 ls []) := by
                clear hL
                intro n_
                induction n_ with
                | zero =>
                  intro x6_22 x10_23 hf
                  rw [fX0_quests_L92.eq_1] at hf
                  cases hf
                | succ n_ ih =>
                  intro x6_22 x10_23 hf
                  intro H locs Y ls hl
                  rw [fX0_quests_L92.eq_2] at hf
                  refine lv_iload hx hb dX0_quests_92 (lv_at hl 8 rfl) ?_
                  refine lv_iconst (v := (1 : Int32)) hx hb dX0_quests_94 (by decide) ?_
                  refine lv_iload_n hx hb dX0_quests_95 rfl (lv_at hl 3 rfl) ?_
                  refine lv_ishl hx hb dX0_quests_96 ?_
                  refine lv_icmp_ge (tgt := 202) hx hb dX0_quests_97 (by decide) (fun c_24 => ?_) (fun c_24 => ?_)
                  · rw [if_pos c_24] at hf
                    cases hf
                    exact E92_55 _ _ Y _ (lv_sub hl [5, 6, 7] rfl)
                  · rw [if_neg c_24] at hf
                    refine lv_bipush (v := (9 : Int32)) hx hb dX0_quests_100 (by decide) ?_
                    refine lv_aload_n hx hb dX0_quests_102 rfl (lv_at hl 0 rfl) ?_
                    refine cg (v := .ref (ad 8)) X Y 8 (by decide) q165 rfl rfl dX0_quests_103 ?_
                    refine cgn (v := .ref (ad 20)) X Y 0 (by decide) q119 rfl rfl dX0_quests_106 ?_
                    refine lv_iload_n hx hb dX0_quests_109 rfl (lv_at hl 1 rfl) ?_
                    obtain ⟨b_25, hf⟩ := gd_s hf
                    obtain ⟨v_26, ev_26, hf⟩ := nm_s hf
                    refine ca (n := 6) X Y 20 5 rfl b_25 ev_26 dX0_quests_110 ?_
                    refine lv_iload hx hb dX0_quests_111 (lv_at hl 8 rfl) ?_
                    obtain ⟨r_27, hq_28, hf⟩ := bd1_s hf
                    refine c_callSI (av := [.int x10_23]) (rest := [.int v_26, .int (9 : Int32)]) 1 X Y (tJ11_bitCount l N x10_23 r_27 hq_28) (lw_S q920 q921 q85 q922) ydJ11_bitCount ⟨rfl, rfl, by decide, by decide⟩ rfl hl.1 rfl (Nat.le_of_ble_eq_true rfl) (by decide) dX0_quests_113 (fun H locs Y => ?_)
                    refine lv_iadd hx hb dX0_quests_116 ?_
                    refine c_mmin (v := (if (v_26 + r_27) < (9 : Int32) then (v_26 + r_27) else (9 : Int32))) X Y rfl q981 (by decide) hl.1 (Nat.le_of_ble_eq_true rfl) (by decide) dX0_quests_117 ?_
                    obtain ⟨x11_29, ex11_29, hf⟩ := nm_s hf
                    refine lv_topE ex11_29 ?_
                    refine lv_istore (lv' := [(11, .int x11_29), (0, .ref h), (1, .int a1), (2, .int a2), (3, .int a3), (4, .int a4), (5, .int a5), (6, .long x6_22), (8, .long x8_21), (10, .int x10_23)]) hx hb dX0_quests_120 hl (by decide) rfl (fun ls hl => ?_)
                    refine lv_aload_n hx hb dX0_quests_122 rfl (lv_at hl 1 rfl) ?_
                    refine lv_iload_n hx hb dX0_quests_123 rfl (lv_at hl 2 rfl) ?_
                    obtain ⟨b_30, hf⟩ := gd_s hf
                    obtain ⟨b_31, hf⟩ := gd_s hf
                    refine c_one X Y b_30 b_31 q150 (by decide) hl.1 (Nat.le_of_ble_eq_true rfl) (by decide) dX0_quests_124 (fun H locs Y => ?_)
                    refine lv_aload_n hx hb dX0_quests_127 rfl (lv_at hl 1 rfl) ?_
                    refine lv_iload_n hx hb dX0_quests_128 rfl (lv_at hl 3 rfl) ?_
                    obtain ⟨b_32, hf⟩ := gd_s hf
                    obtain ⟨b_33, hf⟩ := gd_s hf
                    refine c_name X Y b_32 b_33 q761 (by decide) hl.1 (Nat.le_of_ble_eq_true rfl) (by decide) dX0_quests_129 (fun H locs Y => ?_)
                    refine lv_iload hx hb dX0_quests_132 (lv_at hl 0 rfl) ?_
                    refine c_fitsOn (v := (fitV (G 32 (a1).toNatClampNeg) (G 34 (a1).toNatClampNeg) (G 30 (a2).toNatClampNeg) (G 31 (a2).toNatClampNeg) x11_29)) X Y (ix_lt b_30) b_31 (ix_lt b_32) b_33 rfl q847 (by decide) hl.1 (Nat.le_of_ble_eq_true rfl) (by decide) dX0_quests_134 (fun H locs Y => ?_)
                    obtain ⟨j_35, hj, hf⟩ := bd1_s hf
                    have J145_57 : ∀ (H : Heap) (locs : List Loc), CY D cA A s h ad G Z H locs → ∀ ls : Array Slot, lv_has ls 15 [(0, .ref h), (1, .int a1), (2, .int a2), (3, .int a3), (4, .int a4), (5, .int a5), (6, .long x6_22), (8, .long x8_21), (10, .int x10_23)] → W p l e (cR 61 0 0) s m args below meth c H locs 0 0 (MQ below (cQ D cA h ad A Z true (some (.long r)) G) args s 0 0 A) (F0 m 145 ls [.long j_35]) := by
                      clear hj
                      intro H locs Y ls hl
                      refine lv_lstore (lv' := [(12, .long j_35), (0, .ref h), (1, .int a1), (2, .int a2), (3, .int a3), (4, .int a4), (5, .int a5), (6, .long x6_22), (8, .long x8_21), (10, .int x10_23)]) hx hb dX0_quests_145 hl (by decide) rfl (fun ls hl => ?_)
                      refine lv_iconst (v := (0 : Int32)) hx hb dX0_quests_147 (by decide) ?_
                      refine lv_istore (lv' := [(14, .int (0 : Int32)), (12, .long j_35), (0, .ref h), (1, .int a1), (2, .int a2), (3, .int a3), (4, .int a4), (5, .int a5), (6, .long x6_22), (8, .long x8_21), (10, .int x10_23)]) hx hb dX0_quests_148 hl (by decide) rfl (fun ls hl => ?_)
                      obtain ⟨x12_45, hL, hf⟩ := bd1_s hf
                      have E150_58 : ∀ (H : Heap) (locs : List Loc), CY D cA A s h ad G Z H locs → ∀ ls : Array Slot, lv_has ls 15 [(0, .ref h), (1, .int a1), (2, .int a2), (3, .int a3), (4, .int a4), (5, .int a5), (6, .long x6_22), (8, .long x8_21), (10, .int x10_23), (12, .long x12_45)] → W p l e (cR 61 0 0) s m args below meth c H locs 0 0 (MQ below (cQ D cA h ad A Z true (some (.long r)) G) args s 0 0 A) (F0 m 189 ls []) := by
                        clear hL
                        intro H locs Y ls hl
                        refine lv_lload hx hb dX0_quests_189 (lv_at hl 6 rfl) ?_
                        refine lv_lload hx hb dX0_quests_191 (lv_at hl 9 rfl) ?_
                        refine lv_ladd hx hb dX0_quests_193 ?_
                        obtain ⟨x6_46, ex6_46, hf⟩ := nm_s hf
                        refine lv_topEl ex6_46 ?_
                        refine lv_lstore (lv' := [(6, .long x6_46), (0, .ref h), (1, .int a1), (2, .int a2), (3, .int a3), (4, .int a4), (5, .int a5), (8, .long x8_21), (10, .int x10_23), (12, .long x12_45)]) hx hb dX0_quests_194 hl (by decide) rfl (fun ls hl => ?_)
                        obtain ⟨x10_47, ex10_47, hf⟩ := nm_s hf
                        refine lv_iinc (v := x10_47) (lv' := [(10, .int x10_47), (6, .long x6_46), (0, .ref h), (1, .int a1), (2, .int a2), (3, .int a3), (4, .int a4), (5, .int a5), (8, .long x8_21), (12, .long x12_45)]) hx hb dX0_quests_196 hl (k := 8) rfl (by rw [ex10_47]; rfl) (by decide) rfl (fun ls hl => ?_)
                        refine lv_goto (tgt := 92) hx hb dX0_quests_199 (by decide) ?_
                        exact ih _ _ hf _ _ Y _ (lv_sub hl [2, 3, 4, 5, 6, 7, 1, 8, 0] rfl)
                      clear hf
                      have L150_58 : ∀ (n_ : Nat) (x12_36 : Int64) (x14_37 : Int32), fX0_quests_L150 N a3 a4 x10_23 n_ x12_36 x14_37 = some x12_45 → ∀ (H : Heap) (locs : List Loc), CY D cA A s h ad G Z H locs → ∀ ls : Array Slot, lv_has ls 15 [(0, .ref h), (1, .int a1), (2, .int a2), (3, .int a3), (4, .int a4), (5, .int a5), (6, .long x6_22), (8, .long x8_21), (10, .int x10_23), (12, .long x12_36), (14, .int x14_37)] → W p l e (cR 61 0 0) s m args below meth c H locs 0 0 (MQ below (cQ D cA h ad A Z true (some (.long r)) G) args s 0 0 A) (F0 m 150 ls []) := by
                        clear hL
                        intro n_
                        induction n_ with
                        | zero =>
                          intro x12_36 x14_37 hf
                          rw [fX0_quests_L150.eq_1] at hf
                          cases hf
                        | succ n_ ih =>
                          intro x12_36 x14_37 hf
                          intro H locs Y ls hl
                          rw [fX0_quests_L150.eq_2] at hf
                          refine lv_iload hx hb dX0_quests_150 (lv_at hl 10 rfl) ?_
                          refine lv_iload_n hx hb dX0_quests_152 rfl (lv_at hl 3 rfl) ?_
                          refine lv_icmp_ge (tgt := 189) hx hb dX0_quests_153 (by decide) (fun c_38 => ?_) (fun c_38 => ?_)
                          · rw [if_pos c_38] at hf
                            cases hf
                            exact E150_58 _ _ Y _ (lv_sub hl [0, 1, 2, 3, 4, 5, 6, 7, 8, 9] rfl)
                          · rw [if_neg c_38] at hf
                            refine lv_lload hx hb dX0_quests_156 (lv_at hl 9 rfl) ?_
                            refine lv_iload hx hb dX0_quests_158 (lv_at hl 8 rfl) ?_
                            refine lv_iload hx hb dX0_quests_160 (lv_at hl 10 rfl) ?_
                            obtain ⟨r_39, hq_40, hf⟩ := bd1_s hf
                            refine c_callSI (av := [.int x10_23, .int x14_37]) (rest := [.long x12_36]) 2 X Y (tX0_has l N x10_23 x14_37 r_39 hq_40) (lw_S q899 q900 q67 q901) ydX0_has ⟨rfl, rfl, by decide, by decide⟩ rfl hl.1 rfl (Nat.le_of_ble_eq_true rfl) (by decide) dX0_quests_162 (fun H locs Y => ?_)
                            obtain ⟨j_42, hj, hf⟩ := bd1_s hf
                            have J180_59 : ∀ (H : Heap) (locs : List Loc), CY D cA A s h ad G Z H locs → ∀ ls : Array Slot, lv_has ls 15 [(0, .ref h), (1, .int a1), (2, .int a2), (3, .int a3), (4, .int a4), (5, .int a5), (6, .long x6_22), (8, .long x8_21), (10, .int x10_23), (14, .int x14_37)] → W p l e (cR 61 0 0) s m args below meth c H locs 0 0 (MQ below (cQ D cA h ad A Z true (some (.long r)) G) args s 0 0 A) (F0 m 180 ls [.long j_42, .long x12_36]) := by
                              clear hj
                              intro H locs Y ls hl
                              refine lv_lmul hx hb dX0_quests_180 ?_
                              obtain ⟨x12_43, ex12_43, hf⟩ := nm_s hf
                              refine lv_topEl ex12_43 ?_
                              refine lv_lstore (lv' := [(12, .long x12_43), (0, .ref h), (1, .int a1), (2, .int a2), (3, .int a3), (4, .int a4), (5, .int a5), (6, .long x6_22), (8, .long x8_21), (10, .int x10_23), (14, .int x14_37)]) hx hb dX0_quests_181 hl (by decide) rfl (fun ls hl => ?_)
                              obtain ⟨x14_44, ex14_44, hf⟩ := nm_s hf
                              refine lv_iinc (v := x14_44) (lv' := [(14, .int x14_44), (12, .long x12_43), (0, .ref h), (1, .int a1), (2, .int a2), (3, .int a3), (4, .int a4), (5, .int a5), (6, .long x6_22), (8, .long x8_21), (10, .int x10_23)]) hx hb dX0_quests_183 hl (k := 10) rfl (by rw [ex14_44]; rfl) (by decide) rfl (fun ls hl => ?_)
                              refine lv_goto (tgt := 150) hx hb dX0_quests_186 (by decide) ?_
                              exact ih _ _ hf _ _ Y _ (lv_sub hl [2, 3, 4, 5, 6, 7, 8, 9, 10, 1, 0] rfl)
                            replace hf := hj
                            clear hj
                            refine lv_if_eq (tgt := 174) hx hb dX0_quests_165 (by decide) (fun c_41 => ?_) (fun c_41 => ?_)
                            · rw [if_pos c_41] at hf
                              refine lv_bipush (v := (10 : Int32)) hx hb dX0_quests_174 (by decide) ?_
                              refine lv_iload hx hb dX0_quests_176 (lv_at hl 4 rfl) ?_
                              refine lv_isub hx hb dX0_quests_178 ?_
                              refine lv_i2l (v := (((10 : Int32) - a4)).toInt64) hx hb dX0_quests_179 rfl ?_
                              cases hf
                              exact J180_59 _ _ Y _ (lv_sub hl [0, 1, 2, 3, 4, 5, 6, 7, 8, 10] rfl)
                            · rw [if_neg c_41] at hf
                              refine lv_iload hx hb dX0_quests_168 (lv_at hl 4 rfl) ?_
                              refine lv_i2l (v := (a4).toInt64) hx hb dX0_quests_170 rfl ?_
                              refine lv_goto (tgt := 180) hx hb dX0_quests_171 (by decide) ?_
                              cases hf
                              exact J180_59 _ _ Y _ (lv_sub hl [0, 1, 2, 3, 4, 5, 6, 7, 8, 10] rfl)
                      exact L150_58 N _ _ hL _ _ Y _ (lv_sub hl [2, 3, 4, 5, 6, 7, 8, 9, 10, 1, 0] rfl)
                    replace hf := hj
                    clear hj
                    refine lv_if_eq (tgt := 144) hx hb dX0_quests_137 (by decide) (fun c_34 => ?_) (fun c_34 => ?_)
                    · rw [if_pos c_34] at hf
                      refine lv_lconst (v := (0 : Int64)) hx hb dX0_quests_144 (by decide) ?_
                      cases hf
                      exact J145_57 _ _ Y _ (lv_sub hl [1, 2, 3, 4, 5, 6, 7, 8, 9] rfl)
                    · rw [if_neg c_34] at hf
                      refine lv_lconst (v := (1 : Int64)) hx hb dX0_quests_140 (by decide) ?_
                      refine lv_goto (tgt := 145) hx hb dX0_quests_141 (by decide) ?_
                      cases hf
                      exact J145_57 _ _ Y _ (lv_sub hl [1, 2, 3, 4, 5, 6, 7, 8, 9] rfl)
              exact L92_55 N _ _ hL _ _ Y _ (lv_sub hl [1, 2, 3, 4, 5, 6, 7, 8, 0] rfl)
            clear hf
            have L69_54 : ∀ (n_ : Nat) (x8_16 : Int64) (x10_17 : Int32), fX0_quests_L69 N a3 n_ x8_16 x10_17 = some x8_21 → ∀ (H : Heap) (locs : List Loc), CY D cA A s h ad G Z H locs → ∀ ls : Array Slot, lv_has ls 15 [(0, .ref h), (1, .int a1), (2, .int a2), (3, .int a3), (4, .int a4), (5, .int a5), (6, .long (0 : Int64)), (8, .long x8_16), (10, .int x10_17)] → W p l e (cR 61 0 0) s m args below meth c H locs 0 0 (MQ below (cQ D cA h ad A Z true (some (.long r)) G) args s 0 0 A) (F0 m 69 ls []) := by
              clear hL
              intro n_
              induction n_ with
              | zero =>
                intro x8_16 x10_17 hf
                rw [fX0_quests_L69.eq_1] at hf
                cases hf
              | succ n_ ih =>
                intro x8_16 x10_17 hf
                intro H locs Y ls hl
                rw [fX0_quests_L69.eq_2] at hf
                refine lv_iload hx hb dX0_quests_69 (lv_at hl 8 rfl) ?_
                refine lv_iload_n hx hb dX0_quests_71 rfl (lv_at hl 3 rfl) ?_
                refine lv_icmp_ge (tgt := 89) hx hb dX0_quests_72 (by decide) (fun c_18 => ?_) (fun c_18 => ?_)
                · rw [if_pos c_18] at hf
                  cases hf
                  exact E69_54 _ _ Y _ (lv_sub hl [0, 1, 2, 3, 4, 5, 6, 7] rfl)
                · rw [if_neg c_18] at hf
                  refine lv_lload hx hb dX0_quests_75 (lv_at hl 7 rfl) ?_
                  refine lv_ldc2 (v := (10 : Int64)) hx hb X.1.1.2.2.2.1 (X.1.1.2.2.2.2.1 _ q1082) dX0_quests_77 ?_
                  refine lv_lmul hx hb dX0_quests_80 ?_
                  obtain ⟨x8_19, ex8_19, hf⟩ := nm_s hf
                  refine lv_topEl ex8_19 ?_
                  refine lv_lstore (lv' := [(8, .long x8_19), (0, .ref h), (1, .int a1), (2, .int a2), (3, .int a3), (4, .int a4), (5, .int a5), (6, .long (0 : Int64)), (10, .int x10_17)]) hx hb dX0_quests_81 hl (by decide) rfl (fun ls hl => ?_)
                  obtain ⟨x10_20, ex10_20, hf⟩ := nm_s hf
                  refine lv_iinc (v := x10_20) (lv' := [(10, .int x10_20), (8, .long x8_19), (0, .ref h), (1, .int a1), (2, .int a2), (3, .int a3), (4, .int a4), (5, .int a5), (6, .long (0 : Int64))]) hx hb dX0_quests_83 hl (k := 8) rfl (by rw [ex10_20]; rfl) (by decide) rfl (fun ls hl => ?_)
                  refine lv_goto (tgt := 69) hx hb dX0_quests_86 (by decide) ?_
                  exact ih _ _ hf _ _ Y _ (lv_sub hl [2, 3, 4, 5, 6, 7, 8, 1, 0] rfl)
            exact L69_54 N _ _ hL _ _ Y _ (lv_sub hl [3, 4, 5, 6, 7, 8, 2, 1, 0] rfl)
          · rw [if_pos c_15] at hf
            refine lv_ldc2 (v := (-3 : Int64)) hx hb X.1.1.2.2.2.1 (X.1.1.2.2.2.2.1 _ q1083) dX0_quests_56 ?_
            cases hf
            exact c_lret X hZ Y dX0_quests_59
    · rw [if_pos c_6] at hf
      refine lv_ldc2 (v := (-2 : Int64)) hx hb X.1.1.2.2.2.1 (X.1.1.2.2.2.2.1 _ q1080) dX0_quests_16 ?_
      cases hf
      exact c_lret X hZ Y dX0_quests_19

