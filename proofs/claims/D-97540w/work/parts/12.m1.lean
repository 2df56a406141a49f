/-! THE MODEL, method by method: written by tools/decomp.py, tools/world_m.py. f..: what the bytecode computes; t..: the contract -/
set_option maxRecDepth 100000
def fX2_begins_L23 (N : Nat) : Nat → Int32 → GS → Option GS
  | 0, _, _ => none
  | n_ + 1, x1_5, G_6 =>
    if (6 : Int32) ≤ x1_5 then (
     some G_6
    ) else (
     gd (inb (((3 : Int32) * x1_5) + (1 : Int32)) 18) <|
     nm (G_6 3 ((((3 : Int32) * x1_5) + (1 : Int32))).toNatClampNeg : Int32) fun v_9 =>
     gd (inb ((2 : Int32) + x1_5) 20) <|
     nm (gu G_6 8 (((2 : Int32) + x1_5)).toNatClampNeg v_9 : GS) fun G_11 =>
     gd (inb ((8 : Int32) + x1_5) 20) <|
     nm (gu G_11 8 (((8 : Int32) + x1_5)).toNatClampNeg (0 : Int32) : GS) fun G_13 =>
     gd (inb ((14 : Int32) + x1_5) 20) <|
     nm (gu G_13 8 (((14 : Int32) + x1_5)).toNatClampNeg (-1 : Int32) : GS) fun G_15 =>
     nm ((x1_5 + (1 : Int32)) : Int32) fun x1_16 =>
     fX2_begins_L23 N n_ x1_16 G_15
    )
def fX2_begins (N : Nat) (G : GS) : Option GS :=
  gd (inb (0 : Int32) 20) <|
  nm (gu G 8 ((0 : Int32)).toNatClampNeg (0 : Int32) : GS) fun G_2 =>
  gd (inb (1 : Int32) 20) <|
  nm (gu G_2 8 ((1 : Int32)).toNatClampNeg (((1 : Int32) <<< ((G_2 0 2) &&& 31)) - (1 : Int32)) : GS) fun G_4 =>
  bd1 (fX2_begins_L23 N N (0 : Int32) G_4) fun G_17 =>
  nm (gu G_17 0 9 (0 : Int32) : GS) fun G_18 =>
  nm (gu G_18 0 13 (0 : Int32) : GS) fun G_19 =>
  gd (inb (0 : Int32) 2) <|
  nm (gu G_19 12 ((0 : Int32)).toNatClampNeg (0 : Int32) : GS) fun G_21 =>
  gd (inb (1 : Int32) 2) <|
  nm (gu G_21 12 ((1 : Int32)).toNatClampNeg (0 : Int32) : GS) fun G_23 =>
  some G_23
theorem ydX2_begins : yX2_begins.cls = RX2 ∧ yX2_begins.cls ≠ "java/lang/invoke/MethodHandle" ∧ yX2_begins.cls ≠ "java/lang/invoke/VarHandle" ∧ (parseMethodDescriptor yX2_begins.desc).map (fun d => d.parameters.length) = some 0 := by decide +kernel
set_option maxHeartbeats 4000000 in
theorem tX2_begins (l : Launch) (N : Nat) (G : GS) (G' : GS) (hf : fX2_begins N G = some G') : mMet l yX2_begins cX2_begins 2 none (mR 0) [] G (none) G' := by
  unfold fX2_begins at hf
  refine mMet_of (by decide +kernel) rfl (Nat.le_of_ble_eq_true rfl) (fun {p e s m args below meth c ls D cA h ad A} X Y hl => ?_)
  have hx := X.1.1
  have hb := X.1.2.1
  have hl : lv_has ls 2 [(0, .ref h)] := hl
  refine lv_aload_n hx hb dX2_begins_0 rfl (lv_at hl 0 rfl) ?_
  refine mg (v := .ref (ad 8)) X Y 8 (by decide) q1113 rfl rfl dX2_begins_1 ?_
  refine lv_iconst (v := (0 : Int32)) hx hb dX2_begins_4 (by decide) ?_
  refine lv_iconst (v := (0 : Int32)) hx hb dX2_begins_5 (by decide) ?_
  obtain ⟨b_1, hf⟩ := gd_s hf
  obtain ⟨G_2, eG_2, hf⟩ := nm_s hf
  refine ms (n := 20) X Y 8 4 rfl mz8 b_1 eG_2 dX2_begins_6 (fun H locs Y => ?_)
  refine lv_aload_n hx hb dX2_begins_7 rfl (lv_at hl 0 rfl) ?_
  refine mg (v := .ref (ad 8)) X Y 8 (by decide) q1113 rfl rfl dX2_begins_8 ?_
  refine lv_iconst (v := (1 : Int32)) hx hb dX2_begins_11 (by decide) ?_
  refine lv_iconst (v := (1 : Int32)) hx hb dX2_begins_12 (by decide) ?_
  refine lv_aload_n hx hb dX2_begins_13 rfl (lv_at hl 0 rfl) ?_
  refine mg (v := .int (G_2 0 2)) X Y 2 (by decide) q1107 rfl rfl dX2_begins_14 ?_
  refine lv_ishl hx hb dX2_begins_17 ?_
  refine lv_iconst (v := (1 : Int32)) hx hb dX2_begins_18 (by decide) ?_
  refine lv_isub hx hb dX2_begins_19 ?_
  obtain ⟨b_3, hf⟩ := gd_s hf
  obtain ⟨G_4, eG_4, hf⟩ := nm_s hf
  refine ms (n := 20) X Y 8 4 rfl mz8 b_3 eG_4 dX2_begins_20 (fun H locs Y => ?_)
  refine lv_iconst (v := (0 : Int32)) hx hb dX2_begins_21 (by decide) ?_
  refine lv_istore_n (lv' := [(1, .int (0 : Int32)), (0, .ref h)]) hx hb dX2_begins_22 rfl hl (by decide) rfl (fun ls hl => ?_)
  obtain ⟨G_17, hL, hf⟩ := bd1_s hf
  have E23_24 : ∀ (H : Heap) (locs : List Loc), WX D A s (mW h ad cA G_17) H locs → ∀ ls : Array Slot, lv_has ls 2 [(0, .ref h)] → W p l e (mR 0) s m args below meth c H locs 0 0 (MQ below (mQ D cA h ad A (none) G') args s 0 0 A) (F0 m 73 ls []) := by
    clear hL
    intro H locs Y ls hl
    refine lv_aload_n hx hb dX2_begins_73 rfl (lv_at hl 0 rfl) ?_
    refine lv_iconst (v := (0 : Int32)) hx hb dX2_begins_74 (by decide) ?_
    obtain ⟨G_18, eG_18, hf⟩ := nm_s hf
    refine mp X Y 9 (by decide) q1114 ⟨rfl, rfl⟩ rfl mz0_9 eG_18 dX2_begins_75 (fun H locs Y => ?_)
    refine lv_aload_n hx hb dX2_begins_78 rfl (lv_at hl 0 rfl) ?_
    refine lv_iconst (v := (0 : Int32)) hx hb dX2_begins_79 (by decide) ?_
    obtain ⟨G_19, eG_19, hf⟩ := nm_s hf
    refine mp X Y 13 (by decide) q1118 ⟨rfl, rfl⟩ rfl mz0_13 eG_19 dX2_begins_80 (fun H locs Y => ?_)
    refine lv_aload_n hx hb dX2_begins_83 rfl (lv_at hl 0 rfl) ?_
    refine mg (v := .ref (ad 12)) X Y 12 (by decide) q1117 rfl rfl dX2_begins_84 ?_
    refine lv_iconst (v := (0 : Int32)) hx hb dX2_begins_87 (by decide) ?_
    refine lv_iconst (v := (0 : Int32)) hx hb dX2_begins_88 (by decide) ?_
    obtain ⟨b_20, hf⟩ := gd_s hf
    obtain ⟨G_21, eG_21, hf⟩ := nm_s hf
    refine msZ (n := 2) X Y 12 7 rfl mz12 b_20 (by decide) eG_21 dX2_begins_89 (fun H locs Y => ?_)
    refine lv_aload_n hx hb dX2_begins_90 rfl (lv_at hl 0 rfl) ?_
    refine mg (v := .ref (ad 12)) X Y 12 (by decide) q1117 rfl rfl dX2_begins_91 ?_
    refine lv_iconst (v := (1 : Int32)) hx hb dX2_begins_94 (by decide) ?_
    refine lv_iconst (v := (0 : Int32)) hx hb dX2_begins_95 (by decide) ?_
    obtain ⟨b_22, hf⟩ := gd_s hf
    obtain ⟨G_23, eG_23, hf⟩ := nm_s hf
    refine msZ (n := 2) X Y 12 7 rfl mz12 b_22 (by decide) eG_23 dX2_begins_96 (fun H locs Y => ?_)
    cases hf
    exact m_vret X Y dX2_begins_97
  clear hf
  have L23_24 : ∀ (n_ : Nat) (x1_5 : Int32) (G_6 : GS), fX2_begins_L23 N n_ x1_5 G_6 = some G_17 → ∀ (H : Heap) (locs : List Loc), WX D A s (mW h ad cA G_6) H locs → ∀ ls : Array Slot, lv_has ls 2 [(0, .ref h), (1, .int x1_5)] → W p l e (mR 0) s m args below meth c H locs 0 0 (MQ below (mQ D cA h ad A (none) G') args s 0 0 A) (F0 m 23 ls []) := by
    clear hL
    intro n_
    induction n_ with
    | zero =>
      intro x1_5 G_6 hf
      rw [fX2_begins_L23.eq_1] at hf
      cases hf
    | succ n_ ih =>
      intro x1_5 G_6 hf
      intro H locs Y ls hl
      rw [fX2_begins_L23.eq_2] at hf
      refine lv_iload_n hx hb dX2_begins_23 rfl (lv_at hl 1 rfl) ?_
      refine lv_bipush (v := (6 : Int32)) hx hb dX2_begins_24 (by decide) ?_
      refine lv_icmp_ge (tgt := 73) hx hb dX2_begins_26 (by decide) (fun c_7 => ?_) (fun c_7 => ?_)
      · rw [if_pos c_7] at hf
        cases hf
        exact E23_24 _ _ Y _ (lv_sub hl [0] rfl)
      · rw [if_neg c_7] at hf
        refine lv_aload_n hx hb dX2_begins_29 rfl (lv_at hl 0 rfl) ?_
        refine mg (v := .ref (ad 8)) X Y 8 (by decide) q1113 rfl rfl dX2_begins_30 ?_
        refine lv_iconst (v := (2 : Int32)) hx hb dX2_begins_33 (by decide) ?_
        refine lv_iload_n hx hb dX2_begins_34 rfl (lv_at hl 1 rfl) ?_
        refine lv_iadd hx hb dX2_begins_35 ?_
        refine lv_aload_n hx hb dX2_begins_36 rfl (lv_at hl 0 rfl) ?_
        refine mg (v := .ref (ad 3)) X Y 3 (by decide) q1108 rfl rfl dX2_begins_37 ?_
        refine lv_iconst (v := (3 : Int32)) hx hb dX2_begins_40 (by decide) ?_
        refine lv_iload_n hx hb dX2_begins_41 rfl (lv_at hl 1 rfl) ?_
        refine lv_imul hx hb dX2_begins_42 ?_
        refine lv_iconst (v := (1 : Int32)) hx hb dX2_begins_43 (by decide) ?_
        refine lv_iadd hx hb dX2_begins_44 ?_
        obtain ⟨b_8, hf⟩ := gd_s hf
        obtain ⟨v_9, ev_9, hf⟩ := nm_s hf
        refine ml (n := 18) X Y 3 2 rfl b_8 ev_9 dX2_begins_45 ?_
        obtain ⟨b_10, hf⟩ := gd_s hf
        obtain ⟨G_11, eG_11, hf⟩ := nm_s hf
        refine ms (n := 20) X Y 8 4 rfl mz8 b_10 eG_11 dX2_begins_46 (fun H locs Y => ?_)
        refine lv_aload_n hx hb dX2_begins_47 rfl (lv_at hl 0 rfl) ?_
        refine mg (v := .ref (ad 8)) X Y 8 (by decide) q1113 rfl rfl dX2_begins_48 ?_
        refine lv_bipush (v := (8 : Int32)) hx hb dX2_begins_51 (by decide) ?_
        refine lv_iload_n hx hb dX2_begins_53 rfl (lv_at hl 1 rfl) ?_
        refine lv_iadd hx hb dX2_begins_54 ?_
        refine lv_iconst (v := (0 : Int32)) hx hb dX2_begins_55 (by decide) ?_
        obtain ⟨b_12, hf⟩ := gd_s hf
        obtain ⟨G_13, eG_13, hf⟩ := nm_s hf
        refine ms (n := 20) X Y 8 4 rfl mz8 b_12 eG_13 dX2_begins_56 (fun H locs Y => ?_)
        refine lv_aload_n hx hb dX2_begins_57 rfl (lv_at hl 0 rfl) ?_
        refine mg (v := .ref (ad 8)) X Y 8 (by decide) q1113 rfl rfl dX2_begins_58 ?_
        refine lv_bipush (v := (14 : Int32)) hx hb dX2_begins_61 (by decide) ?_
        refine lv_iload_n hx hb dX2_begins_63 rfl (lv_at hl 1 rfl) ?_
        refine lv_iadd hx hb dX2_begins_64 ?_
        refine lv_iconst (v := (-1 : Int32)) hx hb dX2_begins_65 (by decide) ?_
        obtain ⟨b_14, hf⟩ := gd_s hf
        obtain ⟨G_15, eG_15, hf⟩ := nm_s hf
        refine ms (n := 20) X Y 8 4 rfl mz8 b_14 eG_15 dX2_begins_66 (fun H locs Y => ?_)
        obtain ⟨x1_16, ex1_16, hf⟩ := nm_s hf
        refine lv_iinc (v := x1_16) (lv' := [(1, .int x1_16), (0, .ref h)]) hx hb dX2_begins_67 hl (k := 1) rfl (by rw [ex1_16]; rfl) (by decide) rfl (fun ls hl => ?_)
        refine lv_goto (tgt := 23) hx hb dX2_begins_70 (by decide) ?_
        exact ih _ _ hf _ _ Y _ (lv_sub hl [1, 0] rfl)
  exact L23_24 N _ _ hL _ _ Y _ (lv_sub hl [1, 0] rfl)

def fX2_in (N : Nat) (a1 : Int32) (a2 : Int32) (a3 : Int32) : Option Int32 :=
  if a1 < a2 then (
   some (0 : Int32)
  ) else (
   if a3 < a1 then (
    some (0 : Int32)
   ) else (
    some (1 : Int32)
   )
  )
theorem ydX2_in : yX2_in.cls ≠ "java/lang/invoke/MethodHandle" ∧ yX2_in.cls ≠ "java/lang/invoke/VarHandle" ∧ (parseMethodDescriptor yX2_in.desc).map (fun d => d.parameters.length) = some 3 := by decide +kernel
set_option maxHeartbeats 4000000 in
theorem tX2_in (l : Launch) (N : Nat) (a1 : Int32) (a2 : Int32) (a3 : Int32) (r : Int32) (hf : fX2_in N a1 a2 a3 = some r) : sMet l yX2_in cX2_in 3 (some .boolean) (mR 0) [.int a1, .int a2, .int a3] (some (.int r)) := by
  unfold fX2_in at hf
  refine sMet_of (by decide +kernel) (Nat.le_of_ble_eq_true rfl) (fun {p e s m args below meth c ls} B hS hl => ?_)
  have hx := B.1
  have hb := B.2.1
  have hl : lv_has ls 3 [(0, .int a1), (1, .int a2), (2, .int a3)] := hl
  refine lv_iload_n hx hb dX2_in_0 rfl (lv_at hl 0 rfl) ?_
  refine lv_iload_n hx hb dX2_in_1 rfl (lv_at hl 1 rfl) ?_
  refine lv_icmp_lt (tgt := 14) hx hb dX2_in_2 (by decide) (fun c_1 => ?_) (fun c_1 => ?_)
  · rw [if_pos c_1] at hf
    refine lv_iconst (v := (0 : Int32)) hx hb dX2_in_14 (by decide) ?_
    cases hf
    exact s_zret B hS (by decide) dX2_in_15
  · rw [if_neg c_1] at hf
    refine lv_iload_n hx hb dX2_in_5 rfl (lv_at hl 0 rfl) ?_
    refine lv_iload_n hx hb dX2_in_6 rfl (lv_at hl 2 rfl) ?_
    refine lv_icmp_gt (tgt := 14) hx hb dX2_in_7 (by decide) (fun c_2 => ?_) (fun c_2 => ?_)
    · rw [if_pos c_2] at hf
      refine lv_iconst (v := (0 : Int32)) hx hb dX2_in_14 (by decide) ?_
      cases hf
      exact s_zret B hS (by decide) dX2_in_15
    · rw [if_neg c_2] at hf
      refine lv_iconst (v := (1 : Int32)) hx hb dX2_in_10 (by decide) ?_
      refine lv_goto (tgt := 15) hx hb dX2_in_11 (by decide) ?_
      cases hf
      exact s_zret B hS (by decide) dX2_in_15

def fX2_write (N : Nat) (G : GS) (a1 : Int32) : Option (Int32 × GS) :=
  bd1 (fX2_in N a1 (0 : Int32) (255 : Int32)) fun r_1 =>
  if r_1 = (0 : Int32) then (
   some ((-3 : Int32), G)
  ) else (
   if (G 0 16) = (160 : Int32) then (
    some ((-5 : Int32), G)
   ) else (
    gd (inb (G 0 16) 160) <|
    nm (gu G 15 ((G 0 16)).toNatClampNeg a1 : GS) fun G_6 =>
    nm (gu G_6 0 16 ((G_6 0 16) + (1 : Int32)) : GS) fun G_7 =>
    some ((G_7 0 16), G_7)
   )
  )
theorem ydX2_write : yX2_write.cls = RX2 ∧ yX2_write.cls ≠ "java/lang/invoke/MethodHandle" ∧ yX2_write.cls ≠ "java/lang/invoke/VarHandle" ∧ (parseMethodDescriptor yX2_write.desc).map (fun d => d.parameters.length) = some 1 := by decide +kernel
set_option maxHeartbeats 4000000 in
theorem tX2_write (l : Launch) (N : Nat) (G : GS) (a1 : Int32) (r : Int32) (G' : GS) (hf : fX2_write N G a1 = some (r, G')) : mMet l yX2_write cX2_write 2 (some .int) (mR 1) [.int a1] G (some (.int r)) G' := by
  unfold fX2_write at hf
  refine mMet_of (by decide +kernel) rfl (Nat.le_of_ble_eq_true rfl) (fun {p e s m args below meth c ls D cA h ad A} X Y hl => ?_)
  have hx := X.1.1
  have hb := X.1.2.1
  have hl : lv_has ls 2 [(0, .ref h), (1, .int a1)] := hl
  refine lv_iload_n hx hb dX2_write_0 rfl (lv_at hl 1 rfl) ?_
  refine lv_iconst (v := (0 : Int32)) hx hb dX2_write_1 (by decide) ?_
  refine lv_sipush (v := (255 : Int32)) hx hb dX2_write_2 (by decide) ?_
  obtain ⟨r_1, hq_2, hf⟩ := bd1_s hf
  refine w_callSI (av := [.int a1, .int (0 : Int32), .int (255 : Int32)]) (rest := []) 3 X Y (tX2_in l N a1 (0 : Int32) (255 : Int32) r_1 hq_2) (lw_S q1225 q1226 q70 q1227) ydX2_in ⟨rfl, rfl, by decide, by decide⟩ rfl hl.1 rfl (Nat.le_of_ble_eq_true rfl) ⟨Nat.zero_le _, Nat.zero_le _⟩ dX2_write_5 (fun H locs Y => ?_)
  refine lv_if_ne (tgt := 14) hx hb dX2_write_8 (by decide) (fun c_3 => ?_) (fun c_3 => ?_)
  · rw [if_neg c_3] at hf
    refine lv_aload_n hx hb dX2_write_14 rfl (lv_at hl 0 rfl) ?_
    refine mg (v := .int (G 0 16)) X Y 16 (by decide) q1121 rfl rfl dX2_write_15 ?_
    refine lv_sipush (v := (160 : Int32)) hx hb dX2_write_18 (by decide) ?_
    refine lv_icmp_ne (tgt := 27) hx hb dX2_write_21 (by decide) (fun c_4 => ?_) (fun c_4 => ?_)
    · rw [if_neg c_4] at hf
      refine lv_aload_n hx hb dX2_write_27 rfl (lv_at hl 0 rfl) ?_
      refine mg (v := .ref (ad 15)) X Y 15 (by decide) q1120 rfl rfl dX2_write_28 ?_
      refine lv_aload_n hx hb dX2_write_31 rfl (lv_at hl 0 rfl) ?_
      refine mg (v := .int (G 0 16)) X Y 16 (by decide) q1121 rfl rfl dX2_write_32 ?_
      refine lv_iload_n hx hb dX2_write_35 rfl (lv_at hl 1 rfl) ?_
      obtain ⟨b_5, hf⟩ := gd_s hf
      obtain ⟨G_6, eG_6, hf⟩ := nm_s hf
      refine ms (n := 160) X Y 15 9 rfl mz15 b_5 eG_6 dX2_write_36 (fun H locs Y => ?_)
      refine lv_aload_n hx hb dX2_write_37 rfl (lv_at hl 0 rfl) ?_
      refine lv_dup hx hb dX2_write_38 rfl ?_
      refine mg (v := .int (G_6 0 16)) X Y 16 (by decide) q1121 rfl rfl dX2_write_39 ?_
      refine lv_iconst (v := (1 : Int32)) hx hb dX2_write_42 (by decide) ?_
      refine lv_iadd hx hb dX2_write_43 ?_
      obtain ⟨G_7, eG_7, hf⟩ := nm_s hf
      refine mp X Y 16 (by decide) q1121 ⟨rfl, rfl⟩ rfl mz0_16 eG_7 dX2_write_44 (fun H locs Y => ?_)
      refine lv_aload_n hx hb dX2_write_47 rfl (lv_at hl 0 rfl) ?_
      refine mg (v := .int (G_7 0 16)) X Y 16 (by decide) q1121 rfl rfl dX2_write_48 ?_
      cases hf
      exact m_iret X Y dX2_write_51
    · rw [if_pos c_4] at hf
      refine lv_bipush (v := (-5 : Int32)) hx hb dX2_write_24 (by decide) ?_
      cases hf
      exact m_iret X Y dX2_write_26
  · rw [if_pos c_3] at hf
    refine lv_bipush (v := (-3 : Int32)) hx hb dX2_write_11 (by decide) ?_
    cases hf
    exact m_iret X Y dX2_write_13

def fX2_erase (N : Nat) (G : GS) : Option (Int32 × GS) :=
  nm ((G 0 16) : Int32) fun x1_1 =>
  nm (gu G 0 16 (0 : Int32) : GS) fun G_2 =>
  some (x1_1, G_2)
theorem ydX2_erase : yX2_erase.cls = RX2 ∧ yX2_erase.cls ≠ "java/lang/invoke/MethodHandle" ∧ yX2_erase.cls ≠ "java/lang/invoke/VarHandle" ∧ (parseMethodDescriptor yX2_erase.desc).map (fun d => d.parameters.length) = some 0 := by decide +kernel
set_option maxHeartbeats 4000000 in
theorem tX2_erase (l : Launch) (N : Nat) (G : GS) (r : Int32) (G' : GS) (hf : fX2_erase N G = some (r, G')) : mMet l yX2_erase cX2_erase 2 (some .int) (mR 0) [] G (some (.int r)) G' := by
  unfold fX2_erase at hf
  refine mMet_of (by decide +kernel) rfl (Nat.le_of_ble_eq_true rfl) (fun {p e s m args below meth c ls D cA h ad A} X Y hl => ?_)
  have hx := X.1.1
  have hb := X.1.2.1
  have hl : lv_has ls 2 [(0, .ref h)] := hl
  refine lv_aload_n hx hb dX2_erase_0 rfl (lv_at hl 0 rfl) ?_
  refine mg (v := .int (G 0 16)) X Y 16 (by decide) q1121 rfl rfl dX2_erase_1 ?_
  obtain ⟨x1_1, ex1_1, hf⟩ := nm_s hf
  refine lv_topE ex1_1 ?_
  refine lv_istore_n (lv' := [(1, .int x1_1), (0, .ref h)]) hx hb dX2_erase_4 rfl hl (by decide) rfl (fun ls hl => ?_)
  refine lv_aload_n hx hb dX2_erase_5 rfl (lv_at hl 1 rfl) ?_
  refine lv_iconst (v := (0 : Int32)) hx hb dX2_erase_6 (by decide) ?_
  obtain ⟨G_2, eG_2, hf⟩ := nm_s hf
  refine mp X Y 16 (by decide) q1121 ⟨rfl, rfl⟩ rfl mz0_16 eG_2 dX2_erase_7 (fun H locs Y => ?_)
  refine lv_iload_n hx hb dX2_erase_10 rfl (lv_at hl 0 rfl) ?_
  cases hf
  exact m_iret X Y dX2_erase_11

def fX2_letterAt (N : Nat) (G : GS) (a1 : Int32) : Option Int32 :=
  if (G 0 16) ≤ a1 then (
   some (-1 : Int32)
  ) else (
   gd (inb a1 160) <|
   nm (G 15 (a1).toNatClampNeg : Int32) fun v_3 =>
   some v_3
  )
theorem ydX2_letterAt : yX2_letterAt.cls = RX2 ∧ yX2_letterAt.cls ≠ "java/lang/invoke/MethodHandle" ∧ yX2_letterAt.cls ≠ "java/lang/invoke/VarHandle" ∧ (parseMethodDescriptor yX2_letterAt.desc).map (fun d => d.parameters.length) = some 1 := by decide +kernel
set_option maxHeartbeats 4000000 in
theorem tX2_letterAt (l : Launch) (N : Nat) (G : GS) (a1 : Int32) (r : Int32) (hf : fX2_letterAt N G a1 = some r) : mMet l yX2_letterAt cX2_letterAt 2 (some .int) (mR 0) [.int a1] G (some (.int r)) G := by
  unfold fX2_letterAt at hf
  refine mMet_of (by decide +kernel) rfl (Nat.le_of_ble_eq_true rfl) (fun {p e s m args below meth c ls D cA h ad A} X Y hl => ?_)
  have hx := X.1.1
  have hb := X.1.2.1
  have hl : lv_has ls 2 [(0, .ref h), (1, .int a1)] := hl
  refine lv_iload_n hx hb dX2_letterAt_0 rfl (lv_at hl 1 rfl) ?_
  refine lv_aload_n hx hb dX2_letterAt_1 rfl (lv_at hl 0 rfl) ?_
  refine mg (v := .int (G 0 16)) X Y 16 (by decide) q1121 rfl rfl dX2_letterAt_2 ?_
  refine lv_icmp_ge (tgt := 17) hx hb dX2_letterAt_5 (by decide) (fun c_1 => ?_) (fun c_1 => ?_)
  · rw [if_pos c_1] at hf
    refine lv_iconst (v := (-1 : Int32)) hx hb dX2_letterAt_17 (by decide) ?_
    cases hf
    exact m_iret X Y dX2_letterAt_18
  · rw [if_neg c_1] at hf
    refine lv_aload_n hx hb dX2_letterAt_8 rfl (lv_at hl 0 rfl) ?_
    refine mg (v := .ref (ad 15)) X Y 15 (by decide) q1120 rfl rfl dX2_letterAt_9 ?_
    refine lv_iload_n hx hb dX2_letterAt_12 rfl (lv_at hl 1 rfl) ?_
    obtain ⟨b_2, hf⟩ := gd_s hf
    obtain ⟨v_3, ev_3, hf⟩ := nm_s hf
    refine ml (n := 160) X Y 15 9 rfl b_2 ev_3 dX2_letterAt_13 ?_
    refine lv_goto (tgt := 18) hx hb dX2_letterAt_14 (by decide) ?_
    cases hf
    exact m_iret X Y dX2_letterAt_18

def fX2_isSmall (N : Nat) (a1 : Int32) : Option Int32 :=
  bd1 (fX2_in N a1 (97 : Int32) (122 : Int32)) fun r_1 =>
  gd (zb r_1) <|
  some r_1
theorem ydX2_isSmall : yX2_isSmall.cls ≠ "java/lang/invoke/MethodHandle" ∧ yX2_isSmall.cls ≠ "java/lang/invoke/VarHandle" ∧ (parseMethodDescriptor yX2_isSmall.desc).map (fun d => d.parameters.length) = some 1 := by decide +kernel
set_option maxHeartbeats 4000000 in
theorem tX2_isSmall (l : Launch) (N : Nat) (a1 : Int32) (r : Int32) (hf : fX2_isSmall N a1 = some r) : sMet l yX2_isSmall cX2_isSmall 1 (some .boolean) (mR 1) [.int a1] (some (.int r)) := by
  unfold fX2_isSmall at hf
  refine sMet_of (by decide +kernel) (Nat.le_of_ble_eq_true rfl) (fun {p e s m args below meth c ls} B hS hl => ?_)
  have hx := B.1
  have hb := B.2.1
  have hl : lv_has ls 1 [(0, .int a1)] := hl
  refine lv_iload_n hx hb dX2_isSmall_0 rfl (lv_at hl 0 rfl) ?_
  refine lv_bipush (v := (97 : Int32)) hx hb dX2_isSmall_1 (by decide) ?_
  refine lv_bipush (v := (122 : Int32)) hx hb dX2_isSmall_3 (by decide) ?_
  obtain ⟨r_1, hq_2, hf⟩ := bd1_s hf
  refine s_callI (av := [.int a1, .int (97 : Int32), .int (122 : Int32)]) (rest := []) 3 B hS (tX2_in l N a1 (97 : Int32) (122 : Int32) r_1 hq_2) (lw_S q1225 q1226 q70 q1227) ydX2_in ⟨rfl, rfl, by decide, by decide⟩ rfl hl.1 rfl (Nat.le_of_ble_eq_true rfl) ⟨Nat.zero_le _, Nat.zero_le _⟩ dX2_isSmall_5 (fun H locs hS => ?_)
  obtain ⟨b_3, hf⟩ := gd_s hf
  cases hf
  exact s_zret B hS b_3 dX2_isSmall_8

def fX2_isFigure (N : Nat) (a1 : Int32) : Option Int32 :=
  bd1 (fX2_in N a1 (48 : Int32) (57 : Int32)) fun r_1 =>
  gd (zb r_1) <|
  some r_1
theorem ydX2_isFigure : yX2_isFigure.cls ≠ "java/lang/invoke/MethodHandle" ∧ yX2_isFigure.cls ≠ "java/lang/invoke/VarHandle" ∧ (parseMethodDescriptor yX2_isFigure.desc).map (fun d => d.parameters.length) = some 1 := by decide +kernel
set_option maxHeartbeats 4000000 in
theorem tX2_isFigure (l : Launch) (N : Nat) (a1 : Int32) (r : Int32) (hf : fX2_isFigure N a1 = some r) : sMet l yX2_isFigure cX2_isFigure 1 (some .boolean) (mR 1) [.int a1] (some (.int r)) := by
  unfold fX2_isFigure at hf
  refine sMet_of (by decide +kernel) (Nat.le_of_ble_eq_true rfl) (fun {p e s m args below meth c ls} B hS hl => ?_)
  have hx := B.1
  have hb := B.2.1
  have hl : lv_has ls 1 [(0, .int a1)] := hl
  refine lv_iload_n hx hb dX2_isFigure_0 rfl (lv_at hl 0 rfl) ?_
  refine lv_bipush (v := (48 : Int32)) hx hb dX2_isFigure_1 (by decide) ?_
  refine lv_bipush (v := (57 : Int32)) hx hb dX2_isFigure_3 (by decide) ?_
  obtain ⟨r_1, hq_2, hf⟩ := bd1_s hf
  refine s_callI (av := [.int a1, .int (48 : Int32), .int (57 : Int32)]) (rest := []) 3 B hS (tX2_in l N a1 (48 : Int32) (57 : Int32) r_1 hq_2) (lw_S q1225 q1226 q70 q1227) ydX2_in ⟨rfl, rfl, by decide, by decide⟩ rfl hl.1 rfl (Nat.le_of_ble_eq_true rfl) ⟨Nat.zero_le _, Nat.zero_le _⟩ dX2_isFigure_5 (fun H locs hS => ?_)
  obtain ⟨b_3, hf⟩ := gd_s hf
  cases hf
  exact s_zret B hS b_3 dX2_isFigure_8

def fX2_next_L0 (N : Nat) : Nat → GS → Option GS
  | 0, _ => none
  | n_ + 1, G_1 =>
    bd1 (fX2_letterAt N G_1 (G_1 0 17)) fun r_2 =>
    if r_2 = (32 : Int32) then (
     nm (gu G_1 0 17 ((G_1 0 17) + (1 : Int32)) : GS) fun G_5 =>
     fX2_next_L0 N n_ G_5
    ) else (
     some G_1
    )
def fX2_next_L111 (N : Nat) : Nat → GS → Option GS
  | 0, _ => none
  | n_ + 1, G_23 =>
    bd1 (fX2_letterAt N G_23 (G_23 0 17)) fun r_24 =>
    bd1 (fX2_isFigure N r_24) fun r_26 =>
    if r_26 = (0 : Int32) then (
     some G_23
    ) else (
     bd1 (
      if (2 : Int32) ≤ ((G_23 0 17) - (G_23 0 18)) then (
       some (100 : Int32)
      ) else (
       bd1 (fX2_letterAt N G_23 (G_23 0 17)) fun r_30 =>
       some ((((10 : Int32) * (G_23 0 20)) + r_30) - (48 : Int32))
      )
     ) fun j_32 =>
     nm (gu G_23 0 20 j_32 : GS) fun G_33 =>
     nm (gu G_33 0 17 ((G_33 0 17) + (1 : Int32)) : GS) fun G_34 =>
     fX2_next_L111 N n_ G_34
    )
def fX2_next_L72 (N : Nat) : Nat → GS → Option GS
  | 0, _ => none
  | n_ + 1, G_37 =>
    bd1 (fX2_letterAt N G_37 (G_37 0 17)) fun r_38 =>
    bd1 (fX2_isSmall N r_38) fun r_40 =>
    if r_40 = (0 : Int32) then (
     some G_37
    ) else (
     nm (gu G_37 0 17 ((G_37 0 17) + (1 : Int32)) : GS) fun G_43 =>
     fX2_next_L72 N n_ G_43
    )
def fX2_next (N : Nat) (G : GS) : Option GS :=
  bd1 (fX2_next_L0 N N G) fun G_6 =>
  nm (gu G_6 0 18 (G_6 0 17) : GS) fun G_7 =>
  bd1 (fX2_letterAt N G_7 (G_7 0 17)) fun r_8 =>
  nm (gu G_7 0 20 (0 : Int32) : GS) fun G_10 =>
  if (0 : Int32) ≤ r_8 then (
   bd1 (fX2_isSmall N r_8) fun r_12 =>
   if r_12 = (0 : Int32) then (
    bd1 (fX2_isFigure N r_8) fun r_15 =>
    if r_15 = (0 : Int32) then (
     bd1 (
      if r_8 = (59 : Int32) then (
       some (3 : Int32)
      ) else (
       some (4 : Int32)
      )
     ) fun j_19 =>
     nm (gu G_10 0 19 j_19 : GS) fun G_20 =>
     nm (gu G_20 0 17 ((G_20 0 17) + (1 : Int32)) : GS) fun G_21 =>
     some G_21
    ) else (
     nm (gu G_10 0 19 (2 : Int32) : GS) fun G_22 =>
     bd1 (fX2_next_L111 N N G_22) fun G_35 =>
     some G_35
    )
   ) else (
    nm (gu G_10 0 19 (1 : Int32) : GS) fun G_36 =>
    bd1 (fX2_next_L72 N N G_36) fun G_44 =>
    some G_44
   )
  ) else (
   nm (gu G_10 0 19 (0 : Int32) : GS) fun G_45 =>
   some G_45
  )
theorem ydX2_next : yX2_next.cls = RX2 ∧ yX2_next.cls ≠ "java/lang/invoke/MethodHandle" ∧ yX2_next.cls ≠ "java/lang/invoke/VarHandle" ∧ (parseMethodDescriptor yX2_next.desc).map (fun d => d.parameters.length) = some 0 := by decide +kernel
set_option maxHeartbeats 4000000 in
theorem tX2_next (l : Launch) (N : Nat) (G : GS) (G' : GS) (hf : fX2_next N G = some G') : mMet l yX2_next cX2_next 2 none (mR 2) [] G (none) G' := by
  unfold fX2_next at hf
  refine mMet_of (by decide +kernel) rfl (Nat.le_of_ble_eq_true rfl) (fun {p e s m args below meth c ls D cA h ad A} X Y hl => ?_)
  have hx := X.1.1
  have hb := X.1.2.1
  have hl : lv_has ls 2 [(0, .ref h)] := hl
  obtain ⟨G_6, hL, hf⟩ := bd1_s hf
  have E0_46 : ∀ (H : Heap) (locs : List Loc), WX D A s (mW h ad cA G_6) H locs → ∀ ls : Array Slot, lv_has ls 2 [(0, .ref h)] → W p l e (mR 2) s m args below meth c H locs 0 0 (MQ below (mQ D cA h ad A (none) G') args s 0 0 A) (F0 m 26 ls []) := by
    clear hL
    intro H locs Y ls hl
    refine lv_aload_n hx hb dX2_next_26 rfl (lv_at hl 0 rfl) ?_
    refine lv_aload_n hx hb dX2_next_27 rfl (lv_at hl 0 rfl) ?_
    refine mg (v := .int (G_6 0 17)) X Y 17 (by decide) q1122 rfl rfl dX2_next_28 ?_
    obtain ⟨G_7, eG_7, hf⟩ := nm_s hf
    refine mp X Y 18 (by decide) q1123 ⟨rfl, rfl⟩ rfl mz0_18 eG_7 dX2_next_31 (fun H locs Y => ?_)
    refine lv_aload_n hx hb dX2_next_34 rfl (lv_at hl 0 rfl) ?_
    refine lv_aload_n hx hb dX2_next_35 rfl (lv_at hl 0 rfl) ?_
    refine mg (v := .int (G_7 0 17)) X Y 17 (by decide) q1122 rfl rfl dX2_next_36 ?_
    obtain ⟨r_8, hq_9, hf⟩ := bd1_s hf
    refine mcI (av := [.int (G_7 0 17)]) (rest := []) 1 X Y (tX2_letterAt l N G_7 (G_7 0 17) r_8 hq_9) (lw_V q1244 q1246 qs33 q70 q1247) ydX2_letterAt ⟨rfl, rfl, by decide, by decide⟩ rfl hl.1 rfl (Nat.le_of_ble_eq_true rfl) ⟨Nat.zero_le _, Nat.zero_le _⟩ dX2_next_39 (fun H locs Y => ?_)
    refine lv_istore_n (lv' := [(1, .int r_8), (0, .ref h)]) hx hb dX2_next_42 rfl hl (by decide) rfl (fun ls hl => ?_)
    refine lv_aload_n hx hb dX2_next_43 rfl (lv_at hl 1 rfl) ?_
    refine lv_iconst (v := (0 : Int32)) hx hb dX2_next_44 (by decide) ?_
    obtain ⟨G_10, eG_10, hf⟩ := nm_s hf
    refine mp X Y 20 (by decide) q1125 ⟨rfl, rfl⟩ rfl mz0_20 eG_10 dX2_next_45 (fun H locs Y => ?_)
    refine lv_iload_n hx hb dX2_next_48 rfl (lv_at hl 0 rfl) ?_
    refine lv_if_ge (tgt := 60) hx hb dX2_next_49 (by decide) (fun c_11 => ?_) (fun c_11 => ?_)
    · rw [if_pos c_11] at hf
      refine lv_iload_n hx hb dX2_next_60 rfl (lv_at hl 0 rfl) ?_
      obtain ⟨r_12, hq_13, hf⟩ := bd1_s hf
      refine w_callSI (av := [.int r_8]) (rest := []) 1 X Y (tX2_isSmall l N r_8 r_12 hq_13) (lw_S q1248 q1249 q70 q1250) ydX2_isSmall ⟨rfl, rfl, by decide, by decide⟩ rfl hl.1 rfl (Nat.le_of_ble_eq_true rfl) ⟨Nat.zero_le _, Nat.zero_le _⟩ dX2_next_61 (fun H locs Y => ?_)
      refine lv_if_eq (tgt := 99) hx hb dX2_next_64 (by decide) (fun c_14 => ?_) (fun c_14 => ?_)
      · rw [if_pos c_14] at hf
        refine lv_iload_n hx hb dX2_next_99 rfl (lv_at hl 0 rfl) ?_
        obtain ⟨r_15, hq_16, hf⟩ := bd1_s hf
        refine w_callSI (av := [.int r_8]) (rest := []) 1 X Y (tX2_isFigure l N r_8 r_15 hq_16) (lw_S q1251 q1252 q70 q1253) ydX2_isFigure ⟨rfl, rfl, by decide, by decide⟩ rfl hl.1 rfl (Nat.le_of_ble_eq_true rfl) ⟨Nat.zero_le _, Nat.zero_le _⟩ dX2_next_100 (fun H locs Y => ?_)
        refine lv_if_eq (tgt := 179) hx hb dX2_next_103 (by decide) (fun c_17 => ?_) (fun c_17 => ?_)
        · rw [if_pos c_17] at hf
          refine lv_aload_n hx hb dX2_next_179 rfl (lv_at hl 1 rfl) ?_
          refine lv_iload_n hx hb dX2_next_180 rfl (lv_at hl 0 rfl) ?_
          refine lv_bipush (v := (59 : Int32)) hx hb dX2_next_181 (by decide) ?_
          obtain ⟨j_19, hj, hf⟩ := bd1_s hf
          have J191_47 : ∀ (H : Heap) (locs : List Loc), WX D A s (mW h ad cA G_10) H locs → ∀ ls : Array Slot, lv_has ls 2 [(0, .ref h)] → W p l e (mR 2) s m args below meth c H locs 0 0 (MQ below (mQ D cA h ad A (none) G') args s 0 0 A) (F0 m 191 ls [.int j_19, .ref h]) := by
            clear hj
            intro H locs Y ls hl
            obtain ⟨G_20, eG_20, hf⟩ := nm_s hf
            refine mp X Y 19 (by decide) q1124 ⟨rfl, rfl⟩ rfl mz0_19 eG_20 dX2_next_191 (fun H locs Y => ?_)
            refine lv_aload_n hx hb dX2_next_194 rfl (lv_at hl 0 rfl) ?_
            refine lv_dup hx hb dX2_next_195 rfl ?_
            refine mg (v := .int (G_20 0 17)) X Y 17 (by decide) q1122 rfl rfl dX2_next_196 ?_
            refine lv_iconst (v := (1 : Int32)) hx hb dX2_next_199 (by decide) ?_
            refine lv_iadd hx hb dX2_next_200 ?_
            obtain ⟨G_21, eG_21, hf⟩ := nm_s hf
            refine mp X Y 17 (by decide) q1122 ⟨rfl, rfl⟩ rfl mz0_17 eG_21 dX2_next_201 (fun H locs Y => ?_)
            cases hf
            exact m_vret X Y dX2_next_204
          replace hf := hj
          clear hj
          refine lv_icmp_ne (tgt := 190) hx hb dX2_next_183 (by decide) (fun c_18 => ?_) (fun c_18 => ?_)
          · rw [if_neg c_18] at hf
            refine lv_iconst (v := (4 : Int32)) hx hb dX2_next_190 (by decide) ?_
            cases hf
            exact J191_47 _ _ Y _ (lv_sub hl [1] rfl)
          · rw [if_pos c_18] at hf
            refine lv_iconst (v := (3 : Int32)) hx hb dX2_next_186 (by decide) ?_
            refine lv_goto (tgt := 191) hx hb dX2_next_187 (by decide) ?_
            cases hf
            exact J191_47 _ _ Y _ (lv_sub hl [1] rfl)
        · rw [if_neg c_17] at hf
          refine lv_aload_n hx hb dX2_next_106 rfl (lv_at hl 1 rfl) ?_
          refine lv_iconst (v := (2 : Int32)) hx hb dX2_next_107 (by decide) ?_
          obtain ⟨G_22, eG_22, hf⟩ := nm_s hf
          refine mp X Y 19 (by decide) q1124 ⟨rfl, rfl⟩ rfl mz0_19 eG_22 dX2_next_108 (fun H locs Y => ?_)
          obtain ⟨G_35, hL, hf⟩ := bd1_s hf
          have E111_48 : ∀ (H : Heap) (locs : List Loc), WX D A s (mW h ad cA G_35) H locs → ∀ ls : Array Slot, lv_has ls 2 [] → W p l e (mR 2) s m args below meth c H locs 0 0 (MQ below (mQ D cA h ad A (none) G') args s 0 0 A) (F0 m 204 ls []) := by
            clear hL
            intro H locs Y ls hl
            cases hf
            exact m_vret X Y dX2_next_204
          clear hf
          have L111_48 : ∀ (n_ : Nat) (G_23 : GS), fX2_next_L111 N n_ G_23 = some G_35 → ∀ (H : Heap) (locs : List Loc), WX D A s (mW h ad cA G_23) H locs → ∀ ls : Array Slot, lv_has ls 2 [(0, .ref h)] → W p l e (mR 2) s m args below meth c H locs 0 0 (MQ below (mQ D cA h ad A (none) G') args s 0 0 A) (F0 m 111 ls []) := by
            clear hL
            intro n_
            induction n_ with
            | zero =>
              intro G_23 hf
              rw [fX2_next_L111.eq_1] at hf
              cases hf
            | succ n_ ih =>
              intro G_23 hf
              intro H locs Y ls hl
              rw [fX2_next_L111.eq_2] at hf
              refine lv_aload_n hx hb dX2_next_111 rfl (lv_at hl 0 rfl) ?_
              refine lv_aload_n hx hb dX2_next_112 rfl (lv_at hl 0 rfl) ?_
              refine mg (v := .int (G_23 0 17)) X Y 17 (by decide) q1122 rfl rfl dX2_next_113 ?_
              obtain ⟨r_24, hq_25, hf⟩ := bd1_s hf
              refine mcI (av := [.int (G_23 0 17)]) (rest := []) 1 X Y (tX2_letterAt l N G_23 (G_23 0 17) r_24 hq_25) (lw_V q1244 q1246 qs33 q70 q1247) ydX2_letterAt ⟨rfl, rfl, by decide, by decide⟩ rfl hl.1 rfl (Nat.le_of_ble_eq_true rfl) ⟨Nat.zero_le _, Nat.zero_le _⟩ dX2_next_116 (fun H locs Y => ?_)
              obtain ⟨r_26, hq_27, hf⟩ := bd1_s hf
              refine w_callSI (av := [.int r_24]) (rest := []) 1 X Y (tX2_isFigure l N r_24 r_26 hq_27) (lw_S q1251 q1252 q70 q1253) ydX2_isFigure ⟨rfl, rfl, by decide, by decide⟩ rfl hl.1 rfl (Nat.le_of_ble_eq_true rfl) ⟨Nat.zero_le _, Nat.zero_le _⟩ dX2_next_119 (fun H locs Y => ?_)
              refine lv_if_eq (tgt := 204) hx hb dX2_next_122 (by decide) (fun c_28 => ?_) (fun c_28 => ?_)
              · rw [if_pos c_28] at hf
                cases hf
                exact E111_48 _ _ Y _ (lv_sub hl [] rfl)
              · rw [if_neg c_28] at hf
                refine lv_aload_n hx hb dX2_next_125 rfl (lv_at hl 0 rfl) ?_
                refine lv_aload_n hx hb dX2_next_126 rfl (lv_at hl 0 rfl) ?_
                refine mg (v := .int (G_23 0 17)) X Y 17 (by decide) q1122 rfl rfl dX2_next_127 ?_
                refine lv_aload_n hx hb dX2_next_130 rfl (lv_at hl 0 rfl) ?_
                refine mg (v := .int (G_23 0 18)) X Y 18 (by decide) q1123 rfl rfl dX2_next_131 ?_
                refine lv_isub hx hb dX2_next_134 ?_
                refine lv_iconst (v := (2 : Int32)) hx hb dX2_next_135 (by decide) ?_
                obtain ⟨j_32, hj, hf⟩ := bd1_s hf
                have J163_49 : ∀ (H : Heap) (locs : List Loc), WX D A s (mW h ad cA G_23) H locs → ∀ ls : Array Slot, lv_has ls 2 [(0, .ref h)] → W p l e (mR 2) s m args below meth c H locs 0 0 (MQ below (mQ D cA h ad A (none) G') args s 0 0 A) (F0 m 163 ls [.int j_32, .ref h]) := by
                  clear hj
                  intro H locs Y ls hl
                  obtain ⟨G_33, eG_33, hf⟩ := nm_s hf
                  refine mp X Y 20 (by decide) q1125 ⟨rfl, rfl⟩ rfl mz0_20 eG_33 dX2_next_163 (fun H locs Y => ?_)
                  refine lv_aload_n hx hb dX2_next_166 rfl (lv_at hl 0 rfl) ?_
                  refine lv_dup hx hb dX2_next_167 rfl ?_
                  refine mg (v := .int (G_33 0 17)) X Y 17 (by decide) q1122 rfl rfl dX2_next_168 ?_
                  refine lv_iconst (v := (1 : Int32)) hx hb dX2_next_171 (by decide) ?_
                  refine lv_iadd hx hb dX2_next_172 ?_
                  obtain ⟨G_34, eG_34, hf⟩ := nm_s hf
                  refine mp X Y 17 (by decide) q1122 ⟨rfl, rfl⟩ rfl mz0_17 eG_34 dX2_next_173 (fun H locs Y => ?_)
                  refine lv_goto (tgt := 111) hx hb dX2_next_176 (by decide) ?_
                  exact ih _ hf _ _ Y _ (lv_sub hl [0] rfl)
                replace hf := hj
                clear hj
                refine lv_icmp_ge (tgt := 161) hx hb dX2_next_136 (by decide) (fun c_29 => ?_) (fun c_29 => ?_)
                · rw [if_pos c_29] at hf
                  refine lv_bipush (v := (100 : Int32)) hx hb dX2_next_161 (by decide) ?_
                  cases hf
                  exact J163_49 _ _ Y _ (lv_sub hl [0] rfl)
                · rw [if_neg c_29] at hf
                  refine lv_bipush (v := (10 : Int32)) hx hb dX2_next_139 (by decide) ?_
                  refine lv_aload_n hx hb dX2_next_141 rfl (lv_at hl 0 rfl) ?_
                  refine mg (v := .int (G_23 0 20)) X Y 20 (by decide) q1125 rfl rfl dX2_next_142 ?_
                  refine lv_imul hx hb dX2_next_145 ?_
                  refine lv_aload_n hx hb dX2_next_146 rfl (lv_at hl 0 rfl) ?_
                  refine lv_aload_n hx hb dX2_next_147 rfl (lv_at hl 0 rfl) ?_
                  refine mg (v := .int (G_23 0 17)) X Y 17 (by decide) q1122 rfl rfl dX2_next_148 ?_
                  obtain ⟨r_30, hq_31, hf⟩ := bd1_s hf
                  refine mcI (av := [.int (G_23 0 17)]) (rest := [.int ((10 : Int32) * (G_23 0 20)), .ref h]) 1 X Y (tX2_letterAt l N G_23 (G_23 0 17) r_30 hq_31) (lw_V q1244 q1246 qs33 q70 q1247) ydX2_letterAt ⟨rfl, rfl, by decide, by decide⟩ rfl hl.1 rfl (Nat.le_of_ble_eq_true rfl) ⟨Nat.zero_le _, Nat.zero_le _⟩ dX2_next_151 (fun H locs Y => ?_)
                  refine lv_iadd hx hb dX2_next_154 ?_
                  refine lv_bipush (v := (48 : Int32)) hx hb dX2_next_155 (by decide) ?_
                  refine lv_isub hx hb dX2_next_157 ?_
                  refine lv_goto (tgt := 163) hx hb dX2_next_158 (by decide) ?_
                  cases hf
                  exact J163_49 _ _ Y _ (lv_sub hl [0] rfl)
          exact L111_48 N _ hL _ _ Y _ (lv_sub hl [1] rfl)
      · rw [if_neg c_14] at hf
        refine lv_aload_n hx hb dX2_next_67 rfl (lv_at hl 1 rfl) ?_
        refine lv_iconst (v := (1 : Int32)) hx hb dX2_next_68 (by decide) ?_
        obtain ⟨G_36, eG_36, hf⟩ := nm_s hf
        refine mp X Y 19 (by decide) q1124 ⟨rfl, rfl⟩ rfl mz0_19 eG_36 dX2_next_69 (fun H locs Y => ?_)
        obtain ⟨G_44, hL, hf⟩ := bd1_s hf
        have E72_50 : ∀ (H : Heap) (locs : List Loc), WX D A s (mW h ad cA G_44) H locs → ∀ ls : Array Slot, lv_has ls 2 [] → W p l e (mR 2) s m args below meth c H locs 0 0 (MQ below (mQ D cA h ad A (none) G') args s 0 0 A) (F0 m 204 ls []) := by
          clear hL
          intro H locs Y ls hl
          cases hf
          exact m_vret X Y dX2_next_204
        clear hf
        have L72_50 : ∀ (n_ : Nat) (G_37 : GS), fX2_next_L72 N n_ G_37 = some G_44 → ∀ (H : Heap) (locs : List Loc), WX D A s (mW h ad cA G_37) H locs → ∀ ls : Array Slot, lv_has ls 2 [(0, .ref h)] → W p l e (mR 2) s m args below meth c H locs 0 0 (MQ below (mQ D cA h ad A (none) G') args s 0 0 A) (F0 m 72 ls []) := by
          clear hL
          intro n_
          induction n_ with
          | zero =>
            intro G_37 hf
            rw [fX2_next_L72.eq_1] at hf
            cases hf
          | succ n_ ih =>
            intro G_37 hf
            intro H locs Y ls hl
            rw [fX2_next_L72.eq_2] at hf
            refine lv_aload_n hx hb dX2_next_72 rfl (lv_at hl 0 rfl) ?_
            refine lv_aload_n hx hb dX2_next_73 rfl (lv_at hl 0 rfl) ?_
            refine mg (v := .int (G_37 0 17)) X Y 17 (by decide) q1122 rfl rfl dX2_next_74 ?_
            obtain ⟨r_38, hq_39, hf⟩ := bd1_s hf
            refine mcI (av := [.int (G_37 0 17)]) (rest := []) 1 X Y (tX2_letterAt l N G_37 (G_37 0 17) r_38 hq_39) (lw_V q1244 q1246 qs33 q70 q1247) ydX2_letterAt ⟨rfl, rfl, by decide, by decide⟩ rfl hl.1 rfl (Nat.le_of_ble_eq_true rfl) ⟨Nat.zero_le _, Nat.zero_le _⟩ dX2_next_77 (fun H locs Y => ?_)
            obtain ⟨r_40, hq_41, hf⟩ := bd1_s hf
            refine w_callSI (av := [.int r_38]) (rest := []) 1 X Y (tX2_isSmall l N r_38 r_40 hq_41) (lw_S q1248 q1249 q70 q1250) ydX2_isSmall ⟨rfl, rfl, by decide, by decide⟩ rfl hl.1 rfl (Nat.le_of_ble_eq_true rfl) ⟨Nat.zero_le _, Nat.zero_le _⟩ dX2_next_80 (fun H locs Y => ?_)
            refine lv_if_eq (tgt := 204) hx hb dX2_next_83 (by decide) (fun c_42 => ?_) (fun c_42 => ?_)
            · rw [if_pos c_42] at hf
              cases hf
              exact E72_50 _ _ Y _ (lv_sub hl [] rfl)
            · rw [if_neg c_42] at hf
              refine lv_aload_n hx hb dX2_next_86 rfl (lv_at hl 0 rfl) ?_
              refine lv_dup hx hb dX2_next_87 rfl ?_
              refine mg (v := .int (G_37 0 17)) X Y 17 (by decide) q1122 rfl rfl dX2_next_88 ?_
              refine lv_iconst (v := (1 : Int32)) hx hb dX2_next_91 (by decide) ?_
              refine lv_iadd hx hb dX2_next_92 ?_
              obtain ⟨G_43, eG_43, hf⟩ := nm_s hf
              refine mp X Y 17 (by decide) q1122 ⟨rfl, rfl⟩ rfl mz0_17 eG_43 dX2_next_93 (fun H locs Y => ?_)
              refine lv_goto (tgt := 72) hx hb dX2_next_96 (by decide) ?_
              exact ih _ hf _ _ Y _ (lv_sub hl [0] rfl)
        exact L72_50 N _ hL _ _ Y _ (lv_sub hl [1] rfl)
    · rw [if_neg c_11] at hf
      refine lv_aload_n hx hb dX2_next_52 rfl (lv_at hl 1 rfl) ?_
      refine lv_iconst (v := (0 : Int32)) hx hb dX2_next_53 (by decide) ?_
      obtain ⟨G_45, eG_45, hf⟩ := nm_s hf
      refine mp X Y 19 (by decide) q1124 ⟨rfl, rfl⟩ rfl mz0_19 eG_45 dX2_next_54 (fun H locs Y => ?_)
      refine lv_goto (tgt := 204) hx hb dX2_next_57 (by decide) ?_
      cases hf
      exact m_vret X Y dX2_next_204
  clear hf
  have L0_46 : ∀ (n_ : Nat) (G_1 : GS), fX2_next_L0 N n_ G_1 = some G_6 → ∀ (H : Heap) (locs : List Loc), WX D A s (mW h ad cA G_1) H locs → ∀ ls : Array Slot, lv_has ls 2 [(0, .ref h)] → W p l e (mR 2) s m args below meth c H locs 0 0 (MQ below (mQ D cA h ad A (none) G') args s 0 0 A) (F0 m 0 ls []) := by
    clear hL
    intro n_
    induction n_ with
    | zero =>
      intro G_1 hf
      rw [fX2_next_L0.eq_1] at hf
      cases hf
    | succ n_ ih =>
      intro G_1 hf
      intro H locs Y ls hl
      rw [fX2_next_L0.eq_2] at hf
      refine lv_aload_n hx hb dX2_next_0 rfl (lv_at hl 0 rfl) ?_
      refine lv_aload_n hx hb dX2_next_1 rfl (lv_at hl 0 rfl) ?_
      refine mg (v := .int (G_1 0 17)) X Y 17 (by decide) q1122 rfl rfl dX2_next_2 ?_
      obtain ⟨r_2, hq_3, hf⟩ := bd1_s hf
      refine mcI (av := [.int (G_1 0 17)]) (rest := []) 1 X Y (tX2_letterAt l N G_1 (G_1 0 17) r_2 hq_3) (lw_V q1244 q1246 qs33 q70 q1247) ydX2_letterAt ⟨rfl, rfl, by decide, by decide⟩ rfl hl.1 rfl (Nat.le_of_ble_eq_true rfl) ⟨Nat.zero_le _, Nat.zero_le _⟩ dX2_next_5 (fun H locs Y => ?_)
      refine lv_bipush (v := (32 : Int32)) hx hb dX2_next_8 (by decide) ?_
      refine lv_icmp_ne (tgt := 26) hx hb dX2_next_10 (by decide) (fun c_4 => ?_) (fun c_4 => ?_)
      · rw [if_neg c_4] at hf
        cases hf
        exact E0_46 _ _ Y _ (lv_sub hl [0] rfl)
      · rw [if_pos c_4] at hf
        refine lv_aload_n hx hb dX2_next_13 rfl (lv_at hl 0 rfl) ?_
        refine lv_dup hx hb dX2_next_14 rfl ?_
        refine mg (v := .int (G_1 0 17)) X Y 17 (by decide) q1122 rfl rfl dX2_next_15 ?_
        refine lv_iconst (v := (1 : Int32)) hx hb dX2_next_18 (by decide) ?_
        refine lv_iadd hx hb dX2_next_19 ?_
        obtain ⟨G_5, eG_5, hf⟩ := nm_s hf
        refine mp X Y 17 (by decide) q1122 ⟨rfl, rfl⟩ rfl mz0_17 eG_5 dX2_next_20 (fun H locs Y => ?_)
        refine lv_goto (tgt := 0) hx hb dX2_next_23 (by decide) ?_
        exact ih _ hf _ _ Y _ (lv_sub hl [0] rfl)
  exact L0_46 N _ hL _ _ Y _ (lv_sub hl [0] rfl)

def fX2_spells (N : Nat) (G : GS) (a1 : Int32) (a2 : Int32) (a3 : Int32) (a4 : Int32) (a5 : Int32) : Option Int32 :=
  if (G 0 19) = (1 : Int32) then (
   if ((G 0 17) - (G 0 18)) = a1 then (
    bd1 (fX2_letterAt N G ((G 0 18) + a2)) fun r_3 =>
    if r_3 = a3 then (
     bd1 (fX2_letterAt N G (((G 0 18) + a2) + (1 : Int32))) fun r_6 =>
     if r_6 = a4 then (
      bd1 (fX2_letterAt N G (((G 0 18) + a2) + (2 : Int32))) fun r_9 =>
      if r_9 = a5 then (
       some (1 : Int32)
      ) else (
       some (0 : Int32)
      )
     ) else (
      some (0 : Int32)
     )
    ) else (
     some (0 : Int32)
    )
   ) else (
    some (0 : Int32)
   )
  ) else (
   some (0 : Int32)
  )
theorem ydX2_spells : yX2_spells.cls = RX2 ∧ yX2_spells.cls ≠ "java/lang/invoke/MethodHandle" ∧ yX2_spells.cls ≠ "java/lang/invoke/VarHandle" ∧ (parseMethodDescriptor yX2_spells.desc).map (fun d => d.parameters.length) = some 5 := by decide +kernel
set_option maxHeartbeats 4000000 in
theorem tX2_spells (l : Launch) (N : Nat) (G : GS) (a1 : Int32) (a2 : Int32) (a3 : Int32) (a4 : Int32) (a5 : Int32) (r : Int32) (hf : fX2_spells N G a1 a2 a3 a4 a5 = some r) : mMet l yX2_spells cX2_spells 6 (some .boolean) (mR 1) [.int a1, .int a2, .int a3, .int a4, .int a5] G (some (.int r)) G := by
  unfold fX2_spells at hf
  refine mMet_of (by decide +kernel) rfl (Nat.le_of_ble_eq_true rfl) (fun {p e s m args below meth c ls D cA h ad A} X Y hl => ?_)
  have hx := X.1.1
  have hb := X.1.2.1
  have hl : lv_has ls 6 [(0, .ref h), (1, .int a1), (2, .int a2), (3, .int a3), (4, .int a4), (5, .int a5)] := hl
  refine lv_aload_n hx hb dX2_spells_0 rfl (lv_at hl 0 rfl) ?_
  refine mg (v := .int (G 0 19)) X Y 19 (by decide) q1124 rfl rfl dX2_spells_1 ?_
  refine lv_iconst (v := (1 : Int32)) hx hb dX2_spells_4 (by decide) ?_
  refine lv_icmp_ne (tgt := 73) hx hb dX2_spells_5 (by decide) (fun c_1 => ?_) (fun c_1 => ?_)
  · rw [if_neg c_1] at hf
    refine lv_iconst (v := (0 : Int32)) hx hb dX2_spells_73 (by decide) ?_
    cases hf
    exact m_zret X Y (by decide) dX2_spells_74
  · rw [if_pos c_1] at hf
    refine lv_aload_n hx hb dX2_spells_8 rfl (lv_at hl 0 rfl) ?_
    refine mg (v := .int (G 0 17)) X Y 17 (by decide) q1122 rfl rfl dX2_spells_9 ?_
    refine lv_aload_n hx hb dX2_spells_12 rfl (lv_at hl 0 rfl) ?_
    refine mg (v := .int (G 0 18)) X Y 18 (by decide) q1123 rfl rfl dX2_spells_13 ?_
    refine lv_isub hx hb dX2_spells_16 ?_
    refine lv_iload_n hx hb dX2_spells_17 rfl (lv_at hl 1 rfl) ?_
    refine lv_icmp_ne (tgt := 73) hx hb dX2_spells_18 (by decide) (fun c_2 => ?_) (fun c_2 => ?_)
    · rw [if_neg c_2] at hf
      refine lv_iconst (v := (0 : Int32)) hx hb dX2_spells_73 (by decide) ?_
      cases hf
      exact m_zret X Y (by decide) dX2_spells_74
    · rw [if_pos c_2] at hf
      refine lv_aload_n hx hb dX2_spells_21 rfl (lv_at hl 0 rfl) ?_
      refine lv_aload_n hx hb dX2_spells_22 rfl (lv_at hl 0 rfl) ?_
      refine mg (v := .int (G 0 18)) X Y 18 (by decide) q1123 rfl rfl dX2_spells_23 ?_
      refine lv_iload_n hx hb dX2_spells_26 rfl (lv_at hl 2 rfl) ?_
      refine lv_iadd hx hb dX2_spells_27 ?_
      obtain ⟨r_3, hq_4, hf⟩ := bd1_s hf
      refine mcI (av := [.int ((G 0 18) + a2)]) (rest := []) 1 X Y (tX2_letterAt l N G ((G 0 18) + a2) r_3 hq_4) (lw_V q1244 q1246 qs33 q70 q1247) ydX2_letterAt ⟨rfl, rfl, by decide, by decide⟩ rfl hl.1 rfl (Nat.le_of_ble_eq_true rfl) ⟨Nat.zero_le _, Nat.zero_le _⟩ dX2_spells_28 (fun H locs Y => ?_)
      refine lv_iload_n hx hb dX2_spells_31 rfl (lv_at hl 3 rfl) ?_
      refine lv_icmp_ne (tgt := 73) hx hb dX2_spells_32 (by decide) (fun c_5 => ?_) (fun c_5 => ?_)
      · rw [if_neg c_5] at hf
        refine lv_iconst (v := (0 : Int32)) hx hb dX2_spells_73 (by decide) ?_
        cases hf
        exact m_zret X Y (by decide) dX2_spells_74
      · rw [if_pos c_5] at hf
        refine lv_aload_n hx hb dX2_spells_35 rfl (lv_at hl 0 rfl) ?_
        refine lv_aload_n hx hb dX2_spells_36 rfl (lv_at hl 0 rfl) ?_
        refine mg (v := .int (G 0 18)) X Y 18 (by decide) q1123 rfl rfl dX2_spells_37 ?_
        refine lv_iload_n hx hb dX2_spells_40 rfl (lv_at hl 2 rfl) ?_
        refine lv_iadd hx hb dX2_spells_41 ?_
        refine lv_iconst (v := (1 : Int32)) hx hb dX2_spells_42 (by decide) ?_
        refine lv_iadd hx hb dX2_spells_43 ?_
        obtain ⟨r_6, hq_7, hf⟩ := bd1_s hf
        refine mcI (av := [.int (((G 0 18) + a2) + (1 : Int32))]) (rest := []) 1 X Y (tX2_letterAt l N G (((G 0 18) + a2) + (1 : Int32)) r_6 hq_7) (lw_V q1244 q1246 qs33 q70 q1247) ydX2_letterAt ⟨rfl, rfl, by decide, by decide⟩ rfl hl.1 rfl (Nat.le_of_ble_eq_true rfl) ⟨Nat.zero_le _, Nat.zero_le _⟩ dX2_spells_44 (fun H locs Y => ?_)
        refine lv_iload hx hb dX2_spells_47 (lv_at hl 4 rfl) ?_
        refine lv_icmp_ne (tgt := 73) hx hb dX2_spells_49 (by decide) (fun c_8 => ?_) (fun c_8 => ?_)
        · rw [if_neg c_8] at hf
          refine lv_iconst (v := (0 : Int32)) hx hb dX2_spells_73 (by decide) ?_
          cases hf
          exact m_zret X Y (by decide) dX2_spells_74
        · rw [if_pos c_8] at hf
          refine lv_aload_n hx hb dX2_spells_52 rfl (lv_at hl 0 rfl) ?_
          refine lv_aload_n hx hb dX2_spells_53 rfl (lv_at hl 0 rfl) ?_
          refine mg (v := .int (G 0 18)) X Y 18 (by decide) q1123 rfl rfl dX2_spells_54 ?_
          refine lv_iload_n hx hb dX2_spells_57 rfl (lv_at hl 2 rfl) ?_
          refine lv_iadd hx hb dX2_spells_58 ?_
          refine lv_iconst (v := (2 : Int32)) hx hb dX2_spells_59 (by decide) ?_
          refine lv_iadd hx hb dX2_spells_60 ?_
          obtain ⟨r_9, hq_10, hf⟩ := bd1_s hf
          refine mcI (av := [.int (((G 0 18) + a2) + (2 : Int32))]) (rest := []) 1 X Y (tX2_letterAt l N G (((G 0 18) + a2) + (2 : Int32)) r_9 hq_10) (lw_V q1244 q1246 qs33 q70 q1247) ydX2_letterAt ⟨rfl, rfl, by decide, by decide⟩ rfl hl.1 rfl (Nat.le_of_ble_eq_true rfl) ⟨Nat.zero_le _, Nat.zero_le _⟩ dX2_spells_61 (fun H locs Y => ?_)
          refine lv_iload hx hb dX2_spells_64 (lv_at hl 5 rfl) ?_
          refine lv_icmp_ne (tgt := 73) hx hb dX2_spells_66 (by decide) (fun c_11 => ?_) (fun c_11 => ?_)
          · rw [if_neg c_11] at hf
            refine lv_iconst (v := (0 : Int32)) hx hb dX2_spells_73 (by decide) ?_
            cases hf
            exact m_zret X Y (by decide) dX2_spells_74
          · rw [if_pos c_11] at hf
            refine lv_iconst (v := (1 : Int32)) hx hb dX2_spells_69 (by decide) ?_
            refine lv_goto (tgt := 74) hx hb dX2_spells_70 (by decide) ?_
            cases hf
            exact m_zret X Y (by decide) dX2_spells_74

def fX2_otherWord (N : Nat) (G : GS) : Option Int32 :=
  bd1 (fX2_spells N G (7 : Int32) (0 : Int32) (101 : Int32) (110 : Int32) (101 : Int32)) fun r_1 =>
  if r_1 = (0 : Int32) then (
   bd1 (fX2_spells N G (5 : Int32) (0 : Int32) (112 : Int32) (101 : Int32) (114 : Int32)) fun r_4 =>
   bdR1 (
    if r_4 = (0 : Int32) then (
     bd1 (fX2_spells N G (5 : Int32) (0 : Int32) (109 : Int32) (101 : Int32) (97 : Int32)) fun r_7 =>
     bdR0 (
      if r_7 = (0 : Int32) then (
       some (.inr ())
      ) else (
       bd1 (fX2_spells N G (5 : Int32) (2 : Int32) (97 : Int32) (110 : Int32) (116 : Int32)) fun r_10 =>
       if r_10 = (0 : Int32) then (
        some (.inr ())
       ) else (
        some (.inl (12 : Int32))
       )
      )
     ) (fun a_ => some (.inl a_)) <|
     bd1 (fX2_spells N G (5 : Int32) (0 : Int32) (112 : Int32) (101 : Int32) (97 : Int32)) fun r_13 =>
     some (.inr r_13)
    ) else (
     bd1 (fX2_spells N G (5 : Int32) (2 : Int32) (114 : Int32) (105 : Int32) (108 : Int32)) fun r_15 =>
     if r_15 = (0 : Int32) then (
      bd1 (fX2_spells N G (5 : Int32) (0 : Int32) (109 : Int32) (101 : Int32) (97 : Int32)) fun r_18 =>
      bdR0 (
       if r_18 = (0 : Int32) then (
        some (.inr ())
       ) else (
        bd1 (fX2_spells N G (5 : Int32) (2 : Int32) (97 : Int32) (110 : Int32) (116 : Int32)) fun r_21 =>
        if r_21 = (0 : Int32) then (
         some (.inr ())
        ) else (
         some (.inl (12 : Int32))
        )
       )
      ) (fun a_ => some (.inl a_)) <|
      bd1 (fX2_spells N G (5 : Int32) (0 : Int32) (112 : Int32) (101 : Int32) (97 : Int32)) fun r_24 =>
      some (.inr r_24)
     ) else (
      some (.inl (11 : Int32))
     )
    )
   ) (fun a_ => some a_) fun j_26 =>
   if j_26 = (0 : Int32) then (
    some (0 : Int32)
   ) else (
    bd1 (fX2_spells N G (5 : Int32) (2 : Int32) (97 : Int32) (99 : Int32) (101 : Int32)) fun r_28 =>
    if r_28 = (0 : Int32) then (
     some (0 : Int32)
    ) else (
     some (13 : Int32)
    )
   )
  ) else (
   bd1 (fX2_spells N G (7 : Int32) (3 : Int32) (109 : Int32) (105 : Int32) (101 : Int32)) fun r_31 =>
   bdR1 (
    if r_31 = (0 : Int32) then (
     bd1 (fX2_spells N G (5 : Int32) (0 : Int32) (112 : Int32) (101 : Int32) (114 : Int32)) fun r_34 =>
     bdR0 (
      if r_34 = (0 : Int32) then (
       some (.inr ())
      ) else (
       bd1 (fX2_spells N G (5 : Int32) (2 : Int32) (114 : Int32) (105 : Int32) (108 : Int32)) fun r_37 =>
       if r_37 = (0 : Int32) then (
        some (.inr ())
       ) else (
        some (.inl (11 : Int32))
       )
      )
     ) (fun a_ => some (.inl a_)) <|
     bd1 (fX2_spells N G (5 : Int32) (0 : Int32) (109 : Int32) (101 : Int32) (97 : Int32)) fun r_40 =>
     bdR0 (
      if r_40 = (0 : Int32) then (
       some (.inr ())
      ) else (
       bd1 (fX2_spells N G (5 : Int32) (2 : Int32) (97 : Int32) (110 : Int32) (116 : Int32)) fun r_43 =>
       if r_43 = (0 : Int32) then (
        some (.inr ())
       ) else (
        some (.inl (12 : Int32))
       )
      )
     ) (fun a_ => some (.inl a_)) <|
     bd1 (fX2_spells N G (5 : Int32) (0 : Int32) (112 : Int32) (101 : Int32) (97 : Int32)) fun r_46 =>
     some (.inr r_46)
    ) else (
     bd1 (fX2_spells N G (7 : Int32) (4 : Int32) (105 : Int32) (101 : Int32) (115 : Int32)) fun r_48 =>
     if r_48 = (0 : Int32) then (
      bd1 (fX2_spells N G (5 : Int32) (0 : Int32) (112 : Int32) (101 : Int32) (114 : Int32)) fun r_51 =>
      bdR0 (
       if r_51 = (0 : Int32) then (
        some (.inr ())
       ) else (
        bd1 (fX2_spells N G (5 : Int32) (2 : Int32) (114 : Int32) (105 : Int32) (108 : Int32)) fun r_54 =>
        if r_54 = (0 : Int32) then (
         some (.inr ())
        ) else (
         some (.inl (11 : Int32))
        )
       )
      ) (fun a_ => some (.inl a_)) <|
      bd1 (fX2_spells N G (5 : Int32) (0 : Int32) (109 : Int32) (101 : Int32) (97 : Int32)) fun r_57 =>
      bdR0 (
       if r_57 = (0 : Int32) then (
        some (.inr ())
       ) else (
        bd1 (fX2_spells N G (5 : Int32) (2 : Int32) (97 : Int32) (110 : Int32) (116 : Int32)) fun r_60 =>
        if r_60 = (0 : Int32) then (
         some (.inr ())
        ) else (
         some (.inl (12 : Int32))
        )
       )
      ) (fun a_ => some (.inl a_)) <|
      bd1 (fX2_spells N G (5 : Int32) (0 : Int32) (112 : Int32) (101 : Int32) (97 : Int32)) fun r_63 =>
      some (.inr r_63)
     ) else (
      some (.inl (10 : Int32))
     )
    )
   ) (fun a_ => some a_) fun j_65 =>
   if j_65 = (0 : Int32) then (
    some (0 : Int32)
   ) else (
    bd1 (fX2_spells N G (5 : Int32) (2 : Int32) (97 : Int32) (99 : Int32) (101 : Int32)) fun r_67 =>
    if r_67 = (0 : Int32) then (
     some (0 : Int32)
    ) else (
     some (13 : Int32)
    )
   )
  )
theorem ydX2_otherWord : yX2_otherWord.cls = RX2 ∧ yX2_otherWord.cls ≠ "java/lang/invoke/MethodHandle" ∧ yX2_otherWord.cls ≠ "java/lang/invoke/VarHandle" ∧ (parseMethodDescriptor yX2_otherWord.desc).map (fun d => d.parameters.length) = some 0 := by decide +kernel
set_option maxHeartbeats 4000000 in
theorem tX2_otherWord (l : Launch) (N : Nat) (G : GS) (r : Int32) (hf : fX2_otherWord N G = some r) : mMet l yX2_otherWord cX2_otherWord 1 (some .int) (mR 2) [] G (some (.int r)) G := by
  unfold fX2_otherWord at hf
  refine mMet_of (by decide +kernel) rfl (Nat.le_of_ble_eq_true rfl) (fun {p e s m args below meth c ls D cA h ad A} X Y hl => ?_)
  have hx := X.1.1
  have hb := X.1.2.1
  have hl : lv_has ls 1 [(0, .ref h)] := hl
  refine lv_aload_n hx hb dX2_otherWord_0 rfl (lv_at hl 0 rfl) ?_
  refine lv_bipush (v := (7 : Int32)) hx hb dX2_otherWord_1 (by decide) ?_
  refine lv_iconst (v := (0 : Int32)) hx hb dX2_otherWord_3 (by decide) ?_
  refine lv_bipush (v := (101 : Int32)) hx hb dX2_otherWord_4 (by decide) ?_
  refine lv_bipush (v := (110 : Int32)) hx hb dX2_otherWord_6 (by decide) ?_
  refine lv_bipush (v := (101 : Int32)) hx hb dX2_otherWord_8 (by decide) ?_
  obtain ⟨r_1, hq_2, hf⟩ := bd1_s hf
  refine mcI (av := [.int (7 : Int32), .int (0 : Int32), .int (101 : Int32), .int (110 : Int32), .int (101 : Int32)]) (rest := []) 5 X Y (tX2_spells l N G (7 : Int32) (0 : Int32) (101 : Int32) (110 : Int32) (101 : Int32) r_1 hq_2) (lw_V q1262 q1264 qs36 q70 q1265) ydX2_spells ⟨rfl, rfl, by decide, by decide⟩ rfl hl.1 rfl (Nat.le_of_ble_eq_true rfl) ⟨Nat.zero_le _, Nat.zero_le _⟩ dX2_otherWord_10 (fun H locs Y => ?_)
  refine lv_if_eq (tgt := 51) hx hb dX2_otherWord_13 (by decide) (fun c_3 => ?_) (fun c_3 => ?_)
  · rw [if_pos c_3] at hf
    refine lv_aload_n hx hb dX2_otherWord_51 rfl (lv_at hl 0 rfl) ?_
    refine lv_iconst (v := (5 : Int32)) hx hb dX2_otherWord_52 (by decide) ?_
    refine lv_iconst (v := (0 : Int32)) hx hb dX2_otherWord_53 (by decide) ?_
    refine lv_bipush (v := (112 : Int32)) hx hb dX2_otherWord_54 (by decide) ?_
    refine lv_bipush (v := (101 : Int32)) hx hb dX2_otherWord_56 (by decide) ?_
    refine lv_bipush (v := (114 : Int32)) hx hb dX2_otherWord_58 (by decide) ?_
    obtain ⟨r_4, hq_5, hf⟩ := bd1_s hf
    refine mcI (av := [.int (5 : Int32), .int (0 : Int32), .int (112 : Int32), .int (101 : Int32), .int (114 : Int32)]) (rest := []) 5 X Y (tX2_spells l N G (5 : Int32) (0 : Int32) (112 : Int32) (101 : Int32) (114 : Int32) r_4 hq_5) (lw_V q1262 q1264 qs36 q70 q1265) ydX2_spells ⟨rfl, rfl, by decide, by decide⟩ rfl hl.1 rfl (Nat.le_of_ble_eq_true rfl) ⟨Nat.zero_le _, Nat.zero_le _⟩ dX2_otherWord_60 (fun H locs Y => ?_)
    obtain ⟨z_70, hj, hzl_70, hzr_70⟩ := bdR1_s hf
    have J129_70 : ∀ (j_26 : Int32), z_70 = .inr j_26 → ∀ (H : Heap) (locs : List Loc), WX D A s (mW h ad cA G) H locs → ∀ ls : Array Slot, lv_has ls 1 [(0, .ref h)] → W p l e (mR 2) s m args below meth c H locs 0 0 (MQ below (mQ D cA h ad A (some (.int r)) G) args s 0 0 A) (F0 m 129 ls [.int j_26]) := by
      clear hj
      intro j_26 hz
      have hf := hzr_70 _ hz
      intro H locs Y ls hl
      refine lv_if_eq (tgt := 152) hx hb dX2_otherWord_129 (by decide) (fun c_27 => ?_) (fun c_27 => ?_)
      · rw [if_pos c_27] at hf
        refine lv_iconst (v := (0 : Int32)) hx hb dX2_otherWord_152 (by decide) ?_
        cases hf
        exact m_iret X Y dX2_otherWord_153
      · rw [if_neg c_27] at hf
        refine lv_aload_n hx hb dX2_otherWord_132 rfl (lv_at hl 0 rfl) ?_
        refine lv_iconst (v := (5 : Int32)) hx hb dX2_otherWord_133 (by decide) ?_
        refine lv_iconst (v := (2 : Int32)) hx hb dX2_otherWord_134 (by decide) ?_
        refine lv_bipush (v := (97 : Int32)) hx hb dX2_otherWord_135 (by decide) ?_
        refine lv_bipush (v := (99 : Int32)) hx hb dX2_otherWord_137 (by decide) ?_
        refine lv_bipush (v := (101 : Int32)) hx hb dX2_otherWord_139 (by decide) ?_
        obtain ⟨r_28, hq_29, hf⟩ := bd1_s hf
        refine mcI (av := [.int (5 : Int32), .int (2 : Int32), .int (97 : Int32), .int (99 : Int32), .int (101 : Int32)]) (rest := []) 5 X Y (tX2_spells l N G (5 : Int32) (2 : Int32) (97 : Int32) (99 : Int32) (101 : Int32) r_28 hq_29) (lw_V q1262 q1264 qs36 q70 q1265) ydX2_spells ⟨rfl, rfl, by decide, by decide⟩ rfl hl.1 rfl (Nat.le_of_ble_eq_true rfl) ⟨Nat.zero_le _, Nat.zero_le _⟩ dX2_otherWord_141 (fun H locs Y => ?_)
        refine lv_if_eq (tgt := 152) hx hb dX2_otherWord_144 (by decide) (fun c_30 => ?_) (fun c_30 => ?_)
        · rw [if_pos c_30] at hf
          refine lv_iconst (v := (0 : Int32)) hx hb dX2_otherWord_152 (by decide) ?_
          cases hf
          exact m_iret X Y dX2_otherWord_153
        · rw [if_neg c_30] at hf
          refine lv_bipush (v := (13 : Int32)) hx hb dX2_otherWord_147 (by decide) ?_
          refine lv_goto (tgt := 153) hx hb dX2_otherWord_149 (by decide) ?_
          cases hf
          exact m_iret X Y dX2_otherWord_153
    replace hf := hj
    clear hj
    refine lv_if_eq (tgt := 84) hx hb dX2_otherWord_63 (by decide) (fun c_6 => ?_) (fun c_6 => ?_)
    · rw [if_pos c_6] at hf
      refine lv_aload_n hx hb dX2_otherWord_84 rfl (lv_at hl 0 rfl) ?_
      refine lv_iconst (v := (5 : Int32)) hx hb dX2_otherWord_85 (by decide) ?_
      refine lv_iconst (v := (0 : Int32)) hx hb dX2_otherWord_86 (by decide) ?_
      refine lv_bipush (v := (109 : Int32)) hx hb dX2_otherWord_87 (by decide) ?_
      refine lv_bipush (v := (101 : Int32)) hx hb dX2_otherWord_89 (by decide) ?_
      refine lv_bipush (v := (97 : Int32)) hx hb dX2_otherWord_91 (by decide) ?_
      obtain ⟨r_7, hq_8, hf⟩ := bd1_s hf
      refine mcI (av := [.int (5 : Int32), .int (0 : Int32), .int (109 : Int32), .int (101 : Int32), .int (97 : Int32)]) (rest := []) 5 X Y (tX2_spells l N G (5 : Int32) (0 : Int32) (109 : Int32) (101 : Int32) (97 : Int32) r_7 hq_8) (lw_V q1262 q1264 qs36 q70 q1265) ydX2_spells ⟨rfl, rfl, by decide, by decide⟩ rfl hl.1 rfl (Nat.le_of_ble_eq_true rfl) ⟨Nat.zero_le _, Nat.zero_le _⟩ dX2_otherWord_93 (fun H locs Y => ?_)
      obtain ⟨z_71, hj, hzl_71, hzr_71⟩ := bdR0_s hf
      have J117_71 : z_71 = .inr () → ∀ (H : Heap) (locs : List Loc), WX D A s (mW h ad cA G) H locs → ∀ ls : Array Slot, lv_has ls 1 [(0, .ref h)] → W p l e (mR 2) s m args below meth c H locs 0 0 (MQ below (mQ D cA h ad A (some (.int r)) G) args s 0 0 A) (F0 m 117 ls []) := by
        clear hj
        intro hz
        have hf := hzr_71 hz
        intro H locs Y ls hl
        refine lv_aload_n hx hb dX2_otherWord_117 rfl (lv_at hl 0 rfl) ?_
        refine lv_iconst (v := (5 : Int32)) hx hb dX2_otherWord_118 (by decide) ?_
        refine lv_iconst (v := (0 : Int32)) hx hb dX2_otherWord_119 (by decide) ?_
        refine lv_bipush (v := (112 : Int32)) hx hb dX2_otherWord_120 (by decide) ?_
        refine lv_bipush (v := (101 : Int32)) hx hb dX2_otherWord_122 (by decide) ?_
        refine lv_bipush (v := (97 : Int32)) hx hb dX2_otherWord_124 (by decide) ?_
        obtain ⟨r_13, hq_14, hf⟩ := bd1_s hf
        refine mcI (av := [.int (5 : Int32), .int (0 : Int32), .int (112 : Int32), .int (101 : Int32), .int (97 : Int32)]) (rest := []) 5 X Y (tX2_spells l N G (5 : Int32) (0 : Int32) (112 : Int32) (101 : Int32) (97 : Int32) r_13 hq_14) (lw_V q1262 q1264 qs36 q70 q1265) ydX2_spells ⟨rfl, rfl, by decide, by decide⟩ rfl hl.1 rfl (Nat.le_of_ble_eq_true rfl) ⟨Nat.zero_le _, Nat.zero_le _⟩ dX2_otherWord_126 (fun H locs Y => ?_)
        cases hf
        exact J129_70 _ rfl _ _ Y _ (lv_sub hl [0] rfl)
      replace hf := hj
      clear hj
      refine lv_if_eq (tgt := 117) hx hb dX2_otherWord_96 (by decide) (fun c_9 => ?_) (fun c_9 => ?_)
      · rw [if_pos c_9] at hf
        cases hf
        exact J117_71 rfl _ _ Y _ (lv_sub hl [0] rfl)
      · rw [if_neg c_9] at hf
        refine lv_aload_n hx hb dX2_otherWord_99 rfl (lv_at hl 0 rfl) ?_
        refine lv_iconst (v := (5 : Int32)) hx hb dX2_otherWord_100 (by decide) ?_
        refine lv_iconst (v := (2 : Int32)) hx hb dX2_otherWord_101 (by decide) ?_
        refine lv_bipush (v := (97 : Int32)) hx hb dX2_otherWord_102 (by decide) ?_
        refine lv_bipush (v := (110 : Int32)) hx hb dX2_otherWord_104 (by decide) ?_
        refine lv_bipush (v := (116 : Int32)) hx hb dX2_otherWord_106 (by decide) ?_
        obtain ⟨r_10, hq_11, hf⟩ := bd1_s hf
        refine mcI (av := [.int (5 : Int32), .int (2 : Int32), .int (97 : Int32), .int (110 : Int32), .int (116 : Int32)]) (rest := []) 5 X Y (tX2_spells l N G (5 : Int32) (2 : Int32) (97 : Int32) (110 : Int32) (116 : Int32) r_10 hq_11) (lw_V q1262 q1264 qs36 q70 q1265) ydX2_spells ⟨rfl, rfl, by decide, by decide⟩ rfl hl.1 rfl (Nat.le_of_ble_eq_true rfl) ⟨Nat.zero_le _, Nat.zero_le _⟩ dX2_otherWord_108 (fun H locs Y => ?_)
        refine lv_if_eq (tgt := 117) hx hb dX2_otherWord_111 (by decide) (fun c_12 => ?_) (fun c_12 => ?_)
        · rw [if_pos c_12] at hf
          cases hf
          exact J117_71 rfl _ _ Y _ (lv_sub hl [0] rfl)
        · rw [if_neg c_12] at hf
          refine lv_bipush (v := (12 : Int32)) hx hb dX2_otherWord_114 (by decide) ?_
          cases hf
          have hf := hzl_71 _ rfl
          cases hf
          have hf := hzl_70 _ rfl
          cases hf
          exact m_iret X Y dX2_otherWord_116
    · rw [if_neg c_6] at hf
      refine lv_aload_n hx hb dX2_otherWord_66 rfl (lv_at hl 0 rfl) ?_
      refine lv_iconst (v := (5 : Int32)) hx hb dX2_otherWord_67 (by decide) ?_
      refine lv_iconst (v := (2 : Int32)) hx hb dX2_otherWord_68 (by decide) ?_
      refine lv_bipush (v := (114 : Int32)) hx hb dX2_otherWord_69 (by decide) ?_
      refine lv_bipush (v := (105 : Int32)) hx hb dX2_otherWord_71 (by decide) ?_
      refine lv_bipush (v := (108 : Int32)) hx hb dX2_otherWord_73 (by decide) ?_
      obtain ⟨r_15, hq_16, hf⟩ := bd1_s hf
      refine mcI (av := [.int (5 : Int32), .int (2 : Int32), .int (114 : Int32), .int (105 : Int32), .int (108 : Int32)]) (rest := []) 5 X Y (tX2_spells l N G (5 : Int32) (2 : Int32) (114 : Int32) (105 : Int32) (108 : Int32) r_15 hq_16) (lw_V q1262 q1264 qs36 q70 q1265) ydX2_spells ⟨rfl, rfl, by decide, by decide⟩ rfl hl.1 rfl (Nat.le_of_ble_eq_true rfl) ⟨Nat.zero_le _, Nat.zero_le _⟩ dX2_otherWord_75 (fun H locs Y => ?_)
      refine lv_if_eq (tgt := 84) hx hb dX2_otherWord_78 (by decide) (fun c_17 => ?_) (fun c_17 => ?_)
      · rw [if_pos c_17] at hf
        refine lv_aload_n hx hb dX2_otherWord_84 rfl (lv_at hl 0 rfl) ?_
        refine lv_iconst (v := (5 : Int32)) hx hb dX2_otherWord_85 (by decide) ?_
        refine lv_iconst (v := (0 : Int32)) hx hb dX2_otherWord_86 (by decide) ?_
        refine lv_bipush (v := (109 : Int32)) hx hb dX2_otherWord_87 (by decide) ?_
        refine lv_bipush (v := (101 : Int32)) hx hb dX2_otherWord_89 (by decide) ?_
        refine lv_bipush (v := (97 : Int32)) hx hb dX2_otherWord_91 (by decide) ?_
        obtain ⟨r_18, hq_19, hf⟩ := bd1_s hf
        refine mcI (av := [.int (5 : Int32), .int (0 : Int32), .int (109 : Int32), .int (101 : Int32), .int (97 : Int32)]) (rest := []) 5 X Y (tX2_spells l N G (5 : Int32) (0 : Int32) (109 : Int32) (101 : Int32) (97 : Int32) r_18 hq_19) (lw_V q1262 q1264 qs36 q70 q1265) ydX2_spells ⟨rfl, rfl, by decide, by decide⟩ rfl hl.1 rfl (Nat.le_of_ble_eq_true rfl) ⟨Nat.zero_le _, Nat.zero_le _⟩ dX2_otherWord_93 (fun H locs Y => ?_)
        obtain ⟨z_72, hj, hzl_72, hzr_72⟩ := bdR0_s hf
        have J117_72 : z_72 = .inr () → ∀ (H : Heap) (locs : List Loc), WX D A s (mW h ad cA G) H locs → ∀ ls : Array Slot, lv_has ls 1 [(0, .ref h)] → W p l e (mR 2) s m args below meth c H locs 0 0 (MQ below (mQ D cA h ad A (some (.int r)) G) args s 0 0 A) (F0 m 117 ls []) := by
          clear hj
          intro hz
          have hf := hzr_72 hz
          intro H locs Y ls hl
          refine lv_aload_n hx hb dX2_otherWord_117 rfl (lv_at hl 0 rfl) ?_
          refine lv_iconst (v := (5 : Int32)) hx hb dX2_otherWord_118 (by decide) ?_
          refine lv_iconst (v := (0 : Int32)) hx hb dX2_otherWord_119 (by decide) ?_
          refine lv_bipush (v := (112 : Int32)) hx hb dX2_otherWord_120 (by decide) ?_
          refine lv_bipush (v := (101 : Int32)) hx hb dX2_otherWord_122 (by decide) ?_
          refine lv_bipush (v := (97 : Int32)) hx hb dX2_otherWord_124 (by decide) ?_
          obtain ⟨r_24, hq_25, hf⟩ := bd1_s hf
          refine mcI (av := [.int (5 : Int32), .int (0 : Int32), .int (112 : Int32), .int (101 : Int32), .int (97 : Int32)]) (rest := []) 5 X Y (tX2_spells l N G (5 : Int32) (0 : Int32) (112 : Int32) (101 : Int32) (97 : Int32) r_24 hq_25) (lw_V q1262 q1264 qs36 q70 q1265) ydX2_spells ⟨rfl, rfl, by decide, by decide⟩ rfl hl.1 rfl (Nat.le_of_ble_eq_true rfl) ⟨Nat.zero_le _, Nat.zero_le _⟩ dX2_otherWord_126 (fun H locs Y => ?_)
          cases hf
          exact J129_70 _ rfl _ _ Y _ (lv_sub hl [0] rfl)
        replace hf := hj
        clear hj
        refine lv_if_eq (tgt := 117) hx hb dX2_otherWord_96 (by decide) (fun c_20 => ?_) (fun c_20 => ?_)
        · rw [if_pos c_20] at hf
          cases hf
          exact J117_72 rfl _ _ Y _ (lv_sub hl [0] rfl)
        · rw [if_neg c_20] at hf
          refine lv_aload_n hx hb dX2_otherWord_99 rfl (lv_at hl 0 rfl) ?_
          refine lv_iconst (v := (5 : Int32)) hx hb dX2_otherWord_100 (by decide) ?_
          refine lv_iconst (v := (2 : Int32)) hx hb dX2_otherWord_101 (by decide) ?_
          refine lv_bipush (v := (97 : Int32)) hx hb dX2_otherWord_102 (by decide) ?_
          refine lv_bipush (v := (110 : Int32)) hx hb dX2_otherWord_104 (by decide) ?_
          refine lv_bipush (v := (116 : Int32)) hx hb dX2_otherWord_106 (by decide) ?_
          obtain ⟨r_21, hq_22, hf⟩ := bd1_s hf
          refine mcI (av := [.int (5 : Int32), .int (2 : Int32), .int (97 : Int32), .int (110 : Int32), .int (116 : Int32)]) (rest := []) 5 X Y (tX2_spells l N G (5 : Int32) (2 : Int32) (97 : Int32) (110 : Int32) (116 : Int32) r_21 hq_22) (lw_V q1262 q1264 qs36 q70 q1265) ydX2_spells ⟨rfl, rfl, by decide, by decide⟩ rfl hl.1 rfl (Nat.le_of_ble_eq_true rfl) ⟨Nat.zero_le _, Nat.zero_le _⟩ dX2_otherWord_108 (fun H locs Y => ?_)
          refine lv_if_eq (tgt := 117) hx hb dX2_otherWord_111 (by decide) (fun c_23 => ?_) (fun c_23 => ?_)
          · rw [if_pos c_23] at hf
            cases hf
            exact J117_72 rfl _ _ Y _ (lv_sub hl [0] rfl)
          · rw [if_neg c_23] at hf
            refine lv_bipush (v := (12 : Int32)) hx hb dX2_otherWord_114 (by decide) ?_
            cases hf
            have hf := hzl_72 _ rfl
            cases hf
            have hf := hzl_70 _ rfl
            cases hf
            exact m_iret X Y dX2_otherWord_116
      · rw [if_neg c_17] at hf
        refine lv_bipush (v := (11 : Int32)) hx hb dX2_otherWord_81 (by decide) ?_
        cases hf
        have hf := hzl_70 _ rfl
        cases hf
        exact m_iret X Y dX2_otherWord_83
  · rw [if_neg c_3] at hf
    refine lv_aload_n hx hb dX2_otherWord_16 rfl (lv_at hl 0 rfl) ?_
    refine lv_bipush (v := (7 : Int32)) hx hb dX2_otherWord_17 (by decide) ?_
    refine lv_iconst (v := (3 : Int32)) hx hb dX2_otherWord_19 (by decide) ?_
    refine lv_bipush (v := (109 : Int32)) hx hb dX2_otherWord_20 (by decide) ?_
    refine lv_bipush (v := (105 : Int32)) hx hb dX2_otherWord_22 (by decide) ?_
    refine lv_bipush (v := (101 : Int32)) hx hb dX2_otherWord_24 (by decide) ?_
    obtain ⟨r_31, hq_32, hf⟩ := bd1_s hf
    refine mcI (av := [.int (7 : Int32), .int (3 : Int32), .int (109 : Int32), .int (105 : Int32), .int (101 : Int32)]) (rest := []) 5 X Y (tX2_spells l N G (7 : Int32) (3 : Int32) (109 : Int32) (105 : Int32) (101 : Int32) r_31 hq_32) (lw_V q1262 q1264 qs36 q70 q1265) ydX2_spells ⟨rfl, rfl, by decide, by decide⟩ rfl hl.1 rfl (Nat.le_of_ble_eq_true rfl) ⟨Nat.zero_le _, Nat.zero_le _⟩ dX2_otherWord_26 (fun H locs Y => ?_)
    obtain ⟨z_73, hj, hzl_73, hzr_73⟩ := bdR1_s hf
    have J129_73 : ∀ (j_65 : Int32), z_73 = .inr j_65 → ∀ (H : Heap) (locs : List Loc), WX D A s (mW h ad cA G) H locs → ∀ ls : Array Slot, lv_has ls 1 [(0, .ref h)] → W p l e (mR 2) s m args below meth c H locs 0 0 (MQ below (mQ D cA h ad A (some (.int r)) G) args s 0 0 A) (F0 m 129 ls [.int j_65]) := by
      clear hj
      intro j_65 hz
      have hf := hzr_73 _ hz
      intro H locs Y ls hl
      refine lv_if_eq (tgt := 152) hx hb dX2_otherWord_129 (by decide) (fun c_66 => ?_) (fun c_66 => ?_)
      · rw [if_pos c_66] at hf
        refine lv_iconst (v := (0 : Int32)) hx hb dX2_otherWord_152 (by decide) ?_
        cases hf
        exact m_iret X Y dX2_otherWord_153
      · rw [if_neg c_66] at hf
        refine lv_aload_n hx hb dX2_otherWord_132 rfl (lv_at hl 0 rfl) ?_
        refine lv_iconst (v := (5 : Int32)) hx hb dX2_otherWord_133 (by decide) ?_
        refine lv_iconst (v := (2 : Int32)) hx hb dX2_otherWord_134 (by decide) ?_
        refine lv_bipush (v := (97 : Int32)) hx hb dX2_otherWord_135 (by decide) ?_
        refine lv_bipush (v := (99 : Int32)) hx hb dX2_otherWord_137 (by decide) ?_
        refine lv_bipush (v := (101 : Int32)) hx hb dX2_otherWord_139 (by decide) ?_
        obtain ⟨r_67, hq_68, hf⟩ := bd1_s hf
        refine mcI (av := [.int (5 : Int32), .int (2 : Int32), .int (97 : Int32), .int (99 : Int32), .int (101 : Int32)]) (rest := []) 5 X Y (tX2_spells l N G (5 : Int32) (2 : Int32) (97 : Int32) (99 : Int32) (101 : Int32) r_67 hq_68) (lw_V q1262 q1264 qs36 q70 q1265) ydX2_spells ⟨rfl, rfl, by decide, by decide⟩ rfl hl.1 rfl (Nat.le_of_ble_eq_true rfl) ⟨Nat.zero_le _, Nat.zero_le _⟩ dX2_otherWord_141 (fun H locs Y => ?_)
        refine lv_if_eq (tgt := 152) hx hb dX2_otherWord_144 (by decide) (fun c_69 => ?_) (fun c_69 => ?_)
        · rw [if_pos c_69] at hf
          refine lv_iconst (v := (0 : Int32)) hx hb dX2_otherWord_152 (by decide) ?_
          cases hf
          exact m_iret X Y dX2_otherWord_153
        · rw [if_neg c_69] at hf
          refine lv_bipush (v := (13 : Int32)) hx hb dX2_otherWord_147 (by decide) ?_
          refine lv_goto (tgt := 153) hx hb dX2_otherWord_149 (by decide) ?_
          cases hf
          exact m_iret X Y dX2_otherWord_153
    replace hf := hj
    clear hj
    refine lv_if_eq (tgt := 51) hx hb dX2_otherWord_29 (by decide) (fun c_33 => ?_) (fun c_33 => ?_)
    · rw [if_pos c_33] at hf
      refine lv_aload_n hx hb dX2_otherWord_51 rfl (lv_at hl 0 rfl) ?_
      refine lv_iconst (v := (5 : Int32)) hx hb dX2_otherWord_52 (by decide) ?_
      refine lv_iconst (v := (0 : Int32)) hx hb dX2_otherWord_53 (by decide) ?_
      refine lv_bipush (v := (112 : Int32)) hx hb dX2_otherWord_54 (by decide) ?_
      refine lv_bipush (v := (101 : Int32)) hx hb dX2_otherWord_56 (by decide) ?_
      refine lv_bipush (v := (114 : Int32)) hx hb dX2_otherWord_58 (by decide) ?_
      obtain ⟨r_34, hq_35, hf⟩ := bd1_s hf
      refine mcI (av := [.int (5 : Int32), .int (0 : Int32), .int (112 : Int32), .int (101 : Int32), .int (114 : Int32)]) (rest := []) 5 X Y (tX2_spells l N G (5 : Int32) (0 : Int32) (112 : Int32) (101 : Int32) (114 : Int32) r_34 hq_35) (lw_V q1262 q1264 qs36 q70 q1265) ydX2_spells ⟨rfl, rfl, by decide, by decide⟩ rfl hl.1 rfl (Nat.le_of_ble_eq_true rfl) ⟨Nat.zero_le _, Nat.zero_le _⟩ dX2_otherWord_60 (fun H locs Y => ?_)
      obtain ⟨z_74, hj, hzl_74, hzr_74⟩ := bdR0_s hf
      have J84_74 : z_74 = .inr () → ∀ (H : Heap) (locs : List Loc), WX D A s (mW h ad cA G) H locs → ∀ ls : Array Slot, lv_has ls 1 [(0, .ref h)] → W p l e (mR 2) s m args below meth c H locs 0 0 (MQ below (mQ D cA h ad A (some (.int r)) G) args s 0 0 A) (F0 m 84 ls []) := by
        clear hj
        intro hz
        have hf := hzr_74 hz
        intro H locs Y ls hl
        refine lv_aload_n hx hb dX2_otherWord_84 rfl (lv_at hl 0 rfl) ?_
        refine lv_iconst (v := (5 : Int32)) hx hb dX2_otherWord_85 (by decide) ?_
        refine lv_iconst (v := (0 : Int32)) hx hb dX2_otherWord_86 (by decide) ?_
        refine lv_bipush (v := (109 : Int32)) hx hb dX2_otherWord_87 (by decide) ?_
        refine lv_bipush (v := (101 : Int32)) hx hb dX2_otherWord_89 (by decide) ?_
        refine lv_bipush (v := (97 : Int32)) hx hb dX2_otherWord_91 (by decide) ?_
        obtain ⟨r_40, hq_41, hf⟩ := bd1_s hf
        refine mcI (av := [.int (5 : Int32), .int (0 : Int32), .int (109 : Int32), .int (101 : Int32), .int (97 : Int32)]) (rest := []) 5 X Y (tX2_spells l N G (5 : Int32) (0 : Int32) (109 : Int32) (101 : Int32) (97 : Int32) r_40 hq_41) (lw_V q1262 q1264 qs36 q70 q1265) ydX2_spells ⟨rfl, rfl, by decide, by decide⟩ rfl hl.1 rfl (Nat.le_of_ble_eq_true rfl) ⟨Nat.zero_le _, Nat.zero_le _⟩ dX2_otherWord_93 (fun H locs Y => ?_)
        obtain ⟨z_75, hj, hzl_75, hzr_75⟩ := bdR0_s hf
        have J117_75 : z_75 = .inr () → ∀ (H : Heap) (locs : List Loc), WX D A s (mW h ad cA G) H locs → ∀ ls : Array Slot, lv_has ls 1 [(0, .ref h)] → W p l e (mR 2) s m args below meth c H locs 0 0 (MQ below (mQ D cA h ad A (some (.int r)) G) args s 0 0 A) (F0 m 117 ls []) := by
          clear hj
          intro hz
          have hf := hzr_75 hz
          intro H locs Y ls hl
          refine lv_aload_n hx hb dX2_otherWord_117 rfl (lv_at hl 0 rfl) ?_
          refine lv_iconst (v := (5 : Int32)) hx hb dX2_otherWord_118 (by decide) ?_
          refine lv_iconst (v := (0 : Int32)) hx hb dX2_otherWord_119 (by decide) ?_
          refine lv_bipush (v := (112 : Int32)) hx hb dX2_otherWord_120 (by decide) ?_
          refine lv_bipush (v := (101 : Int32)) hx hb dX2_otherWord_122 (by decide) ?_
          refine lv_bipush (v := (97 : Int32)) hx hb dX2_otherWord_124 (by decide) ?_
          obtain ⟨r_46, hq_47, hf⟩ := bd1_s hf
          refine mcI (av := [.int (5 : Int32), .int (0 : Int32), .int (112 : Int32), .int (101 : Int32), .int (97 : Int32)]) (rest := []) 5 X Y (tX2_spells l N G (5 : Int32) (0 : Int32) (112 : Int32) (101 : Int32) (97 : Int32) r_46 hq_47) (lw_V q1262 q1264 qs36 q70 q1265) ydX2_spells ⟨rfl, rfl, by decide, by decide⟩ rfl hl.1 rfl (Nat.le_of_ble_eq_true rfl) ⟨Nat.zero_le _, Nat.zero_le _⟩ dX2_otherWord_126 (fun H locs Y => ?_)
          cases hf
          exact J129_73 _ rfl _ _ Y _ (lv_sub hl [0] rfl)
        replace hf := hj
        clear hj
        refine lv_if_eq (tgt := 117) hx hb dX2_otherWord_96 (by decide) (fun c_42 => ?_) (fun c_42 => ?_)
        · rw [if_pos c_42] at hf
          cases hf
          exact J117_75 rfl _ _ Y _ (lv_sub hl [0] rfl)
        · rw [if_neg c_42] at hf
          refine lv_aload_n hx hb dX2_otherWord_99 rfl (lv_at hl 0 rfl) ?_
          refine lv_iconst (v := (5 : Int32)) hx hb dX2_otherWord_100 (by decide) ?_
          refine lv_iconst (v := (2 : Int32)) hx hb dX2_otherWord_101 (by decide) ?_
          refine lv_bipush (v := (97 : Int32)) hx hb dX2_otherWord_102 (by decide) ?_
          refine lv_bipush (v := (110 : Int32)) hx hb dX2_otherWord_104 (by decide) ?_
          refine lv_bipush (v := (116 : Int32)) hx hb dX2_otherWord_106 (by decide) ?_
          obtain ⟨r_43, hq_44, hf⟩ := bd1_s hf
          refine mcI (av := [.int (5 : Int32), .int (2 : Int32), .int (97 : Int32), .int (110 : Int32), .int (116 : Int32)]) (rest := []) 5 X Y (tX2_spells l N G (5 : Int32) (2 : Int32) (97 : Int32) (110 : Int32) (116 : Int32) r_43 hq_44) (lw_V q1262 q1264 qs36 q70 q1265) ydX2_spells ⟨rfl, rfl, by decide, by decide⟩ rfl hl.1 rfl (Nat.le_of_ble_eq_true rfl) ⟨Nat.zero_le _, Nat.zero_le _⟩ dX2_otherWord_108 (fun H locs Y => ?_)
          refine lv_if_eq (tgt := 117) hx hb dX2_otherWord_111 (by decide) (fun c_45 => ?_) (fun c_45 => ?_)
          · rw [if_pos c_45] at hf
            cases hf
            exact J117_75 rfl _ _ Y _ (lv_sub hl [0] rfl)
          · rw [if_neg c_45] at hf
            refine lv_bipush (v := (12 : Int32)) hx hb dX2_otherWord_114 (by decide) ?_
            cases hf
            have hf := hzl_75 _ rfl
            cases hf
            have hf := hzl_73 _ rfl
            cases hf
            exact m_iret X Y dX2_otherWord_116
      replace hf := hj
      clear hj
      refine lv_if_eq (tgt := 84) hx hb dX2_otherWord_63 (by decide) (fun c_36 => ?_) (fun c_36 => ?_)
      · rw [if_pos c_36] at hf
        cases hf
        exact J84_74 rfl _ _ Y _ (lv_sub hl [0] rfl)
      · rw [if_neg c_36] at hf
        refine lv_aload_n hx hb dX2_otherWord_66 rfl (lv_at hl 0 rfl) ?_
        refine lv_iconst (v := (5 : Int32)) hx hb dX2_otherWord_67 (by decide) ?_
        refine lv_iconst (v := (2 : Int32)) hx hb dX2_otherWord_68 (by decide) ?_
        refine lv_bipush (v := (114 : Int32)) hx hb dX2_otherWord_69 (by decide) ?_
        refine lv_bipush (v := (105 : Int32)) hx hb dX2_otherWord_71 (by decide) ?_
        refine lv_bipush (v := (108 : Int32)) hx hb dX2_otherWord_73 (by decide) ?_
        obtain ⟨r_37, hq_38, hf⟩ := bd1_s hf
        refine mcI (av := [.int (5 : Int32), .int (2 : Int32), .int (114 : Int32), .int (105 : Int32), .int (108 : Int32)]) (rest := []) 5 X Y (tX2_spells l N G (5 : Int32) (2 : Int32) (114 : Int32) (105 : Int32) (108 : Int32) r_37 hq_38) (lw_V q1262 q1264 qs36 q70 q1265) ydX2_spells ⟨rfl, rfl, by decide, by decide⟩ rfl hl.1 rfl (Nat.le_of_ble_eq_true rfl) ⟨Nat.zero_le _, Nat.zero_le _⟩ dX2_otherWord_75 (fun H locs Y => ?_)
        refine lv_if_eq (tgt := 84) hx hb dX2_otherWord_78 (by decide) (fun c_39 => ?_) (fun c_39 => ?_)
        · rw [if_pos c_39] at hf
          cases hf
          exact J84_74 rfl _ _ Y _ (lv_sub hl [0] rfl)
        · rw [if_neg c_39] at hf
          refine lv_bipush (v := (11 : Int32)) hx hb dX2_otherWord_81 (by decide) ?_
          cases hf
          have hf := hzl_74 _ rfl
          cases hf
          have hf := hzl_73 _ rfl
          cases hf
          exact m_iret X Y dX2_otherWord_83
    · rw [if_neg c_33] at hf
      refine lv_aload_n hx hb dX2_otherWord_32 rfl (lv_at hl 0 rfl) ?_
      refine lv_bipush (v := (7 : Int32)) hx hb dX2_otherWord_33 (by decide) ?_
      refine lv_iconst (v := (4 : Int32)) hx hb dX2_otherWord_35 (by decide) ?_
      refine lv_bipush (v := (105 : Int32)) hx hb dX2_otherWord_36 (by decide) ?_
      refine lv_bipush (v := (101 : Int32)) hx hb dX2_otherWord_38 (by decide) ?_
      refine lv_bipush (v := (115 : Int32)) hx hb dX2_otherWord_40 (by decide) ?_
      obtain ⟨r_48, hq_49, hf⟩ := bd1_s hf
      refine mcI (av := [.int (7 : Int32), .int (4 : Int32), .int (105 : Int32), .int (101 : Int32), .int (115 : Int32)]) (rest := []) 5 X Y (tX2_spells l N G (7 : Int32) (4 : Int32) (105 : Int32) (101 : Int32) (115 : Int32) r_48 hq_49) (lw_V q1262 q1264 qs36 q70 q1265) ydX2_spells ⟨rfl, rfl, by decide, by decide⟩ rfl hl.1 rfl (Nat.le_of_ble_eq_true rfl) ⟨Nat.zero_le _, Nat.zero_le _⟩ dX2_otherWord_42 (fun H locs Y => ?_)
      refine lv_if_eq (tgt := 51) hx hb dX2_otherWord_45 (by decide) (fun c_50 => ?_) (fun c_50 => ?_)
      · rw [if_pos c_50] at hf
        refine lv_aload_n hx hb dX2_otherWord_51 rfl (lv_at hl 0 rfl) ?_
        refine lv_iconst (v := (5 : Int32)) hx hb dX2_otherWord_52 (by decide) ?_
        refine lv_iconst (v := (0 : Int32)) hx hb dX2_otherWord_53 (by decide) ?_
        refine lv_bipush (v := (112 : Int32)) hx hb dX2_otherWord_54 (by decide) ?_
        refine lv_bipush (v := (101 : Int32)) hx hb dX2_otherWord_56 (by decide) ?_
        refine lv_bipush (v := (114 : Int32)) hx hb dX2_otherWord_58 (by decide) ?_
        obtain ⟨r_51, hq_52, hf⟩ := bd1_s hf
        refine mcI (av := [.int (5 : Int32), .int (0 : Int32), .int (112 : Int32), .int (101 : Int32), .int (114 : Int32)]) (rest := []) 5 X Y (tX2_spells l N G (5 : Int32) (0 : Int32) (112 : Int32) (101 : Int32) (114 : Int32) r_51 hq_52) (lw_V q1262 q1264 qs36 q70 q1265) ydX2_spells ⟨rfl, rfl, by decide, by decide⟩ rfl hl.1 rfl (Nat.le_of_ble_eq_true rfl) ⟨Nat.zero_le _, Nat.zero_le _⟩ dX2_otherWord_60 (fun H locs Y => ?_)
        obtain ⟨z_76, hj, hzl_76, hzr_76⟩ := bdR0_s hf
        have J84_76 : z_76 = .inr () → ∀ (H : Heap) (locs : List Loc), WX D A s (mW h ad cA G) H locs → ∀ ls : Array Slot, lv_has ls 1 [(0, .ref h)] → W p l e (mR 2) s m args below meth c H locs 0 0 (MQ below (mQ D cA h ad A (some (.int r)) G) args s 0 0 A) (F0 m 84 ls []) := by
          clear hj
          intro hz
          have hf := hzr_76 hz
          intro H locs Y ls hl
          refine lv_aload_n hx hb dX2_otherWord_84 rfl (lv_at hl 0 rfl) ?_
          refine lv_iconst (v := (5 : Int32)) hx hb dX2_otherWord_85 (by decide) ?_
          refine lv_iconst (v := (0 : Int32)) hx hb dX2_otherWord_86 (by decide) ?_
          refine lv_bipush (v := (109 : Int32)) hx hb dX2_otherWord_87 (by decide) ?_
          refine lv_bipush (v := (101 : Int32)) hx hb dX2_otherWord_89 (by decide) ?_
          refine lv_bipush (v := (97 : Int32)) hx hb dX2_otherWord_91 (by decide) ?_
          obtain ⟨r_57, hq_58, hf⟩ := bd1_s hf
          refine mcI (av := [.int (5 : Int32), .int (0 : Int32), .int (109 : Int32), .int (101 : Int32), .int (97 : Int32)]) (rest := []) 5 X Y (tX2_spells l N G (5 : Int32) (0 : Int32) (109 : Int32) (101 : Int32) (97 : Int32) r_57 hq_58) (lw_V q1262 q1264 qs36 q70 q1265) ydX2_spells ⟨rfl, rfl, by decide, by decide⟩ rfl hl.1 rfl (Nat.le_of_ble_eq_true rfl) ⟨Nat.zero_le _, Nat.zero_le _⟩ dX2_otherWord_93 (fun H locs Y => ?_)
          obtain ⟨z_77, hj, hzl_77, hzr_77⟩ := bdR0_s hf
          have J117_77 : z_77 = .inr () → ∀ (H : Heap) (locs : List Loc), WX D A s (mW h ad cA G) H locs → ∀ ls : Array Slot, lv_has ls 1 [(0, .ref h)] → W p l e (mR 2) s m args below meth c H locs 0 0 (MQ below (mQ D cA h ad A (some (.int r)) G) args s 0 0 A) (F0 m 117 ls []) := by
            clear hj
            intro hz
            have hf := hzr_77 hz
            intro H locs Y ls hl
            refine lv_aload_n hx hb dX2_otherWord_117 rfl (lv_at hl 0 rfl) ?_
            refine lv_iconst (v := (5 : Int32)) hx hb dX2_otherWord_118 (by decide) ?_
            refine lv_iconst (v := (0 : Int32)) hx hb dX2_otherWord_119 (by decide) ?_
            refine lv_bipush (v := (112 : Int32)) hx hb dX2_otherWord_120 (by decide) ?_
            refine lv_bipush (v := (101 : Int32)) hx hb dX2_otherWord_122 (by decide) ?_
            refine lv_bipush (v := (97 : Int32)) hx hb dX2_otherWord_124 (by decide) ?_
            obtain ⟨r_63, hq_64, hf⟩ := bd1_s hf
            refine mcI (av := [.int (5 : Int32), .int (0 : Int32), .int (112 : Int32), .int (101 : Int32), .int (97 : Int32)]) (rest := []) 5 X Y (tX2_spells l N G (5 : Int32) (0 : Int32) (112 : Int32) (101 : Int32) (97 : Int32) r_63 hq_64) (lw_V q1262 q1264 qs36 q70 q1265) ydX2_spells ⟨rfl, rfl, by decide, by decide⟩ rfl hl.1 rfl (Nat.le_of_ble_eq_true rfl) ⟨Nat.zero_le _, Nat.zero_le _⟩ dX2_otherWord_126 (fun H locs Y => ?_)
            cases hf
            exact J129_73 _ rfl _ _ Y _ (lv_sub hl [0] rfl)
          replace hf := hj
          clear hj
          refine lv_if_eq (tgt := 117) hx hb dX2_otherWord_96 (by decide) (fun c_59 => ?_) (fun c_59 => ?_)
          · rw [if_pos c_59] at hf
            cases hf
            exact J117_77 rfl _ _ Y _ (lv_sub hl [0] rfl)
          · rw [if_neg c_59] at hf
            refine lv_aload_n hx hb dX2_otherWord_99 rfl (lv_at hl 0 rfl) ?_
            refine lv_iconst (v := (5 : Int32)) hx hb dX2_otherWord_100 (by decide) ?_
            refine lv_iconst (v := (2 : Int32)) hx hb dX2_otherWord_101 (by decide) ?_
            refine lv_bipush (v := (97 : Int32)) hx hb dX2_otherWord_102 (by decide) ?_
            refine lv_bipush (v := (110 : Int32)) hx hb dX2_otherWord_104 (by decide) ?_
            refine lv_bipush (v := (116 : Int32)) hx hb dX2_otherWord_106 (by decide) ?_
            obtain ⟨r_60, hq_61, hf⟩ := bd1_s hf
            refine mcI (av := [.int (5 : Int32), .int (2 : Int32), .int (97 : Int32), .int (110 : Int32), .int (116 : Int32)]) (rest := []) 5 X Y (tX2_spells l N G (5 : Int32) (2 : Int32) (97 : Int32) (110 : Int32) (116 : Int32) r_60 hq_61) (lw_V q1262 q1264 qs36 q70 q1265) ydX2_spells ⟨rfl, rfl, by decide, by decide⟩ rfl hl.1 rfl (Nat.le_of_ble_eq_true rfl) ⟨Nat.zero_le _, Nat.zero_le _⟩ dX2_otherWord_108 (fun H locs Y => ?_)
            refine lv_if_eq (tgt := 117) hx hb dX2_otherWord_111 (by decide) (fun c_62 => ?_) (fun c_62 => ?_)
            · rw [if_pos c_62] at hf
              cases hf
              exact J117_77 rfl _ _ Y _ (lv_sub hl [0] rfl)
            · rw [if_neg c_62] at hf
              refine lv_bipush (v := (12 : Int32)) hx hb dX2_otherWord_114 (by decide) ?_
              cases hf
              have hf := hzl_77 _ rfl
              cases hf
              have hf := hzl_73 _ rfl
              cases hf
              exact m_iret X Y dX2_otherWord_116
        replace hf := hj
        clear hj
        refine lv_if_eq (tgt := 84) hx hb dX2_otherWord_63 (by decide) (fun c_53 => ?_) (fun c_53 => ?_)
        · rw [if_pos c_53] at hf
          cases hf
          exact J84_76 rfl _ _ Y _ (lv_sub hl [0] rfl)
        · rw [if_neg c_53] at hf
          refine lv_aload_n hx hb dX2_otherWord_66 rfl (lv_at hl 0 rfl) ?_
          refine lv_iconst (v := (5 : Int32)) hx hb dX2_otherWord_67 (by decide) ?_
          refine lv_iconst (v := (2 : Int32)) hx hb dX2_otherWord_68 (by decide) ?_
          refine lv_bipush (v := (114 : Int32)) hx hb dX2_otherWord_69 (by decide) ?_
          refine lv_bipush (v := (105 : Int32)) hx hb dX2_otherWord_71 (by decide) ?_
          refine lv_bipush (v := (108 : Int32)) hx hb dX2_otherWord_73 (by decide) ?_
          obtain ⟨r_54, hq_55, hf⟩ := bd1_s hf
          refine mcI (av := [.int (5 : Int32), .int (2 : Int32), .int (114 : Int32), .int (105 : Int32), .int (108 : Int32)]) (rest := []) 5 X Y (tX2_spells l N G (5 : Int32) (2 : Int32) (114 : Int32) (105 : Int32) (108 : Int32) r_54 hq_55) (lw_V q1262 q1264 qs36 q70 q1265) ydX2_spells ⟨rfl, rfl, by decide, by decide⟩ rfl hl.1 rfl (Nat.le_of_ble_eq_true rfl) ⟨Nat.zero_le _, Nat.zero_le _⟩ dX2_otherWord_75 (fun H locs Y => ?_)
          refine lv_if_eq (tgt := 84) hx hb dX2_otherWord_78 (by decide) (fun c_56 => ?_) (fun c_56 => ?_)
          · rw [if_pos c_56] at hf
            cases hf
            exact J84_76 rfl _ _ Y _ (lv_sub hl [0] rfl)
          · rw [if_neg c_56] at hf
            refine lv_bipush (v := (11 : Int32)) hx hb dX2_otherWord_81 (by decide) ?_
            cases hf
            have hf := hzl_76 _ rfl
            cases hf
            have hf := hzl_73 _ rfl
            cases hf
            exact m_iret X Y dX2_otherWord_83
      · rw [if_neg c_50] at hf
        refine lv_bipush (v := (10 : Int32)) hx hb dX2_otherWord_48 (by decide) ?_
        cases hf
        have hf := hzl_73 _ rfl
        cases hf
        exact m_iret X Y dX2_otherWord_50

def fX2_wordOf (N : Nat) (G : GS) : Option Int32 :=
  bd1 (fX2_spells N G (5 : Int32) (0 : Int32) (116 : Int32) (97 : Int32) (98 : Int32)) fun r_1 =>
  bdR0 (
   if r_1 = (0 : Int32) then (
    bd1 (fX2_spells N G (4 : Int32) (0 : Int32) (103 : Int32) (111 : Int32) (108 : Int32)) fun r_4 =>
    bdR0 (
     if r_4 = (0 : Int32) then (
      some (.inr ())
     ) else (
      bd1 (fX2_spells N G (4 : Int32) (1 : Int32) (111 : Int32) (108 : Int32) (100 : Int32)) fun r_7 =>
      if r_7 = (0 : Int32) then (
       some (.inr ())
      ) else (
       some (.inl (3 : Int32))
      )
     )
    ) (fun a_ => some (.inl a_)) <|
    bd1 (fX2_spells N G (4 : Int32) (0 : Int32) (109 : Int32) (101 : Int32) (101 : Int32)) fun r_10 =>
    bdR0 (
     if r_10 = (0 : Int32) then (
      some (.inr ())
     ) else (
      bd1 (fX2_spells N G (4 : Int32) (1 : Int32) (101 : Int32) (101 : Int32) (107 : Int32)) fun r_13 =>
      if r_13 = (0 : Int32) then (
       some (.inr ())
      ) else (
       some (.inl (4 : Int32))
      )
     )
    ) (fun a_ => some (.inl a_)) <|
    bd1 (fX2_spells N G (3 : Int32) (0 : Int32) (107 : Int32) (105 : Int32) (110 : Int32)) fun r_16 =>
    if r_16 = (0 : Int32) then (
     bd1 (fX2_spells N G (8 : Int32) (0 : Int32) (109 : Int32) (111 : Int32) (117 : Int32)) fun r_19 =>
     bdR0 (
      if r_19 = (0 : Int32) then (
       some (.inr ())
      ) else (
       bd1 (fX2_spells N G (8 : Int32) (3 : Int32) (114 : Int32) (110 : Int32) (105 : Int32)) fun r_22 =>
       if r_22 = (0 : Int32) then (
        some (.inr ())
       ) else (
        bd1 (fX2_spells N G (8 : Int32) (5 : Int32) (105 : Int32) (110 : Int32) (103 : Int32)) fun r_25 =>
        if r_25 = (0 : Int32) then (
         some (.inr ())
        ) else (
         some (.inl (6 : Int32))
        )
       )
      )
     ) (fun a_ => some (.inl a_)) <|
     bd1 (fX2_spells N G (6 : Int32) (0 : Int32) (107 : Int32) (110 : Int32) (105 : Int32)) fun r_28 =>
     bdR0 (
      if r_28 = (0 : Int32) then (
       some (.inr ())
      ) else (
       bd1 (fX2_spells N G (6 : Int32) (3 : Int32) (103 : Int32) (104 : Int32) (116 : Int32)) fun r_31 =>
       if r_31 = (0 : Int32) then (
        some (.inr ())
       ) else (
        some (.inl (7 : Int32))
       )
      )
     ) (fun a_ => some (.inl a_)) <|
     bd1 (fX2_spells N G (6 : Int32) (0 : Int32) (115 : Int32) (113 : Int32) (117 : Int32)) fun r_34 =>
     bdR0 (
      if r_34 = (0 : Int32) then (
       some (.inr ())
      ) else (
       bd1 (fX2_spells N G (6 : Int32) (3 : Int32) (105 : Int32) (114 : Int32) (101 : Int32)) fun r_37 =>
       if r_37 = (0 : Int32) then (
        some (.inr ())
       ) else (
        some (.inl (8 : Int32))
       )
      )
     ) (fun a_ => some (.inl a_)) <|
     bd1 (fX2_spells N G (4 : Int32) (0 : Int32) (107 : Int32) (105 : Int32) (110 : Int32)) fun r_40 =>
     if r_40 = (0 : Int32) then (
      bd1 (fX2_otherWord N G) fun r_43 =>
      some (.inl r_43)
     ) else (
      some (.inr ())
     )
    ) else (
     some (.inl (5 : Int32))
    )
   ) else (
    bd1 (fX2_spells N G (5 : Int32) (2 : Int32) (98 : Int32) (108 : Int32) (101 : Int32)) fun r_45 =>
    if r_45 = (0 : Int32) then (
     bd1 (fX2_spells N G (4 : Int32) (0 : Int32) (103 : Int32) (111 : Int32) (108 : Int32)) fun r_48 =>
     bdR0 (
      if r_48 = (0 : Int32) then (
       some (.inr ())
      ) else (
       bd1 (fX2_spells N G (4 : Int32) (1 : Int32) (111 : Int32) (108 : Int32) (100 : Int32)) fun r_51 =>
       if r_51 = (0 : Int32) then (
        some (.inr ())
       ) else (
        some (.inl (3 : Int32))
       )
      )
     ) (fun a_ => some (.inl a_)) <|
     bd1 (fX2_spells N G (4 : Int32) (0 : Int32) (109 : Int32) (101 : Int32) (101 : Int32)) fun r_54 =>
     bdR0 (
      if r_54 = (0 : Int32) then (
       some (.inr ())
      ) else (
       bd1 (fX2_spells N G (4 : Int32) (1 : Int32) (101 : Int32) (101 : Int32) (107 : Int32)) fun r_57 =>
       if r_57 = (0 : Int32) then (
        some (.inr ())
       ) else (
        some (.inl (4 : Int32))
       )
      )
     ) (fun a_ => some (.inl a_)) <|
     bd1 (fX2_spells N G (3 : Int32) (0 : Int32) (107 : Int32) (105 : Int32) (110 : Int32)) fun r_60 =>
     if r_60 = (0 : Int32) then (
      bd1 (fX2_spells N G (8 : Int32) (0 : Int32) (109 : Int32) (111 : Int32) (117 : Int32)) fun r_63 =>
      bdR0 (
       if r_63 = (0 : Int32) then (
        some (.inr ())
       ) else (
        bd1 (fX2_spells N G (8 : Int32) (3 : Int32) (114 : Int32) (110 : Int32) (105 : Int32)) fun r_66 =>
        if r_66 = (0 : Int32) then (
         some (.inr ())
        ) else (
         bd1 (fX2_spells N G (8 : Int32) (5 : Int32) (105 : Int32) (110 : Int32) (103 : Int32)) fun r_69 =>
         if r_69 = (0 : Int32) then (
          some (.inr ())
         ) else (
          some (.inl (6 : Int32))
         )
        )
       )
      ) (fun a_ => some (.inl a_)) <|
      bd1 (fX2_spells N G (6 : Int32) (0 : Int32) (107 : Int32) (110 : Int32) (105 : Int32)) fun r_72 =>
      bdR0 (
       if r_72 = (0 : Int32) then (
        some (.inr ())
       ) else (
        bd1 (fX2_spells N G (6 : Int32) (3 : Int32) (103 : Int32) (104 : Int32) (116 : Int32)) fun r_75 =>
        if r_75 = (0 : Int32) then (
         some (.inr ())
        ) else (
         some (.inl (7 : Int32))
        )
       )
      ) (fun a_ => some (.inl a_)) <|
      bd1 (fX2_spells N G (6 : Int32) (0 : Int32) (115 : Int32) (113 : Int32) (117 : Int32)) fun r_78 =>
      bdR0 (
       if r_78 = (0 : Int32) then (
        some (.inr ())
       ) else (
        bd1 (fX2_spells N G (6 : Int32) (3 : Int32) (105 : Int32) (114 : Int32) (101 : Int32)) fun r_81 =>
        if r_81 = (0 : Int32) then (
         some (.inr ())
        ) else (
         some (.inl (8 : Int32))
        )
       )
      ) (fun a_ => some (.inl a_)) <|
      bd1 (fX2_spells N G (4 : Int32) (0 : Int32) (107 : Int32) (105 : Int32) (110 : Int32)) fun r_84 =>
      if r_84 = (0 : Int32) then (
       bd1 (fX2_otherWord N G) fun r_87 =>
       some (.inl r_87)
      ) else (
       some (.inr ())
      )
     ) else (
      some (.inl (5 : Int32))
     )
    ) else (
     some (.inl (1 : Int32))
    )
   )
  ) (fun a_ => some a_) <|
  bd1 (fX2_spells N G (4 : Int32) (1 : Int32) (105 : Int32) (110 : Int32) (103 : Int32)) fun r_89 =>
  if r_89 = (0 : Int32) then (
   bd1 (fX2_otherWord N G) fun r_92 =>
   some r_92
  ) else (
   some (9 : Int32)
  )
theorem ydX2_wordOf : yX2_wordOf.cls = RX2 ∧ yX2_wordOf.cls ≠ "java/lang/invoke/MethodHandle" ∧ yX2_wordOf.cls ≠ "java/lang/invoke/VarHandle" ∧ (parseMethodDescriptor yX2_wordOf.desc).map (fun d => d.parameters.length) = some 0 := by decide +kernel
set_option maxHeartbeats 4000000 in
theorem tX2_wordOf (l : Launch) (N : Nat) (G : GS) (r : Int32) (hf : fX2_wordOf N G = some r) : mMet l yX2_wordOf cX2_wordOf 1 (some .int) (mR 3) [] G (some (.int r)) G := by
  unfold fX2_wordOf at hf
  refine mMet_of (by decide +kernel) rfl (Nat.le_of_ble_eq_true rfl) (fun {p e s m args below meth c ls D cA h ad A} X Y hl => ?_)
  have hx := X.1.1
  have hb := X.1.2.1
  have hl : lv_has ls 1 [(0, .ref h)] := hl
  refine lv_aload_n hx hb dX2_wordOf_0 rfl (lv_at hl 0 rfl) ?_
  refine lv_iconst (v := (5 : Int32)) hx hb dX2_wordOf_1 (by decide) ?_
  refine lv_iconst (v := (0 : Int32)) hx hb dX2_wordOf_2 (by decide) ?_
  refine lv_bipush (v := (116 : Int32)) hx hb dX2_wordOf_3 (by decide) ?_
  refine lv_bipush (v := (97 : Int32)) hx hb dX2_wordOf_5 (by decide) ?_
  refine lv_bipush (v := (98 : Int32)) hx hb dX2_wordOf_7 (by decide) ?_
  obtain ⟨r_1, hq_2, hf⟩ := bd1_s hf
  refine mcI (av := [.int (5 : Int32), .int (0 : Int32), .int (116 : Int32), .int (97 : Int32), .int (98 : Int32)]) (rest := []) 5 X Y (tX2_spells l N G (5 : Int32) (0 : Int32) (116 : Int32) (97 : Int32) (98 : Int32) r_1 hq_2) (lw_V q1262 q1264 qs36 q70 q1265) ydX2_spells ⟨rfl, rfl, by decide, by decide⟩ rfl hl.1 rfl (Nat.le_of_ble_eq_true rfl) ⟨Nat.zero_le _, Nat.zero_le _⟩ dX2_wordOf_9 (fun H locs Y => ?_)
  obtain ⟨z_94, hj, hzl_94, hzr_94⟩ := bdR0_s hf
  have J256_94 : z_94 = .inr () → ∀ (H : Heap) (locs : List Loc), WX D A s (mW h ad cA G) H locs → ∀ ls : Array Slot, lv_has ls 1 [(0, .ref h)] → W p l e (mR 3) s m args below meth c H locs 0 0 (MQ below (mQ D cA h ad A (some (.int r)) G) args s 0 0 A) (F0 m 256 ls [.int (110 : Int32), .int (105 : Int32), .int (1 : Int32), .int (4 : Int32), .ref h]) := by
    clear hj
    intro hz
    have hf := hzr_94 hz
    intro H locs Y ls hl
    refine lv_bipush (v := (103 : Int32)) hx hb dX2_wordOf_256 (by decide) ?_
    obtain ⟨r_89, hq_90, hf⟩ := bd1_s hf
    refine mcI (av := [.int (4 : Int32), .int (1 : Int32), .int (105 : Int32), .int (110 : Int32), .int (103 : Int32)]) (rest := []) 5 X Y (tX2_spells l N G (4 : Int32) (1 : Int32) (105 : Int32) (110 : Int32) (103 : Int32) r_89 hq_90) (lw_V q1262 q1264 qs36 q70 q1265) ydX2_spells ⟨rfl, rfl, by decide, by decide⟩ rfl hl.1 rfl (Nat.le_of_ble_eq_true rfl) ⟨Nat.zero_le _, Nat.zero_le _⟩ dX2_wordOf_258 (fun H locs Y => ?_)
    refine lv_if_eq (tgt := 267) hx hb dX2_wordOf_261 (by decide) (fun c_91 => ?_) (fun c_91 => ?_)
    · rw [if_pos c_91] at hf
      refine lv_aload_n hx hb dX2_wordOf_267 rfl (lv_at hl 0 rfl) ?_
      obtain ⟨r_92, hq_93, hf⟩ := bd1_s hf
      refine mcI (av := []) (rest := []) 0 X Y (tX2_otherWord l N G r_92 hq_93) (lw_V q1266 q1268 qs37 q70 q1269) ydX2_otherWord ⟨rfl, rfl, by decide, by decide⟩ rfl hl.1 rfl (Nat.le_of_ble_eq_true rfl) ⟨Nat.zero_le _, Nat.zero_le _⟩ dX2_wordOf_268 (fun H locs Y => ?_)
      cases hf
      exact m_iret X Y dX2_wordOf_271
    · rw [if_neg c_91] at hf
      refine lv_bipush (v := (9 : Int32)) hx hb dX2_wordOf_264 (by decide) ?_
      cases hf
      exact m_iret X Y dX2_wordOf_266
  replace hf := hj
  clear hj
  refine lv_if_eq (tgt := 32) hx hb dX2_wordOf_12 (by decide) (fun c_3 => ?_) (fun c_3 => ?_)
  · rw [if_pos c_3] at hf
    refine lv_aload_n hx hb dX2_wordOf_32 rfl (lv_at hl 0 rfl) ?_
    refine lv_iconst (v := (4 : Int32)) hx hb dX2_wordOf_33 (by decide) ?_
    refine lv_iconst (v := (0 : Int32)) hx hb dX2_wordOf_34 (by decide) ?_
    refine lv_bipush (v := (103 : Int32)) hx hb dX2_wordOf_35 (by decide) ?_
    refine lv_bipush (v := (111 : Int32)) hx hb dX2_wordOf_37 (by decide) ?_
    refine lv_bipush (v := (108 : Int32)) hx hb dX2_wordOf_39 (by decide) ?_
    obtain ⟨r_4, hq_5, hf⟩ := bd1_s hf
    refine mcI (av := [.int (4 : Int32), .int (0 : Int32), .int (103 : Int32), .int (111 : Int32), .int (108 : Int32)]) (rest := []) 5 X Y (tX2_spells l N G (4 : Int32) (0 : Int32) (103 : Int32) (111 : Int32) (108 : Int32) r_4 hq_5) (lw_V q1262 q1264 qs36 q70 q1265) ydX2_spells ⟨rfl, rfl, by decide, by decide⟩ rfl hl.1 rfl (Nat.le_of_ble_eq_true rfl) ⟨Nat.zero_le _, Nat.zero_le _⟩ dX2_wordOf_41 (fun H locs Y => ?_)
    obtain ⟨z_95, hj, hzl_95, hzr_95⟩ := bdR0_s hf
    have J64_95 : z_95 = .inr () → ∀ (H : Heap) (locs : List Loc), WX D A s (mW h ad cA G) H locs → ∀ ls : Array Slot, lv_has ls 1 [(0, .ref h)] → W p l e (mR 3) s m args below meth c H locs 0 0 (MQ below (mQ D cA h ad A (some (.int r)) G) args s 0 0 A) (F0 m 64 ls []) := by
      clear hj
      intro hz
      have hf := hzr_95 hz
      intro H locs Y ls hl
      refine lv_aload_n hx hb dX2_wordOf_64 rfl (lv_at hl 0 rfl) ?_
      refine lv_iconst (v := (4 : Int32)) hx hb dX2_wordOf_65 (by decide) ?_
      refine lv_iconst (v := (0 : Int32)) hx hb dX2_wordOf_66 (by decide) ?_
      refine lv_bipush (v := (109 : Int32)) hx hb dX2_wordOf_67 (by decide) ?_
      refine lv_bipush (v := (101 : Int32)) hx hb dX2_wordOf_69 (by decide) ?_
      refine lv_bipush (v := (101 : Int32)) hx hb dX2_wordOf_71 (by decide) ?_
      obtain ⟨r_10, hq_11, hf⟩ := bd1_s hf
      refine mcI (av := [.int (4 : Int32), .int (0 : Int32), .int (109 : Int32), .int (101 : Int32), .int (101 : Int32)]) (rest := []) 5 X Y (tX2_spells l N G (4 : Int32) (0 : Int32) (109 : Int32) (101 : Int32) (101 : Int32) r_10 hq_11) (lw_V q1262 q1264 qs36 q70 q1265) ydX2_spells ⟨rfl, rfl, by decide, by decide⟩ rfl hl.1 rfl (Nat.le_of_ble_eq_true rfl) ⟨Nat.zero_le _, Nat.zero_le _⟩ dX2_wordOf_73 (fun H locs Y => ?_)
      obtain ⟨z_96, hj, hzl_96, hzr_96⟩ := bdR0_s hf
      have J96_96 : z_96 = .inr () → ∀ (H : Heap) (locs : List Loc), WX D A s (mW h ad cA G) H locs → ∀ ls : Array Slot, lv_has ls 1 [(0, .ref h)] → W p l e (mR 3) s m args below meth c H locs 0 0 (MQ below (mQ D cA h ad A (some (.int r)) G) args s 0 0 A) (F0 m 96 ls []) := by
        clear hj
        intro hz
        have hf := hzr_96 hz
        intro H locs Y ls hl
        refine lv_aload_n hx hb dX2_wordOf_96 rfl (lv_at hl 0 rfl) ?_
        refine lv_iconst (v := (3 : Int32)) hx hb dX2_wordOf_97 (by decide) ?_
        refine lv_iconst (v := (0 : Int32)) hx hb dX2_wordOf_98 (by decide) ?_
        refine lv_bipush (v := (107 : Int32)) hx hb dX2_wordOf_99 (by decide) ?_
        refine lv_bipush (v := (105 : Int32)) hx hb dX2_wordOf_101 (by decide) ?_
        refine lv_bipush (v := (110 : Int32)) hx hb dX2_wordOf_103 (by decide) ?_
        obtain ⟨r_16, hq_17, hf⟩ := bd1_s hf
        refine mcI (av := [.int (3 : Int32), .int (0 : Int32), .int (107 : Int32), .int (105 : Int32), .int (110 : Int32)]) (rest := []) 5 X Y (tX2_spells l N G (3 : Int32) (0 : Int32) (107 : Int32) (105 : Int32) (110 : Int32) r_16 hq_17) (lw_V q1262 q1264 qs36 q70 q1265) ydX2_spells ⟨rfl, rfl, by decide, by decide⟩ rfl hl.1 rfl (Nat.le_of_ble_eq_true rfl) ⟨Nat.zero_le _, Nat.zero_le _⟩ dX2_wordOf_105 (fun H locs Y => ?_)
        refine lv_if_eq (tgt := 113) hx hb dX2_wordOf_108 (by decide) (fun c_18 => ?_) (fun c_18 => ?_)
        · rw [if_pos c_18] at hf
          refine lv_aload_n hx hb dX2_wordOf_113 rfl (lv_at hl 0 rfl) ?_
          refine lv_bipush (v := (8 : Int32)) hx hb dX2_wordOf_114 (by decide) ?_
          refine lv_iconst (v := (0 : Int32)) hx hb dX2_wordOf_116 (by decide) ?_
          refine lv_bipush (v := (109 : Int32)) hx hb dX2_wordOf_117 (by decide) ?_
          refine lv_bipush (v := (111 : Int32)) hx hb dX2_wordOf_119 (by decide) ?_
          refine lv_bipush (v := (117 : Int32)) hx hb dX2_wordOf_121 (by decide) ?_
          obtain ⟨r_19, hq_20, hf⟩ := bd1_s hf
          refine mcI (av := [.int (8 : Int32), .int (0 : Int32), .int (109 : Int32), .int (111 : Int32), .int (117 : Int32)]) (rest := []) 5 X Y (tX2_spells l N G (8 : Int32) (0 : Int32) (109 : Int32) (111 : Int32) (117 : Int32) r_19 hq_20) (lw_V q1262 q1264 qs36 q70 q1265) ydX2_spells ⟨rfl, rfl, by decide, by decide⟩ rfl hl.1 rfl (Nat.le_of_ble_eq_true rfl) ⟨Nat.zero_le _, Nat.zero_le _⟩ dX2_wordOf_123 (fun H locs Y => ?_)
          obtain ⟨z_97, hj, hzl_97, hzr_97⟩ := bdR0_s hf
          have J164_97 : z_97 = .inr () → ∀ (H : Heap) (locs : List Loc), WX D A s (mW h ad cA G) H locs → ∀ ls : Array Slot, lv_has ls 1 [(0, .ref h)] → W p l e (mR 3) s m args below meth c H locs 0 0 (MQ below (mQ D cA h ad A (some (.int r)) G) args s 0 0 A) (F0 m 164 ls []) := by
            clear hj
            intro hz
            have hf := hzr_97 hz
            intro H locs Y ls hl
            refine lv_aload_n hx hb dX2_wordOf_164 rfl (lv_at hl 0 rfl) ?_
            refine lv_bipush (v := (6 : Int32)) hx hb dX2_wordOf_165 (by decide) ?_
            refine lv_iconst (v := (0 : Int32)) hx hb dX2_wordOf_167 (by decide) ?_
            refine lv_bipush (v := (107 : Int32)) hx hb dX2_wordOf_168 (by decide) ?_
            refine lv_bipush (v := (110 : Int32)) hx hb dX2_wordOf_170 (by decide) ?_
            refine lv_bipush (v := (105 : Int32)) hx hb dX2_wordOf_172 (by decide) ?_
            obtain ⟨r_28, hq_29, hf⟩ := bd1_s hf
            refine mcI (av := [.int (6 : Int32), .int (0 : Int32), .int (107 : Int32), .int (110 : Int32), .int (105 : Int32)]) (rest := []) 5 X Y (tX2_spells l N G (6 : Int32) (0 : Int32) (107 : Int32) (110 : Int32) (105 : Int32) r_28 hq_29) (lw_V q1262 q1264 qs36 q70 q1265) ydX2_spells ⟨rfl, rfl, by decide, by decide⟩ rfl hl.1 rfl (Nat.le_of_ble_eq_true rfl) ⟨Nat.zero_le _, Nat.zero_le _⟩ dX2_wordOf_174 (fun H locs Y => ?_)
            obtain ⟨z_98, hj, hzl_98, hzr_98⟩ := bdR0_s hf
            have J199_98 : z_98 = .inr () → ∀ (H : Heap) (locs : List Loc), WX D A s (mW h ad cA G) H locs → ∀ ls : Array Slot, lv_has ls 1 [(0, .ref h)] → W p l e (mR 3) s m args below meth c H locs 0 0 (MQ below (mQ D cA h ad A (some (.int r)) G) args s 0 0 A) (F0 m 199 ls []) := by
              clear hj
              intro hz
              have hf := hzr_98 hz
              intro H locs Y ls hl
              refine lv_aload_n hx hb dX2_wordOf_199 rfl (lv_at hl 0 rfl) ?_
              refine lv_bipush (v := (6 : Int32)) hx hb dX2_wordOf_200 (by decide) ?_
              refine lv_iconst (v := (0 : Int32)) hx hb dX2_wordOf_202 (by decide) ?_
              refine lv_bipush (v := (115 : Int32)) hx hb dX2_wordOf_203 (by decide) ?_
              refine lv_bipush (v := (113 : Int32)) hx hb dX2_wordOf_205 (by decide) ?_
              refine lv_bipush (v := (117 : Int32)) hx hb dX2_wordOf_207 (by decide) ?_
              obtain ⟨r_34, hq_35, hf⟩ := bd1_s hf
              refine mcI (av := [.int (6 : Int32), .int (0 : Int32), .int (115 : Int32), .int (113 : Int32), .int (117 : Int32)]) (rest := []) 5 X Y (tX2_spells l N G (6 : Int32) (0 : Int32) (115 : Int32) (113 : Int32) (117 : Int32) r_34 hq_35) (lw_V q1262 q1264 qs36 q70 q1265) ydX2_spells ⟨rfl, rfl, by decide, by decide⟩ rfl hl.1 rfl (Nat.le_of_ble_eq_true rfl) ⟨Nat.zero_le _, Nat.zero_le _⟩ dX2_wordOf_209 (fun H locs Y => ?_)
              obtain ⟨z_99, hj, hzl_99, hzr_99⟩ := bdR0_s hf
              have J234_99 : z_99 = .inr () → ∀ (H : Heap) (locs : List Loc), WX D A s (mW h ad cA G) H locs → ∀ ls : Array Slot, lv_has ls 1 [(0, .ref h)] → W p l e (mR 3) s m args below meth c H locs 0 0 (MQ below (mQ D cA h ad A (some (.int r)) G) args s 0 0 A) (F0 m 234 ls []) := by
                clear hj
                intro hz
                have hf := hzr_99 hz
                intro H locs Y ls hl
                refine lv_aload_n hx hb dX2_wordOf_234 rfl (lv_at hl 0 rfl) ?_
                refine lv_iconst (v := (4 : Int32)) hx hb dX2_wordOf_235 (by decide) ?_
                refine lv_iconst (v := (0 : Int32)) hx hb dX2_wordOf_236 (by decide) ?_
                refine lv_bipush (v := (107 : Int32)) hx hb dX2_wordOf_237 (by decide) ?_
                refine lv_bipush (v := (105 : Int32)) hx hb dX2_wordOf_239 (by decide) ?_
                refine lv_bipush (v := (110 : Int32)) hx hb dX2_wordOf_241 (by decide) ?_
                obtain ⟨r_40, hq_41, hf⟩ := bd1_s hf
                refine mcI (av := [.int (4 : Int32), .int (0 : Int32), .int (107 : Int32), .int (105 : Int32), .int (110 : Int32)]) (rest := []) 5 X Y (tX2_spells l N G (4 : Int32) (0 : Int32) (107 : Int32) (105 : Int32) (110 : Int32) r_40 hq_41) (lw_V q1262 q1264 qs36 q70 q1265) ydX2_spells ⟨rfl, rfl, by decide, by decide⟩ rfl hl.1 rfl (Nat.le_of_ble_eq_true rfl) ⟨Nat.zero_le _, Nat.zero_le _⟩ dX2_wordOf_243 (fun H locs Y => ?_)
                refine lv_if_eq (tgt := 267) hx hb dX2_wordOf_246 (by decide) (fun c_42 => ?_) (fun c_42 => ?_)
                · rw [if_pos c_42] at hf
                  refine lv_aload_n hx hb dX2_wordOf_267 rfl (lv_at hl 0 rfl) ?_
                  obtain ⟨r_43, hq_44, hf⟩ := bd1_s hf
                  refine mcI (av := []) (rest := []) 0 X Y (tX2_otherWord l N G r_43 hq_44) (lw_V q1266 q1268 qs37 q70 q1269) ydX2_otherWord ⟨rfl, rfl, by decide, by decide⟩ rfl hl.1 rfl (Nat.le_of_ble_eq_true rfl) ⟨Nat.zero_le _, Nat.zero_le _⟩ dX2_wordOf_268 (fun H locs Y => ?_)
                  cases hf
                  have hf := hzl_94 _ rfl
                  cases hf
                  exact m_iret X Y dX2_wordOf_271
                · rw [if_neg c_42] at hf
                  refine lv_aload_n hx hb dX2_wordOf_249 rfl (lv_at hl 0 rfl) ?_
                  refine lv_iconst (v := (4 : Int32)) hx hb dX2_wordOf_250 (by decide) ?_
                  refine lv_iconst (v := (1 : Int32)) hx hb dX2_wordOf_251 (by decide) ?_
                  refine lv_bipush (v := (105 : Int32)) hx hb dX2_wordOf_252 (by decide) ?_
                  refine lv_bipush (v := (110 : Int32)) hx hb dX2_wordOf_254 (by decide) ?_
                  cases hf
                  exact J256_94 rfl _ _ Y _ (lv_sub hl [0] rfl)
              replace hf := hj
              clear hj
              refine lv_if_eq (tgt := 234) hx hb dX2_wordOf_212 (by decide) (fun c_36 => ?_) (fun c_36 => ?_)
              · rw [if_pos c_36] at hf
                cases hf
                exact J234_99 rfl _ _ Y _ (lv_sub hl [0] rfl)
              · rw [if_neg c_36] at hf
                refine lv_aload_n hx hb dX2_wordOf_215 rfl (lv_at hl 0 rfl) ?_
                refine lv_bipush (v := (6 : Int32)) hx hb dX2_wordOf_216 (by decide) ?_
                refine lv_iconst (v := (3 : Int32)) hx hb dX2_wordOf_218 (by decide) ?_
                refine lv_bipush (v := (105 : Int32)) hx hb dX2_wordOf_219 (by decide) ?_
                refine lv_bipush (v := (114 : Int32)) hx hb dX2_wordOf_221 (by decide) ?_
                refine lv_bipush (v := (101 : Int32)) hx hb dX2_wordOf_223 (by decide) ?_
                obtain ⟨r_37, hq_38, hf⟩ := bd1_s hf
                refine mcI (av := [.int (6 : Int32), .int (3 : Int32), .int (105 : Int32), .int (114 : Int32), .int (101 : Int32)]) (rest := []) 5 X Y (tX2_spells l N G (6 : Int32) (3 : Int32) (105 : Int32) (114 : Int32) (101 : Int32) r_37 hq_38) (lw_V q1262 q1264 qs36 q70 q1265) ydX2_spells ⟨rfl, rfl, by decide, by decide⟩ rfl hl.1 rfl (Nat.le_of_ble_eq_true rfl) ⟨Nat.zero_le _, Nat.zero_le _⟩ dX2_wordOf_225 (fun H locs Y => ?_)
                refine lv_if_eq (tgt := 234) hx hb dX2_wordOf_228 (by decide) (fun c_39 => ?_) (fun c_39 => ?_)
                · rw [if_pos c_39] at hf
                  cases hf
                  exact J234_99 rfl _ _ Y _ (lv_sub hl [0] rfl)
                · rw [if_neg c_39] at hf
                  refine lv_bipush (v := (8 : Int32)) hx hb dX2_wordOf_231 (by decide) ?_
                  cases hf
                  have hf := hzl_99 _ rfl
                  cases hf
                  have hf := hzl_94 _ rfl
                  cases hf
                  exact m_iret X Y dX2_wordOf_233
            replace hf := hj
            clear hj
            refine lv_if_eq (tgt := 199) hx hb dX2_wordOf_177 (by decide) (fun c_30 => ?_) (fun c_30 => ?_)
            · rw [if_pos c_30] at hf
              cases hf
              exact J199_98 rfl _ _ Y _ (lv_sub hl [0] rfl)
            · rw [if_neg c_30] at hf
              refine lv_aload_n hx hb dX2_wordOf_180 rfl (lv_at hl 0 rfl) ?_
              refine lv_bipush (v := (6 : Int32)) hx hb dX2_wordOf_181 (by decide) ?_
              refine lv_iconst (v := (3 : Int32)) hx hb dX2_wordOf_183 (by decide) ?_
              refine lv_bipush (v := (103 : Int32)) hx hb dX2_wordOf_184 (by decide) ?_
              refine lv_bipush (v := (104 : Int32)) hx hb dX2_wordOf_186 (by decide) ?_
              refine lv_bipush (v := (116 : Int32)) hx hb dX2_wordOf_188 (by decide) ?_
              obtain ⟨r_31, hq_32, hf⟩ := bd1_s hf
              refine mcI (av := [.int (6 : Int32), .int (3 : Int32), .int (103 : Int32), .int (104 : Int32), .int (116 : Int32)]) (rest := []) 5 X Y (tX2_spells l N G (6 : Int32) (3 : Int32) (103 : Int32) (104 : Int32) (116 : Int32) r_31 hq_32) (lw_V q1262 q1264 qs36 q70 q1265) ydX2_spells ⟨rfl, rfl, by decide, by decide⟩ rfl hl.1 rfl (Nat.le_of_ble_eq_true rfl) ⟨Nat.zero_le _, Nat.zero_le _⟩ dX2_wordOf_190 (fun H locs Y => ?_)
              refine lv_if_eq (tgt := 199) hx hb dX2_wordOf_193 (by decide) (fun c_33 => ?_) (fun c_33 => ?_)
              · rw [if_pos c_33] at hf
                cases hf
                exact J199_98 rfl _ _ Y _ (lv_sub hl [0] rfl)
              · rw [if_neg c_33] at hf
                refine lv_bipush (v := (7 : Int32)) hx hb dX2_wordOf_196 (by decide) ?_
                cases hf
                have hf := hzl_98 _ rfl
                cases hf
                have hf := hzl_94 _ rfl
                cases hf
                exact m_iret X Y dX2_wordOf_198
          replace hf := hj
          clear hj
          refine lv_if_eq (tgt := 164) hx hb dX2_wordOf_126 (by decide) (fun c_21 => ?_) (fun c_21 => ?_)
          · rw [if_pos c_21] at hf
            cases hf
            exact J164_97 rfl _ _ Y _ (lv_sub hl [0] rfl)
          · rw [if_neg c_21] at hf
            refine lv_aload_n hx hb dX2_wordOf_129 rfl (lv_at hl 0 rfl) ?_
            refine lv_bipush (v := (8 : Int32)) hx hb dX2_wordOf_130 (by decide) ?_
            refine lv_iconst (v := (3 : Int32)) hx hb dX2_wordOf_132 (by decide) ?_
            refine lv_bipush (v := (114 : Int32)) hx hb dX2_wordOf_133 (by decide) ?_
            refine lv_bipush (v := (110 : Int32)) hx hb dX2_wordOf_135 (by decide) ?_
            refine lv_bipush (v := (105 : Int32)) hx hb dX2_wordOf_137 (by decide) ?_
            obtain ⟨r_22, hq_23, hf⟩ := bd1_s hf
            refine mcI (av := [.int (8 : Int32), .int (3 : Int32), .int (114 : Int32), .int (110 : Int32), .int (105 : Int32)]) (rest := []) 5 X Y (tX2_spells l N G (8 : Int32) (3 : Int32) (114 : Int32) (110 : Int32) (105 : Int32) r_22 hq_23) (lw_V q1262 q1264 qs36 q70 q1265) ydX2_spells ⟨rfl, rfl, by decide, by decide⟩ rfl hl.1 rfl (Nat.le_of_ble_eq_true rfl) ⟨Nat.zero_le _, Nat.zero_le _⟩ dX2_wordOf_139 (fun H locs Y => ?_)
            refine lv_if_eq (tgt := 164) hx hb dX2_wordOf_142 (by decide) (fun c_24 => ?_) (fun c_24 => ?_)
            · rw [if_pos c_24] at hf
              cases hf
              exact J164_97 rfl _ _ Y _ (lv_sub hl [0] rfl)
            · rw [if_neg c_24] at hf
              refine lv_aload_n hx hb dX2_wordOf_145 rfl (lv_at hl 0 rfl) ?_
              refine lv_bipush (v := (8 : Int32)) hx hb dX2_wordOf_146 (by decide) ?_
              refine lv_iconst (v := (5 : Int32)) hx hb dX2_wordOf_148 (by decide) ?_
              refine lv_bipush (v := (105 : Int32)) hx hb dX2_wordOf_149 (by decide) ?_
              refine lv_bipush (v := (110 : Int32)) hx hb dX2_wordOf_151 (by decide) ?_
              refine lv_bipush (v := (103 : Int32)) hx hb dX2_wordOf_153 (by decide) ?_
              obtain ⟨r_25, hq_26, hf⟩ := bd1_s hf
              refine mcI (av := [.int (8 : Int32), .int (5 : Int32), .int (105 : Int32), .int (110 : Int32), .int (103 : Int32)]) (rest := []) 5 X Y (tX2_spells l N G (8 : Int32) (5 : Int32) (105 : Int32) (110 : Int32) (103 : Int32) r_25 hq_26) (lw_V q1262 q1264 qs36 q70 q1265) ydX2_spells ⟨rfl, rfl, by decide, by decide⟩ rfl hl.1 rfl (Nat.le_of_ble_eq_true rfl) ⟨Nat.zero_le _, Nat.zero_le _⟩ dX2_wordOf_155 (fun H locs Y => ?_)
              refine lv_if_eq (tgt := 164) hx hb dX2_wordOf_158 (by decide) (fun c_27 => ?_) (fun c_27 => ?_)
              · rw [if_pos c_27] at hf
                cases hf
                exact J164_97 rfl _ _ Y _ (lv_sub hl [0] rfl)
              · rw [if_neg c_27] at hf
                refine lv_bipush (v := (6 : Int32)) hx hb dX2_wordOf_161 (by decide) ?_
                cases hf
                have hf := hzl_97 _ rfl
                cases hf
                have hf := hzl_94 _ rfl
                cases hf
                exact m_iret X Y dX2_wordOf_163
        · rw [if_neg c_18] at hf
          refine lv_iconst (v := (5 : Int32)) hx hb dX2_wordOf_111 (by decide) ?_
          cases hf
          have hf := hzl_94 _ rfl
          cases hf
          exact m_iret X Y dX2_wordOf_112
      replace hf := hj
      clear hj
      refine lv_if_eq (tgt := 96) hx hb dX2_wordOf_76 (by decide) (fun c_12 => ?_) (fun c_12 => ?_)
      · rw [if_pos c_12] at hf
        cases hf
        exact J96_96 rfl _ _ Y _ (lv_sub hl [0] rfl)
      · rw [if_neg c_12] at hf
        refine lv_aload_n hx hb dX2_wordOf_79 rfl (lv_at hl 0 rfl) ?_
        refine lv_iconst (v := (4 : Int32)) hx hb dX2_wordOf_80 (by decide) ?_
        refine lv_iconst (v := (1 : Int32)) hx hb dX2_wordOf_81 (by decide) ?_
        refine lv_bipush (v := (101 : Int32)) hx hb dX2_wordOf_82 (by decide) ?_
        refine lv_bipush (v := (101 : Int32)) hx hb dX2_wordOf_84 (by decide) ?_
        refine lv_bipush (v := (107 : Int32)) hx hb dX2_wordOf_86 (by decide) ?_
        obtain ⟨r_13, hq_14, hf⟩ := bd1_s hf
        refine mcI (av := [.int (4 : Int32), .int (1 : Int32), .int (101 : Int32), .int (101 : Int32), .int (107 : Int32)]) (rest := []) 5 X Y (tX2_spells l N G (4 : Int32) (1 : Int32) (101 : Int32) (101 : Int32) (107 : Int32) r_13 hq_14) (lw_V q1262 q1264 qs36 q70 q1265) ydX2_spells ⟨rfl, rfl, by decide, by decide⟩ rfl hl.1 rfl (Nat.le_of_ble_eq_true rfl) ⟨Nat.zero_le _, Nat.zero_le _⟩ dX2_wordOf_88 (fun H locs Y => ?_)
        refine lv_if_eq (tgt := 96) hx hb dX2_wordOf_91 (by decide) (fun c_15 => ?_) (fun c_15 => ?_)
        · rw [if_pos c_15] at hf
          cases hf
          exact J96_96 rfl _ _ Y _ (lv_sub hl [0] rfl)
        · rw [if_neg c_15] at hf
          refine lv_iconst (v := (4 : Int32)) hx hb dX2_wordOf_94 (by decide) ?_
          cases hf
          have hf := hzl_96 _ rfl
          cases hf
          have hf := hzl_94 _ rfl
          cases hf
          exact m_iret X Y dX2_wordOf_95
    replace hf := hj
    clear hj
    refine lv_if_eq (tgt := 64) hx hb dX2_wordOf_44 (by decide) (fun c_6 => ?_) (fun c_6 => ?_)
    · rw [if_pos c_6] at hf
      cases hf
      exact J64_95 rfl _ _ Y _ (lv_sub hl [0] rfl)
    · rw [if_neg c_6] at hf
      refine lv_aload_n hx hb dX2_wordOf_47 rfl (lv_at hl 0 rfl) ?_
      refine lv_iconst (v := (4 : Int32)) hx hb dX2_wordOf_48 (by decide) ?_
      refine lv_iconst (v := (1 : Int32)) hx hb dX2_wordOf_49 (by decide) ?_
      refine lv_bipush (v := (111 : Int32)) hx hb dX2_wordOf_50 (by decide) ?_
      refine lv_bipush (v := (108 : Int32)) hx hb dX2_wordOf_52 (by decide) ?_
      refine lv_bipush (v := (100 : Int32)) hx hb dX2_wordOf_54 (by decide) ?_
      obtain ⟨r_7, hq_8, hf⟩ := bd1_s hf
      refine mcI (av := [.int (4 : Int32), .int (1 : Int32), .int (111 : Int32), .int (108 : Int32), .int (100 : Int32)]) (rest := []) 5 X Y (tX2_spells l N G (4 : Int32) (1 : Int32) (111 : Int32) (108 : Int32) (100 : Int32) r_7 hq_8) (lw_V q1262 q1264 qs36 q70 q1265) ydX2_spells ⟨rfl, rfl, by decide, by decide⟩ rfl hl.1 rfl (Nat.le_of_ble_eq_true rfl) ⟨Nat.zero_le _, Nat.zero_le _⟩ dX2_wordOf_56 (fun H locs Y => ?_)
      refine lv_if_eq (tgt := 64) hx hb dX2_wordOf_59 (by decide) (fun c_9 => ?_) (fun c_9 => ?_)
      · rw [if_pos c_9] at hf
        cases hf
        exact J64_95 rfl _ _ Y _ (lv_sub hl [0] rfl)
      · rw [if_neg c_9] at hf
        refine lv_iconst (v := (3 : Int32)) hx hb dX2_wordOf_62 (by decide) ?_
        cases hf
        have hf := hzl_95 _ rfl
        cases hf
        have hf := hzl_94 _ rfl
        cases hf
        exact m_iret X Y dX2_wordOf_63
  · rw [if_neg c_3] at hf
    refine lv_aload_n hx hb dX2_wordOf_15 rfl (lv_at hl 0 rfl) ?_
    refine lv_iconst (v := (5 : Int32)) hx hb dX2_wordOf_16 (by decide) ?_
    refine lv_iconst (v := (2 : Int32)) hx hb dX2_wordOf_17 (by decide) ?_
    refine lv_bipush (v := (98 : Int32)) hx hb dX2_wordOf_18 (by decide) ?_
    refine lv_bipush (v := (108 : Int32)) hx hb dX2_wordOf_20 (by decide) ?_
    refine lv_bipush (v := (101 : Int32)) hx hb dX2_wordOf_22 (by decide) ?_
    obtain ⟨r_45, hq_46, hf⟩ := bd1_s hf
    refine mcI (av := [.int (5 : Int32), .int (2 : Int32), .int (98 : Int32), .int (108 : Int32), .int (101 : Int32)]) (rest := []) 5 X Y (tX2_spells l N G (5 : Int32) (2 : Int32) (98 : Int32) (108 : Int32) (101 : Int32) r_45 hq_46) (lw_V q1262 q1264 qs36 q70 q1265) ydX2_spells ⟨rfl, rfl, by decide, by decide⟩ rfl hl.1 rfl (Nat.le_of_ble_eq_true rfl) ⟨Nat.zero_le _, Nat.zero_le _⟩ dX2_wordOf_24 (fun H locs Y => ?_)
    refine lv_if_eq (tgt := 32) hx hb dX2_wordOf_27 (by decide) (fun c_47 => ?_) (fun c_47 => ?_)
    · rw [if_pos c_47] at hf
      refine lv_aload_n hx hb dX2_wordOf_32 rfl (lv_at hl 0 rfl) ?_
      refine lv_iconst (v := (4 : Int32)) hx hb dX2_wordOf_33 (by decide) ?_
      refine lv_iconst (v := (0 : Int32)) hx hb dX2_wordOf_34 (by decide) ?_
      refine lv_bipush (v := (103 : Int32)) hx hb dX2_wordOf_35 (by decide) ?_
      refine lv_bipush (v := (111 : Int32)) hx hb dX2_wordOf_37 (by decide) ?_
      refine lv_bipush (v := (108 : Int32)) hx hb dX2_wordOf_39 (by decide) ?_
      obtain ⟨r_48, hq_49, hf⟩ := bd1_s hf
      refine mcI (av := [.int (4 : Int32), .int (0 : Int32), .int (103 : Int32), .int (111 : Int32), .int (108 : Int32)]) (rest := []) 5 X Y (tX2_spells l N G (4 : Int32) (0 : Int32) (103 : Int32) (111 : Int32) (108 : Int32) r_48 hq_49) (lw_V q1262 q1264 qs36 q70 q1265) ydX2_spells ⟨rfl, rfl, by decide, by decide⟩ rfl hl.1 rfl (Nat.le_of_ble_eq_true rfl) ⟨Nat.zero_le _, Nat.zero_le _⟩ dX2_wordOf_41 (fun H locs Y => ?_)
      obtain ⟨z_100, hj, hzl_100, hzr_100⟩ := bdR0_s hf
      have J64_100 : z_100 = .inr () → ∀ (H : Heap) (locs : List Loc), WX D A s (mW h ad cA G) H locs → ∀ ls : Array Slot, lv_has ls 1 [(0, .ref h)] → W p l e (mR 3) s m args below meth c H locs 0 0 (MQ below (mQ D cA h ad A (some (.int r)) G) args s 0 0 A) (F0 m 64 ls []) := by
        clear hj
        intro hz
        have hf := hzr_100 hz
        intro H locs Y ls hl
        refine lv_aload_n hx hb dX2_wordOf_64 rfl (lv_at hl 0 rfl) ?_
        refine lv_iconst (v := (4 : Int32)) hx hb dX2_wordOf_65 (by decide) ?_
        refine lv_iconst (v := (0 : Int32)) hx hb dX2_wordOf_66 (by decide) ?_
        refine lv_bipush (v := (109 : Int32)) hx hb dX2_wordOf_67 (by decide) ?_
        refine lv_bipush (v := (101 : Int32)) hx hb dX2_wordOf_69 (by decide) ?_
        refine lv_bipush (v := (101 : Int32)) hx hb dX2_wordOf_71 (by decide) ?_
        obtain ⟨r_54, hq_55, hf⟩ := bd1_s hf
        refine mcI (av := [.int (4 : Int32), .int (0 : Int32), .int (109 : Int32), .int (101 : Int32), .int (101 : Int32)]) (rest := []) 5 X Y (tX2_spells l N G (4 : Int32) (0 : Int32) (109 : Int32) (101 : Int32) (101 : Int32) r_54 hq_55) (lw_V q1262 q1264 qs36 q70 q1265) ydX2_spells ⟨rfl, rfl, by decide, by decide⟩ rfl hl.1 rfl (Nat.le_of_ble_eq_true rfl) ⟨Nat.zero_le _, Nat.zero_le _⟩ dX2_wordOf_73 (fun H locs Y => ?_)
        obtain ⟨z_101, hj, hzl_101, hzr_101⟩ := bdR0_s hf
        have J96_101 : z_101 = .inr () → ∀ (H : Heap) (locs : List Loc), WX D A s (mW h ad cA G) H locs → ∀ ls : Array Slot, lv_has ls 1 [(0, .ref h)] → W p l e (mR 3) s m args below meth c H locs 0 0 (MQ below (mQ D cA h ad A (some (.int r)) G) args s 0 0 A) (F0 m 96 ls []) := by
          clear hj
          intro hz
          have hf := hzr_101 hz
          intro H locs Y ls hl
          refine lv_aload_n hx hb dX2_wordOf_96 rfl (lv_at hl 0 rfl) ?_
          refine lv_iconst (v := (3 : Int32)) hx hb dX2_wordOf_97 (by decide) ?_
          refine lv_iconst (v := (0 : Int32)) hx hb dX2_wordOf_98 (by decide) ?_
          refine lv_bipush (v := (107 : Int32)) hx hb dX2_wordOf_99 (by decide) ?_
          refine lv_bipush (v := (105 : Int32)) hx hb dX2_wordOf_101 (by decide) ?_
          refine lv_bipush (v := (110 : Int32)) hx hb dX2_wordOf_103 (by decide) ?_
          obtain ⟨r_60, hq_61, hf⟩ := bd1_s hf
          refine mcI (av := [.int (3 : Int32), .int (0 : Int32), .int (107 : Int32), .int (105 : Int32), .int (110 : Int32)]) (rest := []) 5 X Y (tX2_spells l N G (3 : Int32) (0 : Int32) (107 : Int32) (105 : Int32) (110 : Int32) r_60 hq_61) (lw_V q1262 q1264 qs36 q70 q1265) ydX2_spells ⟨rfl, rfl, by decide, by decide⟩ rfl hl.1 rfl (Nat.le_of_ble_eq_true rfl) ⟨Nat.zero_le _, Nat.zero_le _⟩ dX2_wordOf_105 (fun H locs Y => ?_)
          refine lv_if_eq (tgt := 113) hx hb dX2_wordOf_108 (by decide) (fun c_62 => ?_) (fun c_62 => ?_)
          · rw [if_pos c_62] at hf
            refine lv_aload_n hx hb dX2_wordOf_113 rfl (lv_at hl 0 rfl) ?_
            refine lv_bipush (v := (8 : Int32)) hx hb dX2_wordOf_114 (by decide) ?_
            refine lv_iconst (v := (0 : Int32)) hx hb dX2_wordOf_116 (by decide) ?_
            refine lv_bipush (v := (109 : Int32)) hx hb dX2_wordOf_117 (by decide) ?_
            refine lv_bipush (v := (111 : Int32)) hx hb dX2_wordOf_119 (by decide) ?_
            refine lv_bipush (v := (117 : Int32)) hx hb dX2_wordOf_121 (by decide) ?_
            obtain ⟨r_63, hq_64, hf⟩ := bd1_s hf
            refine mcI (av := [.int (8 : Int32), .int (0 : Int32), .int (109 : Int32), .int (111 : Int32), .int (117 : Int32)]) (rest := []) 5 X Y (tX2_spells l N G (8 : Int32) (0 : Int32) (109 : Int32) (111 : Int32) (117 : Int32) r_63 hq_64) (lw_V q1262 q1264 qs36 q70 q1265) ydX2_spells ⟨rfl, rfl, by decide, by decide⟩ rfl hl.1 rfl (Nat.le_of_ble_eq_true rfl) ⟨Nat.zero_le _, Nat.zero_le _⟩ dX2_wordOf_123 (fun H locs Y => ?_)
            obtain ⟨z_102, hj, hzl_102, hzr_102⟩ := bdR0_s hf
            have J164_102 : z_102 = .inr () → ∀ (H : Heap) (locs : List Loc), WX D A s (mW h ad cA G) H locs → ∀ ls : Array Slot, lv_has ls 1 [(0, .ref h)] → W p l e (mR 3) s m args below meth c H locs 0 0 (MQ below (mQ D cA h ad A (some (.int r)) G) args s 0 0 A) (F0 m 164 ls []) := by
              clear hj
              intro hz
              have hf := hzr_102 hz
              intro H locs Y ls hl
              refine lv_aload_n hx hb dX2_wordOf_164 rfl (lv_at hl 0 rfl) ?_
              refine lv_bipush (v := (6 : Int32)) hx hb dX2_wordOf_165 (by decide) ?_
              refine lv_iconst (v := (0 : Int32)) hx hb dX2_wordOf_167 (by decide) ?_
              refine lv_bipush (v := (107 : Int32)) hx hb dX2_wordOf_168 (by decide) ?_
              refine lv_bipush (v := (110 : Int32)) hx hb dX2_wordOf_170 (by decide) ?_
              refine lv_bipush (v := (105 : Int32)) hx hb dX2_wordOf_172 (by decide) ?_
              obtain ⟨r_72, hq_73, hf⟩ := bd1_s hf
              refine mcI (av := [.int (6 : Int32), .int (0 : Int32), .int (107 : Int32), .int (110 : Int32), .int (105 : Int32)]) (rest := []) 5 X Y (tX2_spells l N G (6 : Int32) (0 : Int32) (107 : Int32) (110 : Int32) (105 : Int32) r_72 hq_73) (lw_V q1262 q1264 qs36 q70 q1265) ydX2_spells ⟨rfl, rfl, by decide, by decide⟩ rfl hl.1 rfl (Nat.le_of_ble_eq_true rfl) ⟨Nat.zero_le _, Nat.zero_le _⟩ dX2_wordOf_174 (fun H locs Y => ?_)
              obtain ⟨z_103, hj, hzl_103, hzr_103⟩ := bdR0_s hf
              have J199_103 : z_103 = .inr () → ∀ (H : Heap) (locs : List Loc), WX D A s (mW h ad cA G) H locs → ∀ ls : Array Slot, lv_has ls 1 [(0, .ref h)] → W p l e (mR 3) s m args below meth c H locs 0 0 (MQ below (mQ D cA h ad A (some (.int r)) G) args s 0 0 A) (F0 m 199 ls []) := by
                clear hj
                intro hz
                have hf := hzr_103 hz
                intro H locs Y ls hl
                refine lv_aload_n hx hb dX2_wordOf_199 rfl (lv_at hl 0 rfl) ?_
                refine lv_bipush (v := (6 : Int32)) hx hb dX2_wordOf_200 (by decide) ?_
                refine lv_iconst (v := (0 : Int32)) hx hb dX2_wordOf_202 (by decide) ?_
                refine lv_bipush (v := (115 : Int32)) hx hb dX2_wordOf_203 (by decide) ?_
                refine lv_bipush (v := (113 : Int32)) hx hb dX2_wordOf_205 (by decide) ?_
                refine lv_bipush (v := (117 : Int32)) hx hb dX2_wordOf_207 (by decide) ?_
                obtain ⟨r_78, hq_79, hf⟩ := bd1_s hf
                refine mcI (av := [.int (6 : Int32), .int (0 : Int32), .int (115 : Int32), .int (113 : Int32), .int (117 : Int32)]) (rest := []) 5 X Y (tX2_spells l N G (6 : Int32) (0 : Int32) (115 : Int32) (113 : Int32) (117 : Int32) r_78 hq_79) (lw_V q1262 q1264 qs36 q70 q1265) ydX2_spells ⟨rfl, rfl, by decide, by decide⟩ rfl hl.1 rfl (Nat.le_of_ble_eq_true rfl) ⟨Nat.zero_le _, Nat.zero_le _⟩ dX2_wordOf_209 (fun H locs Y => ?_)
                obtain ⟨z_104, hj, hzl_104, hzr_104⟩ := bdR0_s hf
                have J234_104 : z_104 = .inr () → ∀ (H : Heap) (locs : List Loc), WX D A s (mW h ad cA G) H locs → ∀ ls : Array Slot, lv_has ls 1 [(0, .ref h)] → W p l e (mR 3) s m args below meth c H locs 0 0 (MQ below (mQ D cA h ad A (some (.int r)) G) args s 0 0 A) (F0 m 234 ls []) := by
                  clear hj
                  intro hz
                  have hf := hzr_104 hz
                  intro H locs Y ls hl
                  refine lv_aload_n hx hb dX2_wordOf_234 rfl (lv_at hl 0 rfl) ?_
                  refine lv_iconst (v := (4 : Int32)) hx hb dX2_wordOf_235 (by decide) ?_
                  refine lv_iconst (v := (0 : Int32)) hx hb dX2_wordOf_236 (by decide) ?_
                  refine lv_bipush (v := (107 : Int32)) hx hb dX2_wordOf_237 (by decide) ?_
                  refine lv_bipush (v := (105 : Int32)) hx hb dX2_wordOf_239 (by decide) ?_
                  refine lv_bipush (v := (110 : Int32)) hx hb dX2_wordOf_241 (by decide) ?_
                  obtain ⟨r_84, hq_85, hf⟩ := bd1_s hf
                  refine mcI (av := [.int (4 : Int32), .int (0 : Int32), .int (107 : Int32), .int (105 : Int32), .int (110 : Int32)]) (rest := []) 5 X Y (tX2_spells l N G (4 : Int32) (0 : Int32) (107 : Int32) (105 : Int32) (110 : Int32) r_84 hq_85) (lw_V q1262 q1264 qs36 q70 q1265) ydX2_spells ⟨rfl, rfl, by decide, by decide⟩ rfl hl.1 rfl (Nat.le_of_ble_eq_true rfl) ⟨Nat.zero_le _, Nat.zero_le _⟩ dX2_wordOf_243 (fun H locs Y => ?_)
                  refine lv_if_eq (tgt := 267) hx hb dX2_wordOf_246 (by decide) (fun c_86 => ?_) (fun c_86 => ?_)
                  · rw [if_pos c_86] at hf
                    refine lv_aload_n hx hb dX2_wordOf_267 rfl (lv_at hl 0 rfl) ?_
                    obtain ⟨r_87, hq_88, hf⟩ := bd1_s hf
                    refine mcI (av := []) (rest := []) 0 X Y (tX2_otherWord l N G r_87 hq_88) (lw_V q1266 q1268 qs37 q70 q1269) ydX2_otherWord ⟨rfl, rfl, by decide, by decide⟩ rfl hl.1 rfl (Nat.le_of_ble_eq_true rfl) ⟨Nat.zero_le _, Nat.zero_le _⟩ dX2_wordOf_268 (fun H locs Y => ?_)
                    cases hf
                    have hf := hzl_94 _ rfl
                    cases hf
                    exact m_iret X Y dX2_wordOf_271
                  · rw [if_neg c_86] at hf
                    refine lv_aload_n hx hb dX2_wordOf_249 rfl (lv_at hl 0 rfl) ?_
                    refine lv_iconst (v := (4 : Int32)) hx hb dX2_wordOf_250 (by decide) ?_
                    refine lv_iconst (v := (1 : Int32)) hx hb dX2_wordOf_251 (by decide) ?_
                    refine lv_bipush (v := (105 : Int32)) hx hb dX2_wordOf_252 (by decide) ?_
                    refine lv_bipush (v := (110 : Int32)) hx hb dX2_wordOf_254 (by decide) ?_
                    cases hf
                    exact J256_94 rfl _ _ Y _ (lv_sub hl [0] rfl)
                replace hf := hj
                clear hj
                refine lv_if_eq (tgt := 234) hx hb dX2_wordOf_212 (by decide) (fun c_80 => ?_) (fun c_80 => ?_)
                · rw [if_pos c_80] at hf
                  cases hf
                  exact J234_104 rfl _ _ Y _ (lv_sub hl [0] rfl)
                · rw [if_neg c_80] at hf
                  refine lv_aload_n hx hb dX2_wordOf_215 rfl (lv_at hl 0 rfl) ?_
                  refine lv_bipush (v := (6 : Int32)) hx hb dX2_wordOf_216 (by decide) ?_
                  refine lv_iconst (v := (3 : Int32)) hx hb dX2_wordOf_218 (by decide) ?_
                  refine lv_bipush (v := (105 : Int32)) hx hb dX2_wordOf_219 (by decide) ?_
                  refine lv_bipush (v := (114 : Int32)) hx hb dX2_wordOf_221 (by decide) ?_
                  refine lv_bipush (v := (101 : Int32)) hx hb dX2_wordOf_223 (by decide) ?_
                  obtain ⟨r_81, hq_82, hf⟩ := bd1_s hf
                  refine mcI (av := [.int (6 : Int32), .int (3 : Int32), .int (105 : Int32), .int (114 : Int32), .int (101 : Int32)]) (rest := []) 5 X Y (tX2_spells l N G (6 : Int32) (3 : Int32) (105 : Int32) (114 : Int32) (101 : Int32) r_81 hq_82) (lw_V q1262 q1264 qs36 q70 q1265) ydX2_spells ⟨rfl, rfl, by decide, by decide⟩ rfl hl.1 rfl (Nat.le_of_ble_eq_true rfl) ⟨Nat.zero_le _, Nat.zero_le _⟩ dX2_wordOf_225 (fun H locs Y => ?_)
                  refine lv_if_eq (tgt := 234) hx hb dX2_wordOf_228 (by decide) (fun c_83 => ?_) (fun c_83 => ?_)
                  · rw [if_pos c_83] at hf
                    cases hf
                    exact J234_104 rfl _ _ Y _ (lv_sub hl [0] rfl)
                  · rw [if_neg c_83] at hf
                    refine lv_bipush (v := (8 : Int32)) hx hb dX2_wordOf_231 (by decide) ?_
                    cases hf
                    have hf := hzl_104 _ rfl
                    cases hf
                    have hf := hzl_94 _ rfl
                    cases hf
                    exact m_iret X Y dX2_wordOf_233
              replace hf := hj
              clear hj
              refine lv_if_eq (tgt := 199) hx hb dX2_wordOf_177 (by decide) (fun c_74 => ?_) (fun c_74 => ?_)
              · rw [if_pos c_74] at hf
                cases hf
                exact J199_103 rfl _ _ Y _ (lv_sub hl [0] rfl)
              · rw [if_neg c_74] at hf
                refine lv_aload_n hx hb dX2_wordOf_180 rfl (lv_at hl 0 rfl) ?_
                refine lv_bipush (v := (6 : Int32)) hx hb dX2_wordOf_181 (by decide) ?_
                refine lv_iconst (v := (3 : Int32)) hx hb dX2_wordOf_183 (by decide) ?_
                refine lv_bipush (v := (103 : Int32)) hx hb dX2_wordOf_184 (by decide) ?_
                refine lv_bipush (v := (104 : Int32)) hx hb dX2_wordOf_186 (by decide) ?_
                refine lv_bipush (v := (116 : Int32)) hx hb dX2_wordOf_188 (by decide) ?_
                obtain ⟨r_75, hq_76, hf⟩ := bd1_s hf
                refine mcI (av := [.int (6 : Int32), .int (3 : Int32), .int (103 : Int32), .int (104 : Int32), .int (116 : Int32)]) (rest := []) 5 X Y (tX2_spells l N G (6 : Int32) (3 : Int32) (103 : Int32) (104 : Int32) (116 : Int32) r_75 hq_76) (lw_V q1262 q1264 qs36 q70 q1265) ydX2_spells ⟨rfl, rfl, by decide, by decide⟩ rfl hl.1 rfl (Nat.le_of_ble_eq_true rfl) ⟨Nat.zero_le _, Nat.zero_le _⟩ dX2_wordOf_190 (fun H locs Y => ?_)
                refine lv_if_eq (tgt := 199) hx hb dX2_wordOf_193 (by decide) (fun c_77 => ?_) (fun c_77 => ?_)
                · rw [if_pos c_77] at hf
                  cases hf
                  exact J199_103 rfl _ _ Y _ (lv_sub hl [0] rfl)
                · rw [if_neg c_77] at hf
                  refine lv_bipush (v := (7 : Int32)) hx hb dX2_wordOf_196 (by decide) ?_
                  cases hf
                  have hf := hzl_103 _ rfl
                  cases hf
                  have hf := hzl_94 _ rfl
                  cases hf
                  exact m_iret X Y dX2_wordOf_198
            replace hf := hj
            clear hj
            refine lv_if_eq (tgt := 164) hx hb dX2_wordOf_126 (by decide) (fun c_65 => ?_) (fun c_65 => ?_)
            · rw [if_pos c_65] at hf
              cases hf
              exact J164_102 rfl _ _ Y _ (lv_sub hl [0] rfl)
            · rw [if_neg c_65] at hf
              refine lv_aload_n hx hb dX2_wordOf_129 rfl (lv_at hl 0 rfl) ?_
              refine lv_bipush (v := (8 : Int32)) hx hb dX2_wordOf_130 (by decide) ?_
              refine lv_iconst (v := (3 : Int32)) hx hb dX2_wordOf_132 (by decide) ?_
              refine lv_bipush (v := (114 : Int32)) hx hb dX2_wordOf_133 (by decide) ?_
              refine lv_bipush (v := (110 : Int32)) hx hb dX2_wordOf_135 (by decide) ?_
              refine lv_bipush (v := (105 : Int32)) hx hb dX2_wordOf_137 (by decide) ?_
              obtain ⟨r_66, hq_67, hf⟩ := bd1_s hf
              refine mcI (av := [.int (8 : Int32), .int (3 : Int32), .int (114 : Int32), .int (110 : Int32), .int (105 : Int32)]) (rest := []) 5 X Y (tX2_spells l N G (8 : Int32) (3 : Int32) (114 : Int32) (110 : Int32) (105 : Int32) r_66 hq_67) (lw_V q1262 q1264 qs36 q70 q1265) ydX2_spells ⟨rfl, rfl, by decide, by decide⟩ rfl hl.1 rfl (Nat.le_of_ble_eq_true rfl) ⟨Nat.zero_le _, Nat.zero_le _⟩ dX2_wordOf_139 (fun H locs Y => ?_)
              refine lv_if_eq (tgt := 164) hx hb dX2_wordOf_142 (by decide) (fun c_68 => ?_) (fun c_68 => ?_)
              · rw [if_pos c_68] at hf
                cases hf
                exact J164_102 rfl _ _ Y _ (lv_sub hl [0] rfl)
              · rw [if_neg c_68] at hf
                refine lv_aload_n hx hb dX2_wordOf_145 rfl (lv_at hl 0 rfl) ?_
                refine lv_bipush (v := (8 : Int32)) hx hb dX2_wordOf_146 (by decide) ?_
                refine lv_iconst (v := (5 : Int32)) hx hb dX2_wordOf_148 (by decide) ?_
                refine lv_bipush (v := (105 : Int32)) hx hb dX2_wordOf_149 (by decide) ?_
                refine lv_bipush (v := (110 : Int32)) hx hb dX2_wordOf_151 (by decide) ?_
                refine lv_bipush (v := (103 : Int32)) hx hb dX2_wordOf_153 (by decide) ?_
                obtain ⟨r_69, hq_70, hf⟩ := bd1_s hf
                refine mcI (av := [.int (8 : Int32), .int (5 : Int32), .int (105 : Int32), .int (110 : Int32), .int (103 : Int32)]) (rest := []) 5 X Y (tX2_spells l N G (8 : Int32) (5 : Int32) (105 : Int32) (110 : Int32) (103 : Int32) r_69 hq_70) (lw_V q1262 q1264 qs36 q70 q1265) ydX2_spells ⟨rfl, rfl, by decide, by decide⟩ rfl hl.1 rfl (Nat.le_of_ble_eq_true rfl) ⟨Nat.zero_le _, Nat.zero_le _⟩ dX2_wordOf_155 (fun H locs Y => ?_)
                refine lv_if_eq (tgt := 164) hx hb dX2_wordOf_158 (by decide) (fun c_71 => ?_) (fun c_71 => ?_)
                · rw [if_pos c_71] at hf
                  cases hf
                  exact J164_102 rfl _ _ Y _ (lv_sub hl [0] rfl)
                · rw [if_neg c_71] at hf
                  refine lv_bipush (v := (6 : Int32)) hx hb dX2_wordOf_161 (by decide) ?_
                  cases hf
                  have hf := hzl_102 _ rfl
                  cases hf
                  have hf := hzl_94 _ rfl
                  cases hf
                  exact m_iret X Y dX2_wordOf_163
          · rw [if_neg c_62] at hf
            refine lv_iconst (v := (5 : Int32)) hx hb dX2_wordOf_111 (by decide) ?_
            cases hf
            have hf := hzl_94 _ rfl
            cases hf
            exact m_iret X Y dX2_wordOf_112
        replace hf := hj
        clear hj
        refine lv_if_eq (tgt := 96) hx hb dX2_wordOf_76 (by decide) (fun c_56 => ?_) (fun c_56 => ?_)
        · rw [if_pos c_56] at hf
          cases hf
          exact J96_101 rfl _ _ Y _ (lv_sub hl [0] rfl)
        · rw [if_neg c_56] at hf
          refine lv_aload_n hx hb dX2_wordOf_79 rfl (lv_at hl 0 rfl) ?_
          refine lv_iconst (v := (4 : Int32)) hx hb dX2_wordOf_80 (by decide) ?_
          refine lv_iconst (v := (1 : Int32)) hx hb dX2_wordOf_81 (by decide) ?_
          refine lv_bipush (v := (101 : Int32)) hx hb dX2_wordOf_82 (by decide) ?_
          refine lv_bipush (v := (101 : Int32)) hx hb dX2_wordOf_84 (by decide) ?_
          refine lv_bipush (v := (107 : Int32)) hx hb dX2_wordOf_86 (by decide) ?_
          obtain ⟨r_57, hq_58, hf⟩ := bd1_s hf
          refine mcI (av := [.int (4 : Int32), .int (1 : Int32), .int (101 : Int32), .int (101 : Int32), .int (107 : Int32)]) (rest := []) 5 X Y (tX2_spells l N G (4 : Int32) (1 : Int32) (101 : Int32) (101 : Int32) (107 : Int32) r_57 hq_58) (lw_V q1262 q1264 qs36 q70 q1265) ydX2_spells ⟨rfl, rfl, by decide, by decide⟩ rfl hl.1 rfl (Nat.le_of_ble_eq_true rfl) ⟨Nat.zero_le _, Nat.zero_le _⟩ dX2_wordOf_88 (fun H locs Y => ?_)
          refine lv_if_eq (tgt := 96) hx hb dX2_wordOf_91 (by decide) (fun c_59 => ?_) (fun c_59 => ?_)
          · rw [if_pos c_59] at hf
            cases hf
            exact J96_101 rfl _ _ Y _ (lv_sub hl [0] rfl)
          · rw [if_neg c_59] at hf
            refine lv_iconst (v := (4 : Int32)) hx hb dX2_wordOf_94 (by decide) ?_
            cases hf
            have hf := hzl_101 _ rfl
            cases hf
            have hf := hzl_94 _ rfl
            cases hf
            exact m_iret X Y dX2_wordOf_95
      replace hf := hj
      clear hj
      refine lv_if_eq (tgt := 64) hx hb dX2_wordOf_44 (by decide) (fun c_50 => ?_) (fun c_50 => ?_)
      · rw [if_pos c_50] at hf
        cases hf
        exact J64_100 rfl _ _ Y _ (lv_sub hl [0] rfl)
      · rw [if_neg c_50] at hf
        refine lv_aload_n hx hb dX2_wordOf_47 rfl (lv_at hl 0 rfl) ?_
        refine lv_iconst (v := (4 : Int32)) hx hb dX2_wordOf_48 (by decide) ?_
        refine lv_iconst (v := (1 : Int32)) hx hb dX2_wordOf_49 (by decide) ?_
        refine lv_bipush (v := (111 : Int32)) hx hb dX2_wordOf_50 (by decide) ?_
        refine lv_bipush (v := (108 : Int32)) hx hb dX2_wordOf_52 (by decide) ?_
        refine lv_bipush (v := (100 : Int32)) hx hb dX2_wordOf_54 (by decide) ?_
        obtain ⟨r_51, hq_52, hf⟩ := bd1_s hf
        refine mcI (av := [.int (4 : Int32), .int (1 : Int32), .int (111 : Int32), .int (108 : Int32), .int (100 : Int32)]) (rest := []) 5 X Y (tX2_spells l N G (4 : Int32) (1 : Int32) (111 : Int32) (108 : Int32) (100 : Int32) r_51 hq_52) (lw_V q1262 q1264 qs36 q70 q1265) ydX2_spells ⟨rfl, rfl, by decide, by decide⟩ rfl hl.1 rfl (Nat.le_of_ble_eq_true rfl) ⟨Nat.zero_le _, Nat.zero_le _⟩ dX2_wordOf_56 (fun H locs Y => ?_)
        refine lv_if_eq (tgt := 64) hx hb dX2_wordOf_59 (by decide) (fun c_53 => ?_) (fun c_53 => ?_)
        · rw [if_pos c_53] at hf
          cases hf
          exact J64_100 rfl _ _ Y _ (lv_sub hl [0] rfl)
        · rw [if_neg c_53] at hf
          refine lv_iconst (v := (3 : Int32)) hx hb dX2_wordOf_62 (by decide) ?_
          cases hf
          have hf := hzl_100 _ rfl
          cases hf
          have hf := hzl_94 _ rfl
          cases hf
          exact m_iret X Y dX2_wordOf_63
    · rw [if_neg c_47] at hf
      refine lv_iconst (v := (1 : Int32)) hx hb dX2_wordOf_30 (by decide) ?_
      cases hf
      have hf := hzl_94 _ rfl
      cases hf
      exact m_iret X Y dX2_wordOf_31

def fX2_number (N : Nat) (G : GS) (a1 : Int32) (a2 : Int32) : Option (Int32 × GS) :=
  bd1 (
   if (G 0 21) = (0 : Int32) then (
    some (0 : Int32)
   ) else (
    if (G 0 19) = (2 : Int32) then (
     bd1 (fX2_in N (G 0 20) a1 a2) fun r_3 =>
     if r_3 = (0 : Int32) then (
      some (0 : Int32)
     ) else (
      some (1 : Int32)
     )
    ) else (
     some (0 : Int32)
    )
   )
  ) fun j_6 =>
  bd1 (
   if j_6 = (0 : Int32) then (
    some a1
   ) else (
    some (G 0 20)
   )
  ) fun j_8 =>
  gd (zb j_6) <|
  nm (gu G 0 21 j_6 : GS) fun G_10 =>
  bd1 (
   if j_6 = (0 : Int32) then (
    some G_10
   ) else (
    bd1 (fX2_next N G_10) fun G_12 =>
    some G_12
   )
  ) fun G_14 =>
  some (j_8, G_14)
theorem ydX2_number : yX2_number.cls = RX2 ∧ yX2_number.cls ≠ "java/lang/invoke/MethodHandle" ∧ yX2_number.cls ≠ "java/lang/invoke/VarHandle" ∧ (parseMethodDescriptor yX2_number.desc).map (fun d => d.parameters.length) = some 2 := by decide +kernel
set_option maxHeartbeats 4000000 in
theorem tX2_number (l : Launch) (N : Nat) (G : GS) (a1 : Int32) (a2 : Int32) (r : Int32) (G' : GS) (hf : fX2_number N G a1 a2 = some (r, G')) : mMet l yX2_number cX2_number 5 (some .int) (mR 3) [.int a1, .int a2] G (some (.int r)) G' := by
  unfold fX2_number at hf
  refine mMet_of (by decide +kernel) rfl (Nat.le_of_ble_eq_true rfl) (fun {p e s m args below meth c ls D cA h ad A} X Y hl => ?_)
  have hx := X.1.1
  have hb := X.1.2.1
  have hl : lv_has ls 5 [(0, .ref h), (1, .int a1), (2, .int a2)] := hl
  refine lv_aload_n hx hb dX2_number_0 rfl (lv_at hl 0 rfl) ?_
  refine mg (v := .int (G 0 21)) X Y 21 (by decide) q1126 rfl rfl dX2_number_1 ?_
  obtain ⟨j_6, hj, hf⟩ := bd1_s hf
  have J32_15 : ∀ (H : Heap) (locs : List Loc), WX D A s (mW h ad cA G) H locs → ∀ ls : Array Slot, lv_has ls 5 [(0, .ref h), (1, .int a1)] → W p l e (mR 3) s m args below meth c H locs 0 0 (MQ below (mQ D cA h ad A (some (.int r)) G') args s 0 0 A) (F0 m 32 ls [.int j_6]) := by
    clear hj
    intro H locs Y ls hl
    refine lv_istore_n (lv' := [(3, .int j_6), (0, .ref h), (1, .int a1)]) hx hb dX2_number_32 rfl hl (by decide) rfl (fun ls hl => ?_)
    refine lv_iload_n hx hb dX2_number_33 rfl (lv_at hl 0 rfl) ?_
    obtain ⟨j_8, hj, hf⟩ := bd1_s hf
    have J45_16 : ∀ (H : Heap) (locs : List Loc), WX D A s (mW h ad cA G) H locs → ∀ ls : Array Slot, lv_has ls 5 [(0, .ref h), (3, .int j_6)] → W p l e (mR 3) s m args below meth c H locs 0 0 (MQ below (mQ D cA h ad A (some (.int r)) G') args s 0 0 A) (F0 m 45 ls [.int j_8]) := by
      clear hj
      intro H locs Y ls hl
      refine lv_istore (lv' := [(4, .int j_8), (0, .ref h), (3, .int j_6)]) hx hb dX2_number_45 hl (by decide) rfl (fun ls hl => ?_)
      refine lv_aload_n hx hb dX2_number_47 rfl (lv_at hl 1 rfl) ?_
      refine lv_iload_n hx hb dX2_number_48 rfl (lv_at hl 2 rfl) ?_
      obtain ⟨b_9, hf⟩ := gd_s hf
      obtain ⟨G_10, eG_10, hf⟩ := nm_s hf
      refine mpZ X Y 21 (by decide) q1126 ⟨rfl, rfl⟩ rfl mz0_21 b_9 eG_10 dX2_number_49 (fun H locs Y => ?_)
      refine lv_iload_n hx hb dX2_number_52 rfl (lv_at hl 2 rfl) ?_
      obtain ⟨G_14, hj, hf⟩ := bd1_s hf
      have J60_17 : ∀ (H : Heap) (locs : List Loc), WX D A s (mW h ad cA G_14) H locs → ∀ ls : Array Slot, lv_has ls 5 [(4, .int j_8)] → W p l e (mR 3) s m args below meth c H locs 0 0 (MQ below (mQ D cA h ad A (some (.int r)) G') args s 0 0 A) (F0 m 60 ls []) := by
        clear hj
        intro H locs Y ls hl
        refine lv_iload hx hb dX2_number_60 (lv_at hl 0 rfl) ?_
        cases hf
        exact m_iret X Y dX2_number_62
      replace hf := hj
      clear hj
      refine lv_if_eq (tgt := 60) hx hb dX2_number_53 (by decide) (fun c_11 => ?_) (fun c_11 => ?_)
      · rw [if_pos c_11] at hf
        cases hf
        exact J60_17 _ _ Y _ (lv_sub hl [0] rfl)
      · rw [if_neg c_11] at hf
        refine lv_aload_n hx hb dX2_number_56 rfl (lv_at hl 1 rfl) ?_
        obtain ⟨G_12, hq_13, hf⟩ := bd1_s hf
        refine mcV (av := []) (rest := []) 0 X Y (tX2_next l N G_10 G_12 hq_13) (lw_V q1240 q1242 qs32 q70 q1243) ydX2_next ⟨rfl, rfl, by decide, by decide⟩ rfl hl.1 rfl (Nat.le_of_ble_eq_true rfl) ⟨Nat.zero_le _, Nat.zero_le _⟩ dX2_number_57 (fun H locs Y => ?_)
        cases hf
        exact J60_17 _ _ Y _ (lv_sub hl [0] rfl)
    replace hf := hj
    clear hj
    refine lv_if_eq (tgt := 44) hx hb dX2_number_34 (by decide) (fun c_7 => ?_) (fun c_7 => ?_)
    · rw [if_pos c_7] at hf
      refine lv_iload_n hx hb dX2_number_44 rfl (lv_at hl 2 rfl) ?_
      cases hf
      exact J45_16 _ _ Y _ (lv_sub hl [1, 0] rfl)
    · rw [if_neg c_7] at hf
      refine lv_aload_n hx hb dX2_number_37 rfl (lv_at hl 1 rfl) ?_
      refine mg (v := .int (G 0 20)) X Y 20 (by decide) q1125 rfl rfl dX2_number_38 ?_
      refine lv_goto (tgt := 45) hx hb dX2_number_41 (by decide) ?_
      cases hf
      exact J45_16 _ _ Y _ (lv_sub hl [1, 0] rfl)
  replace hf := hj
  clear hj
  refine lv_if_eq (tgt := 31) hx hb dX2_number_4 (by decide) (fun c_1 => ?_) (fun c_1 => ?_)
  · rw [if_pos c_1] at hf
    refine lv_iconst (v := (0 : Int32)) hx hb dX2_number_31 (by decide) ?_
    cases hf
    exact J32_15 _ _ Y _ (lv_sub hl [0, 1] rfl)
  · rw [if_neg c_1] at hf
    refine lv_aload_n hx hb dX2_number_7 rfl (lv_at hl 0 rfl) ?_
    refine mg (v := .int (G 0 19)) X Y 19 (by decide) q1124 rfl rfl dX2_number_8 ?_
    refine lv_iconst (v := (2 : Int32)) hx hb dX2_number_11 (by decide) ?_
    refine lv_icmp_ne (tgt := 31) hx hb dX2_number_12 (by decide) (fun c_2 => ?_) (fun c_2 => ?_)
    · rw [if_neg c_2] at hf
      refine lv_iconst (v := (0 : Int32)) hx hb dX2_number_31 (by decide) ?_
      cases hf
      exact J32_15 _ _ Y _ (lv_sub hl [0, 1] rfl)
    · rw [if_pos c_2] at hf
      refine lv_aload_n hx hb dX2_number_15 rfl (lv_at hl 0 rfl) ?_
      refine mg (v := .int (G 0 20)) X Y 20 (by decide) q1125 rfl rfl dX2_number_16 ?_
      refine lv_iload_n hx hb dX2_number_19 rfl (lv_at hl 1 rfl) ?_
      refine lv_iload_n hx hb dX2_number_20 rfl (lv_at hl 2 rfl) ?_
      obtain ⟨r_3, hq_4, hf⟩ := bd1_s hf
      refine w_callSI (av := [.int (G 0 20), .int a1, .int a2]) (rest := []) 3 X Y (tX2_in l N (G 0 20) a1 a2 r_3 hq_4) (lw_S q1225 q1226 q70 q1227) ydX2_in ⟨rfl, rfl, by decide, by decide⟩ rfl hl.1 rfl (Nat.le_of_ble_eq_true rfl) ⟨Nat.zero_le _, Nat.zero_le _⟩ dX2_number_21 (fun H locs Y => ?_)
      refine lv_if_eq (tgt := 31) hx hb dX2_number_24 (by decide) (fun c_5 => ?_) (fun c_5 => ?_)
      · rw [if_pos c_5] at hf
        refine lv_iconst (v := (0 : Int32)) hx hb dX2_number_31 (by decide) ?_
        cases hf
        exact J32_15 _ _ Y _ (lv_sub hl [0, 1] rfl)
      · rw [if_neg c_5] at hf
        refine lv_iconst (v := (1 : Int32)) hx hb dX2_number_27 (by decide) ?_
        refine lv_goto (tgt := 32) hx hb dX2_number_28 (by decide) ?_
        cases hf
        exact J32_15 _ _ Y _ (lv_sub hl [0, 1] rfl)

def fX2_laysTable_L12 (N : Nat) : Nat → Int32 → GS → Option GS
  | 0, _, _ => none
  | n_ + 1, x2_3, G_4 =>
    if (16 : Int32) ≤ x2_3 then (
     some G_4
    ) else (
     gd (inb x2_3 16) <|
     nm (gu G_4 24 (x2_3).toNatClampNeg (0 : Int32) : GS) fun G_7 =>
     nm ((x2_3 + (1 : Int32)) : Int32) fun x2_8 =>
     fX2_laysTable_L12 N n_ x2_8 G_7
    )
def fX2_laysTable_L33 (N : Nat) : Nat → Int32 → GS → Option GS
  | 0, _, _ => none
  | n_ + 1, x2_10, G_11 =>
    if (6 : Int32) ≤ x2_10 then (
     some G_11
    ) else (
     gd (inb x2_10 6) <|
     nm (gu G_11 27 (x2_10).toNatClampNeg (0 : Int32) : GS) fun G_14 =>
     nm ((x2_10 + (1 : Int32)) : Int32) fun x2_15 =>
     fX2_laysTable_L33 N n_ x2_15 G_14
    )
def fX2_laysTable (N : Nat) (G : GS) (a1 : Int32) : Option GS :=
  nm (gu G 0 23 a1 : GS) fun G_1 =>
  nm (gu G_1 0 25 (0 : Int32) : GS) fun G_2 =>
  bd1 (fX2_laysTable_L12 N N (0 : Int32) G_2) fun G_9 =>
  bd1 (fX2_laysTable_L33 N N (0 : Int32) G_9) fun G_16 =>
  nm (gu G_16 0 28 (0 : Int32) : GS) fun G_17 =>
  nm (gu G_17 0 29 (0 : Int32) : GS) fun G_18 =>
  nm (gu G_18 0 30 (-1 : Int32) : GS) fun G_19 =>
  some G_19
theorem ydX2_laysTable : yX2_laysTable.cls = RX2 ∧ yX2_laysTable.cls ≠ "java/lang/invoke/MethodHandle" ∧ yX2_laysTable.cls ≠ "java/lang/invoke/VarHandle" ∧ (parseMethodDescriptor yX2_laysTable.desc).map (fun d => d.parameters.length) = some 1 := by decide +kernel
set_option maxHeartbeats 4000000 in
theorem tX2_laysTable (l : Launch) (N : Nat) (G : GS) (a1 : Int32) (G' : GS) (hf : fX2_laysTable N G a1 = some G') : mMet l yX2_laysTable cX2_laysTable 3 none (mR 0) [.int a1] G (none) G' := by
  unfold fX2_laysTable at hf
  refine mMet_of (by decide +kernel) rfl (Nat.le_of_ble_eq_true rfl) (fun {p e s m args below meth c ls D cA h ad A} X Y hl => ?_)
  have hx := X.1.1
  have hb := X.1.2.1
  have hl : lv_has ls 3 [(0, .ref h), (1, .int a1)] := hl
  refine lv_aload_n hx hb dX2_laysTable_0 rfl (lv_at hl 0 rfl) ?_
  refine lv_iload_n hx hb dX2_laysTable_1 rfl (lv_at hl 1 rfl) ?_
  obtain ⟨G_1, eG_1, hf⟩ := nm_s hf
  refine mp X Y 23 (by decide) q1128 ⟨rfl, rfl⟩ rfl mz0_23 eG_1 dX2_laysTable_2 (fun H locs Y => ?_)
  refine lv_aload_n hx hb dX2_laysTable_5 rfl (lv_at hl 0 rfl) ?_
  refine lv_iconst (v := (0 : Int32)) hx hb dX2_laysTable_6 (by decide) ?_
  obtain ⟨G_2, eG_2, hf⟩ := nm_s hf
  refine mp X Y 25 (by decide) q1130 ⟨rfl, rfl⟩ rfl mz0_25 eG_2 dX2_laysTable_7 (fun H locs Y => ?_)
  refine lv_iconst (v := (0 : Int32)) hx hb dX2_laysTable_10 (by decide) ?_
  refine lv_istore_n (lv' := [(2, .int (0 : Int32)), (0, .ref h), (1, .int a1)]) hx hb dX2_laysTable_11 rfl hl (by decide) rfl (fun ls hl => ?_)
  obtain ⟨G_9, hL, hf⟩ := bd1_s hf
  have E12_20 : ∀ (H : Heap) (locs : List Loc), WX D A s (mW h ad cA G_9) H locs → ∀ ls : Array Slot, lv_has ls 3 [(0, .ref h)] → W p l e (mR 0) s m args below meth c H locs 0 0 (MQ below (mQ D cA h ad A (none) G') args s 0 0 A) (F0 m 31 ls []) := by
    clear hL
    intro H locs Y ls hl
    refine lv_iconst (v := (0 : Int32)) hx hb dX2_laysTable_31 (by decide) ?_
    refine lv_istore_n (lv' := [(2, .int (0 : Int32)), (0, .ref h)]) hx hb dX2_laysTable_32 rfl hl (by decide) rfl (fun ls hl => ?_)
    obtain ⟨G_16, hL, hf⟩ := bd1_s hf
    have E33_21 : ∀ (H : Heap) (locs : List Loc), WX D A s (mW h ad cA G_16) H locs → ∀ ls : Array Slot, lv_has ls 3 [(0, .ref h)] → W p l e (mR 0) s m args below meth c H locs 0 0 (MQ below (mQ D cA h ad A (none) G') args s 0 0 A) (F0 m 52 ls []) := by
      clear hL
      intro H locs Y ls hl
      refine lv_aload_n hx hb dX2_laysTable_52 rfl (lv_at hl 0 rfl) ?_
      refine lv_iconst (v := (0 : Int32)) hx hb dX2_laysTable_53 (by decide) ?_
      obtain ⟨G_17, eG_17, hf⟩ := nm_s hf
      refine mp X Y 28 (by decide) q1133 ⟨rfl, rfl⟩ rfl mz0_28 eG_17 dX2_laysTable_54 (fun H locs Y => ?_)
      refine lv_aload_n hx hb dX2_laysTable_57 rfl (lv_at hl 0 rfl) ?_
      refine lv_iconst (v := (0 : Int32)) hx hb dX2_laysTable_58 (by decide) ?_
      obtain ⟨G_18, eG_18, hf⟩ := nm_s hf
      refine mp X Y 29 (by decide) q1134 ⟨rfl, rfl⟩ rfl mz0_29 eG_18 dX2_laysTable_59 (fun H locs Y => ?_)
      refine lv_aload_n hx hb dX2_laysTable_62 rfl (lv_at hl 0 rfl) ?_
      refine lv_iconst (v := (-1 : Int32)) hx hb dX2_laysTable_63 (by decide) ?_
      obtain ⟨G_19, eG_19, hf⟩ := nm_s hf
      refine mp X Y 30 (by decide) q1135 ⟨rfl, rfl⟩ rfl mz0_30 eG_19 dX2_laysTable_64 (fun H locs Y => ?_)
      cases hf
      exact m_vret X Y dX2_laysTable_67
    clear hf
    have L33_21 : ∀ (n_ : Nat) (x2_10 : Int32) (G_11 : GS), fX2_laysTable_L33 N n_ x2_10 G_11 = some G_16 → ∀ (H : Heap) (locs : List Loc), WX D A s (mW h ad cA G_11) H locs → ∀ ls : Array Slot, lv_has ls 3 [(0, .ref h), (2, .int x2_10)] → W p l e (mR 0) s m args below meth c H locs 0 0 (MQ below (mQ D cA h ad A (none) G') args s 0 0 A) (F0 m 33 ls []) := by
      clear hL
      intro n_
      induction n_ with
      | zero =>
        intro x2_10 G_11 hf
        rw [fX2_laysTable_L33.eq_1] at hf
        cases hf
      | succ n_ ih =>
        intro x2_10 G_11 hf
        intro H locs Y ls hl
        rw [fX2_laysTable_L33.eq_2] at hf
        refine lv_iload_n hx hb dX2_laysTable_33 rfl (lv_at hl 1 rfl) ?_
        refine lv_bipush (v := (6 : Int32)) hx hb dX2_laysTable_34 (by decide) ?_
        refine lv_icmp_ge (tgt := 52) hx hb dX2_laysTable_36 (by decide) (fun c_12 => ?_) (fun c_12 => ?_)
        · rw [if_pos c_12] at hf
          cases hf
          exact E33_21 _ _ Y _ (lv_sub hl [0] rfl)
        · rw [if_neg c_12] at hf
          refine lv_aload_n hx hb dX2_laysTable_39 rfl (lv_at hl 0 rfl) ?_
          refine mg (v := .ref (ad 27)) X Y 27 (by decide) q1132 rfl rfl dX2_laysTable_40 ?_
          refine lv_iload_n hx hb dX2_laysTable_43 rfl (lv_at hl 1 rfl) ?_
          refine lv_iconst (v := (0 : Int32)) hx hb dX2_laysTable_44 (by decide) ?_
          obtain ⟨b_13, hf⟩ := gd_s hf
          obtain ⟨G_14, eG_14, hf⟩ := nm_s hf
          refine ms (n := 6) X Y 27 12 rfl mz27 b_13 eG_14 dX2_laysTable_45 (fun H locs Y => ?_)
          obtain ⟨x2_15, ex2_15, hf⟩ := nm_s hf
          refine lv_iinc (v := x2_15) (lv' := [(2, .int x2_15), (0, .ref h)]) hx hb dX2_laysTable_46 hl (k := 1) rfl (by rw [ex2_15]; rfl) (by decide) rfl (fun ls hl => ?_)
          refine lv_goto (tgt := 33) hx hb dX2_laysTable_49 (by decide) ?_
          exact ih _ _ hf _ _ Y _ (lv_sub hl [1, 0] rfl)
    exact L33_21 N _ _ hL _ _ Y _ (lv_sub hl [1, 0] rfl)
  clear hf
  have L12_20 : ∀ (n_ : Nat) (x2_3 : Int32) (G_4 : GS), fX2_laysTable_L12 N n_ x2_3 G_4 = some G_9 → ∀ (H : Heap) (locs : List Loc), WX D A s (mW h ad cA G_4) H locs → ∀ ls : Array Slot, lv_has ls 3 [(0, .ref h), (2, .int x2_3)] → W p l e (mR 0) s m args below meth c H locs 0 0 (MQ below (mQ D cA h ad A (none) G') args s 0 0 A) (F0 m 12 ls []) := by
    clear hL
    intro n_
    induction n_ with
    | zero =>
      intro x2_3 G_4 hf
      rw [fX2_laysTable_L12.eq_1] at hf
      cases hf
    | succ n_ ih =>
      intro x2_3 G_4 hf
      intro H locs Y ls hl
      rw [fX2_laysTable_L12.eq_2] at hf
      refine lv_iload_n hx hb dX2_laysTable_12 rfl (lv_at hl 1 rfl) ?_
      refine lv_bipush (v := (16 : Int32)) hx hb dX2_laysTable_13 (by decide) ?_
      refine lv_icmp_ge (tgt := 31) hx hb dX2_laysTable_15 (by decide) (fun c_5 => ?_) (fun c_5 => ?_)
      · rw [if_pos c_5] at hf
        cases hf
        exact E12_20 _ _ Y _ (lv_sub hl [0] rfl)
      · rw [if_neg c_5] at hf
        refine lv_aload_n hx hb dX2_laysTable_18 rfl (lv_at hl 0 rfl) ?_
        refine mg (v := .ref (ad 24)) X Y 24 (by decide) q1129 rfl rfl dX2_laysTable_19 ?_
        refine lv_iload_n hx hb dX2_laysTable_22 rfl (lv_at hl 1 rfl) ?_
        refine lv_iconst (v := (0 : Int32)) hx hb dX2_laysTable_23 (by decide) ?_
        obtain ⟨b_6, hf⟩ := gd_s hf
        obtain ⟨G_7, eG_7, hf⟩ := nm_s hf
        refine ms (n := 16) X Y 24 10 rfl mz24 b_6 eG_7 dX2_laysTable_24 (fun H locs Y => ?_)
        obtain ⟨x2_8, ex2_8, hf⟩ := nm_s hf
        refine lv_iinc (v := x2_8) (lv' := [(2, .int x2_8), (0, .ref h)]) hx hb dX2_laysTable_25 hl (k := 1) rfl (by rw [ex2_8]; rfl) (by decide) rfl (fun ls hl => ?_)
        refine lv_goto (tgt := 12) hx hb dX2_laysTable_28 (by decide) ?_
        exact ih _ _ hf _ _ Y _ (lv_sub hl [1, 0] rfl)
  exact L12_20 N _ _ hL _ _ Y _ (lv_sub hl [1, 0] rfl)

def fX2_readTable (N : Nat) (G : GS) : Option GS :=
  bd2 (fX2_number N G (3 : Int32) (8 : Int32)) fun r_1 G_2 =>
  if (G_2 0 21) = (0 : Int32) then (
   some G_2
  ) else (
   bd1 (fX2_laysTable N G_2 r_1) fun G_5 =>
   some G_5
  )
theorem ydX2_readTable : yX2_readTable.cls = RX2 ∧ yX2_readTable.cls ≠ "java/lang/invoke/MethodHandle" ∧ yX2_readTable.cls ≠ "java/lang/invoke/VarHandle" ∧ (parseMethodDescriptor yX2_readTable.desc).map (fun d => d.parameters.length) = some 0 := by decide +kernel
set_option maxHeartbeats 4000000 in
theorem tX2_readTable (l : Launch) (N : Nat) (G : GS) (G' : GS) (hf : fX2_readTable N G = some G') : mMet l yX2_readTable cX2_readTable 2 none (mR 4) [] G (none) G' := by
  unfold fX2_readTable at hf
  refine mMet_of (by decide +kernel) rfl (Nat.le_of_ble_eq_true rfl) (fun {p e s m args below meth c ls D cA h ad A} X Y hl => ?_)
  have hx := X.1.1
  have hb := X.1.2.1
  have hl : lv_has ls 2 [(0, .ref h)] := hl
  refine lv_aload_n hx hb dX2_readTable_0 rfl (lv_at hl 0 rfl) ?_
  refine lv_iconst (v := (3 : Int32)) hx hb dX2_readTable_1 (by decide) ?_
  refine lv_bipush (v := (8 : Int32)) hx hb dX2_readTable_2 (by decide) ?_
  obtain ⟨r_1, G_2, hq_3, hf⟩ := bd2_s hf
  refine mcI (av := [.int (3 : Int32), .int (8 : Int32)]) (rest := []) 2 X Y (tX2_number l N G (3 : Int32) (8 : Int32) r_1 G_2 hq_3) (lw_V q1274 q1276 qs39 q70 q1277) ydX2_number ⟨rfl, rfl, by decide, by decide⟩ rfl hl.1 rfl (Nat.le_of_ble_eq_true rfl) ⟨Nat.zero_le _, Nat.zero_le _⟩ dX2_readTable_4 (fun H locs Y => ?_)
  refine lv_istore_n (lv' := [(1, .int r_1), (0, .ref h)]) hx hb dX2_readTable_7 rfl hl (by decide) rfl (fun ls hl => ?_)
  refine lv_aload_n hx hb dX2_readTable_8 rfl (lv_at hl 1 rfl) ?_
  refine mg (v := .int (G_2 0 21)) X Y 21 (by decide) q1126 rfl rfl dX2_readTable_9 ?_
  refine lv_if_eq (tgt := 20) hx hb dX2_readTable_12 (by decide) (fun c_4 => ?_) (fun c_4 => ?_)
  · rw [if_pos c_4] at hf
    cases hf
    exact m_vret X Y dX2_readTable_20
  · rw [if_neg c_4] at hf
    refine lv_aload_n hx hb dX2_readTable_15 rfl (lv_at hl 1 rfl) ?_
    refine lv_iload_n hx hb dX2_readTable_16 rfl (lv_at hl 0 rfl) ?_
    obtain ⟨G_5, hq_6, hf⟩ := bd1_s hf
    refine mcV (av := [.int r_1]) (rest := []) 1 X Y (tX2_laysTable l N G_2 r_1 G_5 hq_6) (lw_V q1278 q1280 qs40 q70 q1281) ydX2_laysTable ⟨rfl, rfl, by decide, by decide⟩ rfl hl.1 rfl (Nat.le_of_ble_eq_true rfl) ⟨Nat.zero_le _, Nat.zero_le _⟩ dX2_readTable_17 (fun H locs Y => ?_)
    cases hf
    exact m_vret X Y dX2_readTable_20

def fX2_readName (N : Nat) (G : GS) (a1 : Int32) : Option GS :=
  bd2 (fX2_number N G (0 : Int32) ((G 0 23) - (1 : Int32))) fun r_1 G_2 =>
  bd2 (
   if a1 = (4 : Int32) then (
    some ((0 : Int32), G_2)
   ) else (
    bd2 (fX2_number N G_2 (0 : Int32) (9 : Int32)) fun r_5 G_6 =>
    some (r_5, G_6)
   )
  ) fun j_8 G_9 =>
  if (G_9 0 21) = (0 : Int32) then (
   some G_9
  ) else (
   gd (inb ((2 : Int32) * r_1) 16) <|
   nm (gu G_9 24 (((2 : Int32) * r_1)).toNatClampNeg a1 : GS) fun G_12 =>
   gd (inb (((2 : Int32) * r_1) + (1 : Int32)) 16) <|
   nm (gu G_12 24 ((((2 : Int32) * r_1) + (1 : Int32))).toNatClampNeg j_8 : GS) fun G_14 =>
   some G_14
  )
theorem ydX2_readName : yX2_readName.cls = RX2 ∧ yX2_readName.cls ≠ "java/lang/invoke/MethodHandle" ∧ yX2_readName.cls ≠ "java/lang/invoke/VarHandle" ∧ (parseMethodDescriptor yX2_readName.desc).map (fun d => d.parameters.length) = some 1 := by decide +kernel
set_option maxHeartbeats 4000000 in
theorem tX2_readName (l : Launch) (N : Nat) (G : GS) (a1 : Int32) (G' : GS) (hf : fX2_readName N G a1 = some G') : mMet l yX2_readName cX2_readName 4 none (mR 4) [.int a1] G (none) G' := by
  unfold fX2_readName at hf
  refine mMet_of (by decide +kernel) rfl (Nat.le_of_ble_eq_true rfl) (fun {p e s m args below meth c ls D cA h ad A} X Y hl => ?_)
  have hx := X.1.1
  have hb := X.1.2.1
  have hl : lv_has ls 4 [(0, .ref h), (1, .int a1)] := hl
  refine lv_aload_n hx hb dX2_readName_0 rfl (lv_at hl 0 rfl) ?_
  refine lv_iconst (v := (0 : Int32)) hx hb dX2_readName_1 (by decide) ?_
  refine lv_aload_n hx hb dX2_readName_2 rfl (lv_at hl 0 rfl) ?_
  refine mg (v := .int (G 0 23)) X Y 23 (by decide) q1128 rfl rfl dX2_readName_3 ?_
  refine lv_iconst (v := (1 : Int32)) hx hb dX2_readName_6 (by decide) ?_
  refine lv_isub hx hb dX2_readName_7 ?_
  obtain ⟨r_1, G_2, hq_3, hf⟩ := bd2_s hf
  refine mcI (av := [.int (0 : Int32), .int ((G 0 23) - (1 : Int32))]) (rest := []) 2 X Y (tX2_number l N G (0 : Int32) ((G 0 23) - (1 : Int32)) r_1 G_2 hq_3) (lw_V q1274 q1276 qs39 q70 q1277) ydX2_number ⟨rfl, rfl, by decide, by decide⟩ rfl hl.1 rfl (Nat.le_of_ble_eq_true rfl) ⟨Nat.zero_le _, Nat.zero_le _⟩ dX2_readName_8 (fun H locs Y => ?_)
  refine lv_istore_n (lv' := [(2, .int r_1), (0, .ref h), (1, .int a1)]) hx hb dX2_readName_11 rfl hl (by decide) rfl (fun ls hl => ?_)
  refine lv_iload_n hx hb dX2_readName_12 rfl (lv_at hl 2 rfl) ?_
  refine lv_iconst (v := (4 : Int32)) hx hb dX2_readName_13 (by decide) ?_
  obtain ⟨j_8, G_9, hj, hf⟩ := bd2_s hf
  have J28_15 : ∀ (H : Heap) (locs : List Loc), WX D A s (mW h ad cA G_9) H locs → ∀ ls : Array Slot, lv_has ls 4 [(0, .ref h), (1, .int a1), (2, .int r_1)] → W p l e (mR 4) s m args below meth c H locs 0 0 (MQ below (mQ D cA h ad A (none) G') args s 0 0 A) (F0 m 28 ls [.int j_8]) := by
    clear hj
    intro H locs Y ls hl
    refine lv_istore_n (lv' := [(3, .int j_8), (0, .ref h), (1, .int a1), (2, .int r_1)]) hx hb dX2_readName_28 rfl hl (by decide) rfl (fun ls hl => ?_)
    refine lv_aload_n hx hb dX2_readName_29 rfl (lv_at hl 1 rfl) ?_
    refine mg (v := .int (G_9 0 21)) X Y 21 (by decide) q1126 rfl rfl dX2_readName_30 ?_
    refine lv_if_eq (tgt := 56) hx hb dX2_readName_33 (by decide) (fun c_10 => ?_) (fun c_10 => ?_)
    · rw [if_pos c_10] at hf
      cases hf
      exact m_vret X Y dX2_readName_56
    · rw [if_neg c_10] at hf
      refine lv_aload_n hx hb dX2_readName_36 rfl (lv_at hl 1 rfl) ?_
      refine mg (v := .ref (ad 24)) X Y 24 (by decide) q1129 rfl rfl dX2_readName_37 ?_
      refine lv_iconst (v := (2 : Int32)) hx hb dX2_readName_40 (by decide) ?_
      refine lv_iload_n hx hb dX2_readName_41 rfl (lv_at hl 3 rfl) ?_
      refine lv_imul hx hb dX2_readName_42 ?_
      refine lv_iload_n hx hb dX2_readName_43 rfl (lv_at hl 2 rfl) ?_
      obtain ⟨b_11, hf⟩ := gd_s hf
      obtain ⟨G_12, eG_12, hf⟩ := nm_s hf
      refine ms (n := 16) X Y 24 10 rfl mz24 b_11 eG_12 dX2_readName_44 (fun H locs Y => ?_)
      refine lv_aload_n hx hb dX2_readName_45 rfl (lv_at hl 1 rfl) ?_
      refine mg (v := .ref (ad 24)) X Y 24 (by decide) q1129 rfl rfl dX2_readName_46 ?_
      refine lv_iconst (v := (2 : Int32)) hx hb dX2_readName_49 (by decide) ?_
      refine lv_iload_n hx hb dX2_readName_50 rfl (lv_at hl 3 rfl) ?_
      refine lv_imul hx hb dX2_readName_51 ?_
      refine lv_iconst (v := (1 : Int32)) hx hb dX2_readName_52 (by decide) ?_
      refine lv_iadd hx hb dX2_readName_53 ?_
      refine lv_iload_n hx hb dX2_readName_54 rfl (lv_at hl 0 rfl) ?_
      obtain ⟨b_13, hf⟩ := gd_s hf
      obtain ⟨G_14, eG_14, hf⟩ := nm_s hf
      refine ms (n := 16) X Y 24 10 rfl mz24 b_13 eG_14 dX2_readName_55 (fun H locs Y => ?_)
      cases hf
      exact m_vret X Y dX2_readName_56
  replace hf := hj
  clear hj
  refine lv_icmp_ne (tgt := 21) hx hb dX2_readName_14 (by decide) (fun c_4 => ?_) (fun c_4 => ?_)
  · rw [if_neg c_4] at hf
    refine lv_aload_n hx hb dX2_readName_21 rfl (lv_at hl 1 rfl) ?_
    refine lv_iconst (v := (0 : Int32)) hx hb dX2_readName_22 (by decide) ?_
    refine lv_bipush (v := (9 : Int32)) hx hb dX2_readName_23 (by decide) ?_
    obtain ⟨r_5, G_6, hq_7, hf⟩ := bd2_s hf
    refine mcI (av := [.int (0 : Int32), .int (9 : Int32)]) (rest := []) 2 X Y (tX2_number l N G_2 (0 : Int32) (9 : Int32) r_5 G_6 hq_7) (lw_V q1274 q1276 qs39 q70 q1277) ydX2_number ⟨rfl, rfl, by decide, by decide⟩ rfl hl.1 rfl (Nat.le_of_ble_eq_true rfl) ⟨Nat.zero_le _, Nat.zero_le _⟩ dX2_readName_25 (fun H locs Y => ?_)
    cases hf
    exact J28_15 _ _ Y _ (lv_sub hl [1, 2, 0] rfl)
  · rw [if_pos c_4] at hf
    refine lv_iconst (v := (0 : Int32)) hx hb dX2_readName_17 (by decide) ?_
    refine lv_goto (tgt := 28) hx hb dX2_readName_18 (by decide) ?_
    cases hf
    exact J28_15 _ _ Y _ (lv_sub hl [1, 2, 0] rfl)

def fX2_readKnight (N : Nat) (G : GS) (a1 : Int32) : Option GS :=
  bd2 (fX2_number N G (0 : Int32) (9 : Int32)) fun r_1 G_2 =>
  bd2 (fX2_number N G_2 (0 : Int32) (9 : Int32)) fun r_4 G_5 =>
  if (G_5 0 21) = (0 : Int32) then (
   some G_5
  ) else (
   gd (inb ((3 : Int32) * (G_5 0 25)) 18) <|
   nm (gu G_5 26 (((3 : Int32) * (G_5 0 25))).toNatClampNeg a1 : GS) fun G_9 =>
   gd (inb (((3 : Int32) * (G_9 0 25)) + (1 : Int32)) 18) <|
   nm (gu G_9 26 ((((3 : Int32) * (G_9 0 25)) + (1 : Int32))).toNatClampNeg r_1 : GS) fun G_11 =>
   gd (inb (((3 : Int32) * (G_11 0 25)) + (2 : Int32)) 18) <|
   nm (gu G_11 26 ((((3 : Int32) * (G_11 0 25)) + (2 : Int32))).toNatClampNeg r_4 : GS) fun G_13 =>
   nm (gu G_13 0 25 ((G_13 0 25) + (1 : Int32)) : GS) fun G_14 =>
   some G_14
  )
theorem ydX2_readKnight : yX2_readKnight.cls = RX2 ∧ yX2_readKnight.cls ≠ "java/lang/invoke/MethodHandle" ∧ yX2_readKnight.cls ≠ "java/lang/invoke/VarHandle" ∧ (parseMethodDescriptor yX2_readKnight.desc).map (fun d => d.parameters.length) = some 1 := by decide +kernel
set_option maxHeartbeats 4000000 in
theorem tX2_readKnight (l : Launch) (N : Nat) (G : GS) (a1 : Int32) (G' : GS) (hf : fX2_readKnight N G a1 = some G') : mMet l yX2_readKnight cX2_readKnight 4 none (mR 4) [.int a1] G (none) G' := by
  unfold fX2_readKnight at hf
  refine mMet_of (by decide +kernel) rfl (Nat.le_of_ble_eq_true rfl) (fun {p e s m args below meth c ls D cA h ad A} X Y hl => ?_)
  have hx := X.1.1
  have hb := X.1.2.1
  have hl : lv_has ls 4 [(0, .ref h), (1, .int a1)] := hl
  refine lv_aload_n hx hb dX2_readKnight_0 rfl (lv_at hl 0 rfl) ?_
  refine lv_iconst (v := (0 : Int32)) hx hb dX2_readKnight_1 (by decide) ?_
  refine lv_bipush (v := (9 : Int32)) hx hb dX2_readKnight_2 (by decide) ?_
  obtain ⟨r_1, G_2, hq_3, hf⟩ := bd2_s hf
  refine mcI (av := [.int (0 : Int32), .int (9 : Int32)]) (rest := []) 2 X Y (tX2_number l N G (0 : Int32) (9 : Int32) r_1 G_2 hq_3) (lw_V q1274 q1276 qs39 q70 q1277) ydX2_number ⟨rfl, rfl, by decide, by decide⟩ rfl hl.1 rfl (Nat.le_of_ble_eq_true rfl) ⟨Nat.zero_le _, Nat.zero_le _⟩ dX2_readKnight_4 (fun H locs Y => ?_)
  refine lv_istore_n (lv' := [(2, .int r_1), (0, .ref h), (1, .int a1)]) hx hb dX2_readKnight_7 rfl hl (by decide) rfl (fun ls hl => ?_)
  refine lv_aload_n hx hb dX2_readKnight_8 rfl (lv_at hl 1 rfl) ?_
  refine lv_iconst (v := (0 : Int32)) hx hb dX2_readKnight_9 (by decide) ?_
  refine lv_bipush (v := (9 : Int32)) hx hb dX2_readKnight_10 (by decide) ?_
  obtain ⟨r_4, G_5, hq_6, hf⟩ := bd2_s hf
  refine mcI (av := [.int (0 : Int32), .int (9 : Int32)]) (rest := []) 2 X Y (tX2_number l N G_2 (0 : Int32) (9 : Int32) r_4 G_5 hq_6) (lw_V q1274 q1276 qs39 q70 q1277) ydX2_number ⟨rfl, rfl, by decide, by decide⟩ rfl hl.1 rfl (Nat.le_of_ble_eq_true rfl) ⟨Nat.zero_le _, Nat.zero_le _⟩ dX2_readKnight_12 (fun H locs Y => ?_)
  refine lv_istore_n (lv' := [(3, .int r_4), (2, .int r_1), (0, .ref h), (1, .int a1)]) hx hb dX2_readKnight_15 rfl hl (by decide) rfl (fun ls hl => ?_)
  refine lv_aload_n hx hb dX2_readKnight_16 rfl (lv_at hl 2 rfl) ?_
  refine mg (v := .int (G_5 0 21)) X Y 21 (by decide) q1126 rfl rfl dX2_readKnight_17 ?_
  refine lv_if_eq (tgt := 73) hx hb dX2_readKnight_20 (by decide) (fun c_7 => ?_) (fun c_7 => ?_)
  · rw [if_pos c_7] at hf
    cases hf
    exact m_vret X Y dX2_readKnight_73
  · rw [if_neg c_7] at hf
    refine lv_aload_n hx hb dX2_readKnight_23 rfl (lv_at hl 2 rfl) ?_
    refine mg (v := .ref (ad 26)) X Y 26 (by decide) q1131 rfl rfl dX2_readKnight_24 ?_
    refine lv_iconst (v := (3 : Int32)) hx hb dX2_readKnight_27 (by decide) ?_
    refine lv_aload_n hx hb dX2_readKnight_28 rfl (lv_at hl 2 rfl) ?_
    refine mg (v := .int (G_5 0 25)) X Y 25 (by decide) q1130 rfl rfl dX2_readKnight_29 ?_
    refine lv_imul hx hb dX2_readKnight_32 ?_
    refine lv_iload_n hx hb dX2_readKnight_33 rfl (lv_at hl 3 rfl) ?_
    obtain ⟨b_8, hf⟩ := gd_s hf
    obtain ⟨G_9, eG_9, hf⟩ := nm_s hf
    refine ms (n := 18) X Y 26 11 rfl mz26 b_8 eG_9 dX2_readKnight_34 (fun H locs Y => ?_)
    refine lv_aload_n hx hb dX2_readKnight_35 rfl (lv_at hl 2 rfl) ?_
    refine mg (v := .ref (ad 26)) X Y 26 (by decide) q1131 rfl rfl dX2_readKnight_36 ?_
    refine lv_iconst (v := (3 : Int32)) hx hb dX2_readKnight_39 (by decide) ?_
    refine lv_aload_n hx hb dX2_readKnight_40 rfl (lv_at hl 2 rfl) ?_
    refine mg (v := .int (G_9 0 25)) X Y 25 (by decide) q1130 rfl rfl dX2_readKnight_41 ?_
    refine lv_imul hx hb dX2_readKnight_44 ?_
    refine lv_iconst (v := (1 : Int32)) hx hb dX2_readKnight_45 (by decide) ?_
    refine lv_iadd hx hb dX2_readKnight_46 ?_
    refine lv_iload_n hx hb dX2_readKnight_47 rfl (lv_at hl 1 rfl) ?_
    obtain ⟨b_10, hf⟩ := gd_s hf
    obtain ⟨G_11, eG_11, hf⟩ := nm_s hf
    refine ms (n := 18) X Y 26 11 rfl mz26 b_10 eG_11 dX2_readKnight_48 (fun H locs Y => ?_)
    refine lv_aload_n hx hb dX2_readKnight_49 rfl (lv_at hl 2 rfl) ?_
    refine mg (v := .ref (ad 26)) X Y 26 (by decide) q1131 rfl rfl dX2_readKnight_50 ?_
    refine lv_iconst (v := (3 : Int32)) hx hb dX2_readKnight_53 (by decide) ?_
    refine lv_aload_n hx hb dX2_readKnight_54 rfl (lv_at hl 2 rfl) ?_
    refine mg (v := .int (G_11 0 25)) X Y 25 (by decide) q1130 rfl rfl dX2_readKnight_55 ?_
    refine lv_imul hx hb dX2_readKnight_58 ?_
    refine lv_iconst (v := (2 : Int32)) hx hb dX2_readKnight_59 (by decide) ?_
    refine lv_iadd hx hb dX2_readKnight_60 ?_
    refine lv_iload_n hx hb dX2_readKnight_61 rfl (lv_at hl 0 rfl) ?_
    obtain ⟨b_12, hf⟩ := gd_s hf
    obtain ⟨G_13, eG_13, hf⟩ := nm_s hf
    refine ms (n := 18) X Y 26 11 rfl mz26 b_12 eG_13 dX2_readKnight_62 (fun H locs Y => ?_)
    refine lv_aload_n hx hb dX2_readKnight_63 rfl (lv_at hl 2 rfl) ?_
    refine lv_dup hx hb dX2_readKnight_64 rfl ?_
    refine mg (v := .int (G_13 0 25)) X Y 25 (by decide) q1130 rfl rfl dX2_readKnight_65 ?_
    refine lv_iconst (v := (1 : Int32)) hx hb dX2_readKnight_68 (by decide) ?_
    refine lv_iadd hx hb dX2_readKnight_69 ?_
    obtain ⟨G_14, eG_14, hf⟩ := nm_s hf
    refine mp X Y 25 (by decide) q1130 ⟨rfl, rfl⟩ rfl mz0_25 eG_14 dX2_readKnight_70 (fun H locs Y => ?_)
    cases hf
    exact m_vret X Y dX2_readKnight_73

def fX2_readEnemies (N : Nat) (G : GS) : Option GS :=
  bd2 (fX2_number N G (0 : Int32) ((G 0 25) - (1 : Int32))) fun r_1 G_2 =>
  bd1 (
   if (G_2 0 21) = (0 : Int32) then (
    some G_2
   ) else (
    if (G_2 0 19) = (2 : Int32) then (
     if (G_2 0 20) = r_1 then (
      nm (gu G_2 0 21 (0 : Int32) : GS) fun G_7 =>
      some G_7
     ) else (
      some G_2
     )
    ) else (
     some G_2
    )
   )
  ) fun G_8 =>
  bd2 (fX2_number N G_8 (0 : Int32) ((G_8 0 25) - (1 : Int32))) fun r_9 G_10 =>
  if (G_10 0 21) = (0 : Int32) then (
   some G_10
  ) else (
   gd (inb r_1 6) <|
   nm (G_10 27 (r_1).toNatClampNeg : Int32) fun v_14 =>
   gd (inb r_1 6) <|
   nm (gu G_10 27 (r_1).toNatClampNeg (v_14 ||| ((1 : Int32) <<< (r_9 &&& 31))) : GS) fun G_16 =>
   gd (inb r_9 6) <|
   nm (G_16 27 (r_9).toNatClampNeg : Int32) fun v_18 =>
   gd (inb r_9 6) <|
   nm (gu G_16 27 (r_9).toNatClampNeg (v_18 ||| ((1 : Int32) <<< (r_1 &&& 31))) : GS) fun G_20 =>
   some G_20
  )
theorem ydX2_readEnemies : yX2_readEnemies.cls = RX2 ∧ yX2_readEnemies.cls ≠ "java/lang/invoke/MethodHandle" ∧ yX2_readEnemies.cls ≠ "java/lang/invoke/VarHandle" ∧ (parseMethodDescriptor yX2_readEnemies.desc).map (fun d => d.parameters.length) = some 0 := by decide +kernel
set_option maxHeartbeats 4000000 in
theorem tX2_readEnemies (l : Launch) (N : Nat) (G : GS) (G' : GS) (hf : fX2_readEnemies N G = some G') : mMet l yX2_readEnemies cX2_readEnemies 3 none (mR 4) [] G (none) G' := by
  unfold fX2_readEnemies at hf
  refine mMet_of (by decide +kernel) rfl (Nat.le_of_ble_eq_true rfl) (fun {p e s m args below meth c ls D cA h ad A} X Y hl => ?_)
  have hx := X.1.1
  have hb := X.1.2.1
  have hl : lv_has ls 3 [(0, .ref h)] := hl
  refine lv_aload_n hx hb dX2_readEnemies_0 rfl (lv_at hl 0 rfl) ?_
  refine lv_iconst (v := (0 : Int32)) hx hb dX2_readEnemies_1 (by decide) ?_
  refine lv_aload_n hx hb dX2_readEnemies_2 rfl (lv_at hl 0 rfl) ?_
  refine mg (v := .int (G 0 25)) X Y 25 (by decide) q1130 rfl rfl dX2_readEnemies_3 ?_
  refine lv_iconst (v := (1 : Int32)) hx hb dX2_readEnemies_6 (by decide) ?_
  refine lv_isub hx hb dX2_readEnemies_7 ?_
  obtain ⟨r_1, G_2, hq_3, hf⟩ := bd2_s hf
  refine mcI (av := [.int (0 : Int32), .int ((G 0 25) - (1 : Int32))]) (rest := []) 2 X Y (tX2_number l N G (0 : Int32) ((G 0 25) - (1 : Int32)) r_1 G_2 hq_3) (lw_V q1274 q1276 qs39 q70 q1277) ydX2_number ⟨rfl, rfl, by decide, by decide⟩ rfl hl.1 rfl (Nat.le_of_ble_eq_true rfl) ⟨Nat.zero_le _, Nat.zero_le _⟩ dX2_readEnemies_8 (fun H locs Y => ?_)
  refine lv_istore_n (lv' := [(1, .int r_1), (0, .ref h)]) hx hb dX2_readEnemies_11 rfl hl (by decide) rfl (fun ls hl => ?_)
  refine lv_aload_n hx hb dX2_readEnemies_12 rfl (lv_at hl 1 rfl) ?_
  refine mg (v := .int (G_2 0 21)) X Y 21 (by decide) q1126 rfl rfl dX2_readEnemies_13 ?_
  obtain ⟨G_8, hj, hf⟩ := bd1_s hf
  have J40_21 : ∀ (H : Heap) (locs : List Loc), WX D A s (mW h ad cA G_8) H locs → ∀ ls : Array Slot, lv_has ls 3 [(0, .ref h), (1, .int r_1)] → W p l e (mR 4) s m args below meth c H locs 0 0 (MQ below (mQ D cA h ad A (none) G') args s 0 0 A) (F0 m 40 ls []) := by
    clear hj
    intro H locs Y ls hl
    refine lv_aload_n hx hb dX2_readEnemies_40 rfl (lv_at hl 0 rfl) ?_
    refine lv_iconst (v := (0 : Int32)) hx hb dX2_readEnemies_41 (by decide) ?_
    refine lv_aload_n hx hb dX2_readEnemies_42 rfl (lv_at hl 0 rfl) ?_
    refine mg (v := .int (G_8 0 25)) X Y 25 (by decide) q1130 rfl rfl dX2_readEnemies_43 ?_
    refine lv_iconst (v := (1 : Int32)) hx hb dX2_readEnemies_46 (by decide) ?_
    refine lv_isub hx hb dX2_readEnemies_47 ?_
    obtain ⟨r_9, G_10, hq_11, hf⟩ := bd2_s hf
    refine mcI (av := [.int (0 : Int32), .int ((G_8 0 25) - (1 : Int32))]) (rest := []) 2 X Y (tX2_number l N G_8 (0 : Int32) ((G_8 0 25) - (1 : Int32)) r_9 G_10 hq_11) (lw_V q1274 q1276 qs39 q70 q1277) ydX2_number ⟨rfl, rfl, by decide, by decide⟩ rfl hl.1 rfl (Nat.le_of_ble_eq_true rfl) ⟨Nat.zero_le _, Nat.zero_le _⟩ dX2_readEnemies_48 (fun H locs Y => ?_)
    refine lv_istore_n (lv' := [(2, .int r_9), (0, .ref h), (1, .int r_1)]) hx hb dX2_readEnemies_51 rfl hl (by decide) rfl (fun ls hl => ?_)
    refine lv_aload_n hx hb dX2_readEnemies_52 rfl (lv_at hl 1 rfl) ?_
    refine mg (v := .int (G_10 0 21)) X Y 21 (by decide) q1126 rfl rfl dX2_readEnemies_53 ?_
    refine lv_if_eq (tgt := 83) hx hb dX2_readEnemies_56 (by decide) (fun c_12 => ?_) (fun c_12 => ?_)
    · rw [if_pos c_12] at hf
      cases hf
      exact m_vret X Y dX2_readEnemies_83
    · rw [if_neg c_12] at hf
      refine lv_aload_n hx hb dX2_readEnemies_59 rfl (lv_at hl 1 rfl) ?_
      refine mg (v := .ref (ad 27)) X Y 27 (by decide) q1132 rfl rfl dX2_readEnemies_60 ?_
      refine lv_iload_n hx hb dX2_readEnemies_63 rfl (lv_at hl 2 rfl) ?_
      refine lv_dup2_11 hx hb dX2_readEnemies_64 rfl rfl ?_
      obtain ⟨b_13, hf⟩ := gd_s hf
      obtain ⟨v_14, ev_14, hf⟩ := nm_s hf
      refine ml (n := 6) X Y 27 12 rfl b_13 ev_14 dX2_readEnemies_65 ?_
      refine lv_iconst (v := (1 : Int32)) hx hb dX2_readEnemies_66 (by decide) ?_
      refine lv_iload_n hx hb dX2_readEnemies_67 rfl (lv_at hl 0 rfl) ?_
      refine lv_ishl hx hb dX2_readEnemies_68 ?_
      refine lv_ior hx hb dX2_readEnemies_69 ?_
      obtain ⟨b_15, hf⟩ := gd_s hf
      obtain ⟨G_16, eG_16, hf⟩ := nm_s hf
      refine ms (n := 6) X Y 27 12 rfl mz27 b_15 eG_16 dX2_readEnemies_70 (fun H locs Y => ?_)
      refine lv_aload_n hx hb dX2_readEnemies_71 rfl (lv_at hl 1 rfl) ?_
      refine mg (v := .ref (ad 27)) X Y 27 (by decide) q1132 rfl rfl dX2_readEnemies_72 ?_
      refine lv_iload_n hx hb dX2_readEnemies_75 rfl (lv_at hl 0 rfl) ?_
      refine lv_dup2_11 hx hb dX2_readEnemies_76 rfl rfl ?_
      obtain ⟨b_17, hf⟩ := gd_s hf
      obtain ⟨v_18, ev_18, hf⟩ := nm_s hf
      refine ml (n := 6) X Y 27 12 rfl b_17 ev_18 dX2_readEnemies_77 ?_
      refine lv_iconst (v := (1 : Int32)) hx hb dX2_readEnemies_78 (by decide) ?_
      refine lv_iload_n hx hb dX2_readEnemies_79 rfl (lv_at hl 2 rfl) ?_
      refine lv_ishl hx hb dX2_readEnemies_80 ?_
      refine lv_ior hx hb dX2_readEnemies_81 ?_
      obtain ⟨b_19, hf⟩ := gd_s hf
      obtain ⟨G_20, eG_20, hf⟩ := nm_s hf
      refine ms (n := 6) X Y 27 12 rfl mz27 b_19 eG_20 dX2_readEnemies_82 (fun H locs Y => ?_)
      cases hf
      exact m_vret X Y dX2_readEnemies_83
  replace hf := hj
  clear hj
  refine lv_if_eq (tgt := 40) hx hb dX2_readEnemies_16 (by decide) (fun c_4 => ?_) (fun c_4 => ?_)
  · rw [if_pos c_4] at hf
    cases hf
    exact J40_21 _ _ Y _ (lv_sub hl [1, 0] rfl)
  · rw [if_neg c_4] at hf
    refine lv_aload_n hx hb dX2_readEnemies_19 rfl (lv_at hl 1 rfl) ?_
    refine mg (v := .int (G_2 0 19)) X Y 19 (by decide) q1124 rfl rfl dX2_readEnemies_20 ?_
    refine lv_iconst (v := (2 : Int32)) hx hb dX2_readEnemies_23 (by decide) ?_
    refine lv_icmp_ne (tgt := 40) hx hb dX2_readEnemies_24 (by decide) (fun c_5 => ?_) (fun c_5 => ?_)
    · rw [if_neg c_5] at hf
      cases hf
      exact J40_21 _ _ Y _ (lv_sub hl [1, 0] rfl)
    · rw [if_pos c_5] at hf
      refine lv_aload_n hx hb dX2_readEnemies_27 rfl (lv_at hl 1 rfl) ?_
      refine mg (v := .int (G_2 0 20)) X Y 20 (by decide) q1125 rfl rfl dX2_readEnemies_28 ?_
      refine lv_iload_n hx hb dX2_readEnemies_31 rfl (lv_at hl 0 rfl) ?_
      refine lv_icmp_ne (tgt := 40) hx hb dX2_readEnemies_32 (by decide) (fun c_6 => ?_) (fun c_6 => ?_)
      · rw [if_neg c_6] at hf
        cases hf
        exact J40_21 _ _ Y _ (lv_sub hl [1, 0] rfl)
      · rw [if_pos c_6] at hf
        refine lv_aload_n hx hb dX2_readEnemies_35 rfl (lv_at hl 1 rfl) ?_
        refine lv_iconst (v := (0 : Int32)) hx hb dX2_readEnemies_36 (by decide) ?_
        obtain ⟨G_7, eG_7, hf⟩ := nm_s hf
        refine mpZ X Y 21 (by decide) q1126 ⟨rfl, rfl⟩ rfl mz0_21 (by decide) eG_7 dX2_readEnemies_37 (fun H locs Y => ?_)
        cases hf
        exact J40_21 _ _ Y _ (lv_sub hl [1, 0] rfl)

def fX2_readPeril (N : Nat) (G : GS) : Option GS :=
  bd2 (fX2_number N G (0 : Int32) ((G 0 23) - (1 : Int32))) fun r_1 G_2 =>
  bd2 (fX2_number N G_2 (0 : Int32) (7 : Int32)) fun r_4 G_5 =>
  if (G_5 0 21) = (0 : Int32) then (
   some G_5
  ) else (
   nm (gu G_5 0 28 r_1 : GS) fun G_8 =>
   nm (gu G_8 0 29 r_4 : GS) fun G_9 =>
   some G_9
  )
theorem ydX2_readPeril : yX2_readPeril.cls = RX2 ∧ yX2_readPeril.cls ≠ "java/lang/invoke/MethodHandle" ∧ yX2_readPeril.cls ≠ "java/lang/invoke/VarHandle" ∧ (parseMethodDescriptor yX2_readPeril.desc).map (fun d => d.parameters.length) = some 0 := by decide +kernel
set_option maxHeartbeats 4000000 in
theorem tX2_readPeril (l : Launch) (N : Nat) (G : GS) (G' : GS) (hf : fX2_readPeril N G = some G') : mMet l yX2_readPeril cX2_readPeril 3 none (mR 4) [] G (none) G' := by
  unfold fX2_readPeril at hf
  refine mMet_of (by decide +kernel) rfl (Nat.le_of_ble_eq_true rfl) (fun {p e s m args below meth c ls D cA h ad A} X Y hl => ?_)
  have hx := X.1.1
  have hb := X.1.2.1
  have hl : lv_has ls 3 [(0, .ref h)] := hl
  refine lv_aload_n hx hb dX2_readPeril_0 rfl (lv_at hl 0 rfl) ?_
  refine lv_iconst (v := (0 : Int32)) hx hb dX2_readPeril_1 (by decide) ?_
  refine lv_aload_n hx hb dX2_readPeril_2 rfl (lv_at hl 0 rfl) ?_
  refine mg (v := .int (G 0 23)) X Y 23 (by decide) q1128 rfl rfl dX2_readPeril_3 ?_
  refine lv_iconst (v := (1 : Int32)) hx hb dX2_readPeril_6 (by decide) ?_
  refine lv_isub hx hb dX2_readPeril_7 ?_
  obtain ⟨r_1, G_2, hq_3, hf⟩ := bd2_s hf
  refine mcI (av := [.int (0 : Int32), .int ((G 0 23) - (1 : Int32))]) (rest := []) 2 X Y (tX2_number l N G (0 : Int32) ((G 0 23) - (1 : Int32)) r_1 G_2 hq_3) (lw_V q1274 q1276 qs39 q70 q1277) ydX2_number ⟨rfl, rfl, by decide, by decide⟩ rfl hl.1 rfl (Nat.le_of_ble_eq_true rfl) ⟨Nat.zero_le _, Nat.zero_le _⟩ dX2_readPeril_8 (fun H locs Y => ?_)
  refine lv_istore_n (lv' := [(1, .int r_1), (0, .ref h)]) hx hb dX2_readPeril_11 rfl hl (by decide) rfl (fun ls hl => ?_)
  refine lv_aload_n hx hb dX2_readPeril_12 rfl (lv_at hl 1 rfl) ?_
  refine lv_iconst (v := (0 : Int32)) hx hb dX2_readPeril_13 (by decide) ?_
  refine lv_bipush (v := (7 : Int32)) hx hb dX2_readPeril_14 (by decide) ?_
  obtain ⟨r_4, G_5, hq_6, hf⟩ := bd2_s hf
  refine mcI (av := [.int (0 : Int32), .int (7 : Int32)]) (rest := []) 2 X Y (tX2_number l N G_2 (0 : Int32) (7 : Int32) r_4 G_5 hq_6) (lw_V q1274 q1276 qs39 q70 q1277) ydX2_number ⟨rfl, rfl, by decide, by decide⟩ rfl hl.1 rfl (Nat.le_of_ble_eq_true rfl) ⟨Nat.zero_le _, Nat.zero_le _⟩ dX2_readPeril_16 (fun H locs Y => ?_)
  refine lv_istore_n (lv' := [(2, .int r_4), (1, .int r_1), (0, .ref h)]) hx hb dX2_readPeril_19 rfl hl (by decide) rfl (fun ls hl => ?_)
  refine lv_aload_n hx hb dX2_readPeril_20 rfl (lv_at hl 2 rfl) ?_
  refine mg (v := .int (G_5 0 21)) X Y 21 (by decide) q1126 rfl rfl dX2_readPeril_21 ?_
  refine lv_if_eq (tgt := 37) hx hb dX2_readPeril_24 (by decide) (fun c_7 => ?_) (fun c_7 => ?_)
  · rw [if_pos c_7] at hf
    cases hf
    exact m_vret X Y dX2_readPeril_37
  · rw [if_neg c_7] at hf
    refine lv_aload_n hx hb dX2_readPeril_27 rfl (lv_at hl 2 rfl) ?_
    refine lv_iload_n hx hb dX2_readPeril_28 rfl (lv_at hl 1 rfl) ?_
    obtain ⟨G_8, eG_8, hf⟩ := nm_s hf
    refine mp X Y 28 (by decide) q1133 ⟨rfl, rfl⟩ rfl mz0_28 eG_8 dX2_readPeril_29 (fun H locs Y => ?_)
    refine lv_aload_n hx hb dX2_readPeril_32 rfl (lv_at hl 2 rfl) ?_
    refine lv_iload_n hx hb dX2_readPeril_33 rfl (lv_at hl 0 rfl) ?_
    obtain ⟨G_9, eG_9, hf⟩ := nm_s hf
    refine mp X Y 29 (by decide) q1134 ⟨rfl, rfl⟩ rfl mz0_29 eG_9 dX2_readPeril_34 (fun H locs Y => ?_)
    cases hf
    exact m_vret X Y dX2_readPeril_37

def fX2_readClause_L152 (N : Nat) : Nat → Int32 → GS → Option GS
  | 0, _, _ => none
  | n_ + 1, x2_16, G_17 =>
    if (6 : Int32) ≤ x2_16 then (
     some G_17
    ) else (
     gd (inb x2_16 6) <|
     nm (gu G_17 27 (x2_16).toNatClampNeg (0 : Int32) : GS) fun G_20 =>
     nm ((x2_16 + (1 : Int32)) : Int32) fun x2_21 =>
     fX2_readClause_L152 N n_ x2_21 G_20
    )
def fX2_readClause_L152x (N : Nat) : Nat → Int32 → GS → Option GS
  | 0, _, _ => none
  | n_ + 1, x2_45, G_46 =>
    if (6 : Int32) ≤ x2_45 then (
     some G_46
    ) else (
     gd (inb x2_45 6) <|
     nm (gu G_46 27 (x2_45).toNatClampNeg (0 : Int32) : GS) fun G_49 =>
     nm ((x2_45 + (1 : Int32)) : Int32) fun x2_50 =>
     fX2_readClause_L152x N n_ x2_50 G_49
    )
def fX2_readClause (N : Nat) (G : GS) : Option GS :=
  bd1 (fX2_wordOf N G) fun r_1 =>
  if r_1 = (0 : Int32) then (
   nm (gu G 0 21 (0 : Int32) : GS) fun G_4 =>
   some G_4
  ) else (
   bd1 (fX2_in N r_1 (7 : Int32) (9 : Int32)) fun r_5 =>
   bdR2 (
    if r_5 = (0 : Int32) then (
     bd1 (fX2_next N G) fun G_8 =>
     if r_1 = (1 : Int32) then (
      bd1 (fX2_readTable N G_8) fun G_34 =>
      some (.inl G_34)
     ) else (
      if (6 : Int32) < r_1 then (
       if (9 : Int32) < r_1 then (
        if r_1 = (10 : Int32) then (
         bd1 (fX2_readEnemies N G_8) fun G_28 =>
         some (.inl G_28)
        ) else (
         if r_1 = (11 : Int32) then (
          bd1 (fX2_readPeril N G_8) fun G_26 =>
          some (.inl G_26)
         ) else (
          if r_1 = (12 : Int32) then (
           bd2 (fX2_number N G_8 (0 : Int32) ((G_8 0 25) - (1 : Int32))) fun r_23 G_24 =>
           some (.inr (r_23, G_24))
          ) else (
           bd1 (fX2_readClause_L152 N N (0 : Int32) G_8) fun G_22 =>
           some (.inl G_22)
          )
         )
        )
       ) else (
        bd1 (fX2_readKnight N G_8 (r_1 - (7 : Int32))) fun G_30 =>
        some (.inl G_30)
       )
      ) else (
       bd1 (fX2_readName N G_8 (r_1 - (2 : Int32))) fun G_32 =>
       some (.inl G_32)
      )
     )
    ) else (
     if (G 0 25) = (6 : Int32) then (
      nm (gu G 0 21 (0 : Int32) : GS) fun G_65 =>
      some (.inl G_65)
     ) else (
      bd1 (fX2_next N G) fun G_37 =>
      if r_1 = (1 : Int32) then (
       bd1 (fX2_readTable N G_37) fun G_63 =>
       some (.inl G_63)
      ) else (
       if (6 : Int32) < r_1 then (
        if (9 : Int32) < r_1 then (
         if r_1 = (10 : Int32) then (
          bd1 (fX2_readEnemies N G_37) fun G_57 =>
          some (.inl G_57)
         ) else (
          if r_1 = (11 : Int32) then (
           bd1 (fX2_readPeril N G_37) fun G_55 =>
           some (.inl G_55)
          ) else (
           if r_1 = (12 : Int32) then (
            bd2 (fX2_number N G_37 (0 : Int32) ((G_37 0 25) - (1 : Int32))) fun r_52 G_53 =>
            some (.inr (r_52, G_53))
           ) else (
            bd1 (fX2_readClause_L152x N N (0 : Int32) G_37) fun G_51 =>
            some (.inl G_51)
           )
          )
         )
        ) else (
         bd1 (fX2_readKnight N G_37 (r_1 - (7 : Int32))) fun G_59 =>
         some (.inl G_59)
        )
       ) else (
        bd1 (fX2_readName N G_37 (r_1 - (2 : Int32))) fun G_61 =>
        some (.inl G_61)
       )
      )
     )
    )
   ) (fun a_ => some a_) fun x2_66 G_67 =>
   bd1 (
    if (G_67 0 21) = (0 : Int32) then (
     some (G_67 0 30)
    ) else (
     some x2_66
    )
   ) fun j_69 =>
   nm (gu G_67 0 30 j_69 : GS) fun G_70 =>
   some G_70
  )
theorem ydX2_readClause : yX2_readClause.cls = RX2 ∧ yX2_readClause.cls ≠ "java/lang/invoke/MethodHandle" ∧ yX2_readClause.cls ≠ "java/lang/invoke/VarHandle" ∧ (parseMethodDescriptor yX2_readClause.desc).map (fun d => d.parameters.length) = some 0 := by decide +kernel
set_option maxHeartbeats 4000000 in
theorem tX2_readClause (l : Launch) (N : Nat) (G : GS) (G' : GS) (hf : fX2_readClause N G = some G') : mMet l yX2_readClause cX2_readClause 3 none (mR 5) [] G (none) G' := by
  unfold fX2_readClause at hf
  refine mMet_of (by decide +kernel) rfl (Nat.le_of_ble_eq_true rfl) (fun {p e s m args below meth c ls D cA h ad A} X Y hl => ?_)
  have hx := X.1.1
  have hb := X.1.2.1
  have hl : lv_has ls 3 [(0, .ref h)] := hl
  refine lv_aload_n hx hb dX2_readClause_0 rfl (lv_at hl 0 rfl) ?_
  obtain ⟨r_1, hq_2, hf⟩ := bd1_s hf
  refine mcI (av := []) (rest := []) 0 X Y (tX2_wordOf l N G r_1 hq_2) (lw_V q1258 q1260 qs35 q70 q1261) ydX2_wordOf ⟨rfl, rfl, by decide, by decide⟩ rfl hl.1 rfl (Nat.le_of_ble_eq_true rfl) ⟨Nat.zero_le _, Nat.zero_le _⟩ dX2_readClause_1 (fun H locs Y => ?_)
  refine lv_istore_n (lv' := [(1, .int r_1), (0, .ref h)]) hx hb dX2_readClause_4 rfl hl (by decide) rfl (fun ls hl => ?_)
  refine lv_iload_n hx hb dX2_readClause_5 rfl (lv_at hl 0 rfl) ?_
  refine lv_if_eq (tgt := 29) hx hb dX2_readClause_6 (by decide) (fun c_3 => ?_) (fun c_3 => ?_)
  · rw [if_pos c_3] at hf
    refine lv_aload_n hx hb dX2_readClause_29 rfl (lv_at hl 1 rfl) ?_
    refine lv_iconst (v := (0 : Int32)) hx hb dX2_readClause_30 (by decide) ?_
    obtain ⟨G_4, eG_4, hf⟩ := nm_s hf
    refine mpZ X Y 21 (by decide) q1126 ⟨rfl, rfl⟩ rfl mz0_21 (by decide) eG_4 dX2_readClause_31 (fun H locs Y => ?_)
    cases hf
    exact m_vret X Y dX2_readClause_34
  · rw [if_neg c_3] at hf
    refine lv_iload_n hx hb dX2_readClause_9 rfl (lv_at hl 0 rfl) ?_
    refine lv_bipush (v := (7 : Int32)) hx hb dX2_readClause_10 (by decide) ?_
    refine lv_bipush (v := (9 : Int32)) hx hb dX2_readClause_12 (by decide) ?_
    obtain ⟨r_5, hq_6, hf⟩ := bd1_s hf
    refine w_callSI (av := [.int r_1, .int (7 : Int32), .int (9 : Int32)]) (rest := []) 3 X Y (tX2_in l N r_1 (7 : Int32) (9 : Int32) r_5 hq_6) (lw_S q1225 q1226 q70 q1227) ydX2_in ⟨rfl, rfl, by decide, by decide⟩ rfl hl.1 rfl (Nat.le_of_ble_eq_true rfl) ⟨Nat.zero_le _, Nat.zero_le _⟩ dX2_readClause_14 (fun H locs Y => ?_)
    obtain ⟨z_71, hj, hzl_71, hzr_71⟩ := bdR2_s hf
    have J128_71 : ∀ (x2_66 : Int32) (G_67 : GS), z_71 = .inr (x2_66, G_67) → ∀ (H : Heap) (locs : List Loc), WX D A s (mW h ad cA G_67) H locs → ∀ ls : Array Slot, lv_has ls 3 [(0, .ref h), (2, .int x2_66)] → W p l e (mR 5) s m args below meth c H locs 0 0 (MQ below (mQ D cA h ad A (none) G') args s 0 0 A) (F0 m 128 ls []) := by
      clear hj
      intro x2_66 G_67 hz
      have hf := hzr_71 _ _ hz
      intro H locs Y ls hl
      refine lv_aload_n hx hb dX2_readClause_128 rfl (lv_at hl 0 rfl) ?_
      refine lv_aload_n hx hb dX2_readClause_129 rfl (lv_at hl 0 rfl) ?_
      refine mg (v := .int (G_67 0 21)) X Y 21 (by decide) q1126 rfl rfl dX2_readClause_130 ?_
      obtain ⟨j_69, hj, hf⟩ := bd1_s hf
      have J144_72 : ∀ (H : Heap) (locs : List Loc), WX D A s (mW h ad cA G_67) H locs → ∀ ls : Array Slot, lv_has ls 3 [] → W p l e (mR 5) s m args below meth c H locs 0 0 (MQ below (mQ D cA h ad A (none) G') args s 0 0 A) (F0 m 144 ls [.int j_69, .ref h]) := by
        clear hj
        intro H locs Y ls hl
        obtain ⟨G_70, eG_70, hf⟩ := nm_s hf
        refine mp X Y 30 (by decide) q1135 ⟨rfl, rfl⟩ rfl mz0_30 eG_70 dX2_readClause_144 (fun H locs Y => ?_)
        refine lv_goto (tgt := 171) hx hb dX2_readClause_147 (by decide) ?_
        cases hf
        exact m_vret X Y dX2_readClause_171
      replace hf := hj
      clear hj
      refine lv_if_eq (tgt := 140) hx hb dX2_readClause_133 (by decide) (fun c_68 => ?_) (fun c_68 => ?_)
      · rw [if_pos c_68] at hf
        refine lv_aload_n hx hb dX2_readClause_140 rfl (lv_at hl 0 rfl) ?_
        refine mg (v := .int (G_67 0 30)) X Y 30 (by decide) q1135 rfl rfl dX2_readClause_141 ?_
        cases hf
        exact J144_72 _ _ Y _ (lv_sub hl [] rfl)
      · rw [if_neg c_68] at hf
        refine lv_iload_n hx hb dX2_readClause_136 rfl (lv_at hl 1 rfl) ?_
        refine lv_goto (tgt := 144) hx hb dX2_readClause_137 (by decide) ?_
        cases hf
        exact J144_72 _ _ Y _ (lv_sub hl [] rfl)
    replace hf := hj
    clear hj
    refine lv_if_eq (tgt := 35) hx hb dX2_readClause_17 (by decide) (fun c_7 => ?_) (fun c_7 => ?_)
    · rw [if_pos c_7] at hf
      refine lv_aload_n hx hb dX2_readClause_35 rfl (lv_at hl 1 rfl) ?_
      obtain ⟨G_8, hq_9, hf⟩ := bd1_s hf
      refine mcV (av := []) (rest := []) 0 X Y (tX2_next l N G G_8 hq_9) (lw_V q1240 q1242 qs32 q70 q1243) ydX2_next ⟨rfl, rfl, by decide, by decide⟩ rfl hl.1 rfl (Nat.le_of_ble_eq_true rfl) ⟨Nat.zero_le _, Nat.zero_le _⟩ dX2_readClause_36 (fun H locs Y => ?_)
      refine lv_iload_n hx hb dX2_readClause_39 rfl (lv_at hl 0 rfl) ?_
      refine lv_iconst (v := (1 : Int32)) hx hb dX2_readClause_40 (by decide) ?_
      refine lv_icmp_ne (tgt := 51) hx hb dX2_readClause_41 (by decide) (fun c_10 => ?_) (fun c_10 => ?_)
      · rw [if_neg c_10] at hf
        refine lv_iload_n hx hb dX2_readClause_51 rfl (lv_at hl 0 rfl) ?_
        refine lv_bipush (v := (6 : Int32)) hx hb dX2_readClause_52 (by decide) ?_
        refine lv_icmp_gt (tgt := 67) hx hb dX2_readClause_54 (by decide) (fun c_11 => ?_) (fun c_11 => ?_)
        · rw [if_pos c_11] at hf
          refine lv_iload_n hx hb dX2_readClause_67 rfl (lv_at hl 0 rfl) ?_
          refine lv_bipush (v := (9 : Int32)) hx hb dX2_readClause_68 (by decide) ?_
          refine lv_icmp_gt (tgt := 84) hx hb dX2_readClause_70 (by decide) (fun c_12 => ?_) (fun c_12 => ?_)
          · rw [if_pos c_12] at hf
            refine lv_iload_n hx hb dX2_readClause_84 rfl (lv_at hl 0 rfl) ?_
            refine lv_bipush (v := (10 : Int32)) hx hb dX2_readClause_85 (by decide) ?_
            refine lv_icmp_ne (tgt := 97) hx hb dX2_readClause_87 (by decide) (fun c_13 => ?_) (fun c_13 => ?_)
            · rw [if_neg c_13] at hf
              refine lv_iload_n hx hb dX2_readClause_97 rfl (lv_at hl 0 rfl) ?_
              refine lv_bipush (v := (11 : Int32)) hx hb dX2_readClause_98 (by decide) ?_
              refine lv_icmp_ne (tgt := 110) hx hb dX2_readClause_100 (by decide) (fun c_14 => ?_) (fun c_14 => ?_)
              · rw [if_neg c_14] at hf
                refine lv_iload_n hx hb dX2_readClause_110 rfl (lv_at hl 0 rfl) ?_
                refine lv_bipush (v := (12 : Int32)) hx hb dX2_readClause_111 (by decide) ?_
                refine lv_icmp_ne (tgt := 150) hx hb dX2_readClause_113 (by decide) (fun c_15 => ?_) (fun c_15 => ?_)
                · rw [if_neg c_15] at hf
                  refine lv_iconst (v := (0 : Int32)) hx hb dX2_readClause_150 (by decide) ?_
                  refine lv_istore_n (lv' := [(2, .int (0 : Int32)), (1, .int r_1), (0, .ref h)]) hx hb dX2_readClause_151 rfl hl (by decide) rfl (fun ls hl => ?_)
                  obtain ⟨G_22, hL, hf⟩ := bd1_s hf
                  have E152_73 : ∀ (H : Heap) (locs : List Loc), WX D A s (mW h ad cA G_22) H locs → ∀ ls : Array Slot, lv_has ls 3 [] → W p l e (mR 5) s m args below meth c H locs 0 0 (MQ below (mQ D cA h ad A (none) G') args s 0 0 A) (F0 m 171 ls []) := by
                    clear hL
                    intro H locs Y ls hl
                    cases hf
                    have hf := hzl_71 _ rfl
                    cases hf
                    exact m_vret X Y dX2_readClause_171
                  clear hf
                  have L152_73 : ∀ (n_ : Nat) (x2_16 : Int32) (G_17 : GS), fX2_readClause_L152 N n_ x2_16 G_17 = some G_22 → ∀ (H : Heap) (locs : List Loc), WX D A s (mW h ad cA G_17) H locs → ∀ ls : Array Slot, lv_has ls 3 [(0, .ref h), (2, .int x2_16)] → W p l e (mR 5) s m args below meth c H locs 0 0 (MQ below (mQ D cA h ad A (none) G') args s 0 0 A) (F0 m 152 ls []) := by
                    clear hL
                    intro n_
                    induction n_ with
                    | zero =>
                      intro x2_16 G_17 hf
                      rw [fX2_readClause_L152.eq_1] at hf
                      cases hf
                    | succ n_ ih =>
                      intro x2_16 G_17 hf
                      intro H locs Y ls hl
                      rw [fX2_readClause_L152.eq_2] at hf
                      refine lv_iload_n hx hb dX2_readClause_152 rfl (lv_at hl 1 rfl) ?_
                      refine lv_bipush (v := (6 : Int32)) hx hb dX2_readClause_153 (by decide) ?_
                      refine lv_icmp_ge (tgt := 171) hx hb dX2_readClause_155 (by decide) (fun c_18 => ?_) (fun c_18 => ?_)
                      · rw [if_pos c_18] at hf
                        cases hf
                        exact E152_73 _ _ Y _ (lv_sub hl [] rfl)
                      · rw [if_neg c_18] at hf
                        refine lv_aload_n hx hb dX2_readClause_158 rfl (lv_at hl 0 rfl) ?_
                        refine mg (v := .ref (ad 27)) X Y 27 (by decide) q1132 rfl rfl dX2_readClause_159 ?_
                        refine lv_iload_n hx hb dX2_readClause_162 rfl (lv_at hl 1 rfl) ?_
                        refine lv_iconst (v := (0 : Int32)) hx hb dX2_readClause_163 (by decide) ?_
                        obtain ⟨b_19, hf⟩ := gd_s hf
                        obtain ⟨G_20, eG_20, hf⟩ := nm_s hf
                        refine ms (n := 6) X Y 27 12 rfl mz27 b_19 eG_20 dX2_readClause_164 (fun H locs Y => ?_)
                        obtain ⟨x2_21, ex2_21, hf⟩ := nm_s hf
                        refine lv_iinc (v := x2_21) (lv' := [(2, .int x2_21), (0, .ref h)]) hx hb dX2_readClause_165 hl (k := 1) rfl (by rw [ex2_21]; rfl) (by decide) rfl (fun ls hl => ?_)
                        refine lv_goto (tgt := 152) hx hb dX2_readClause_168 (by decide) ?_
                        exact ih _ _ hf _ _ Y _ (lv_sub hl [1, 0] rfl)
                  exact L152_73 N _ _ hL _ _ Y _ (lv_sub hl [2, 0] rfl)
                · rw [if_pos c_15] at hf
                  refine lv_aload_n hx hb dX2_readClause_116 rfl (lv_at hl 1 rfl) ?_
                  refine lv_iconst (v := (0 : Int32)) hx hb dX2_readClause_117 (by decide) ?_
                  refine lv_aload_n hx hb dX2_readClause_118 rfl (lv_at hl 1 rfl) ?_
                  refine mg (v := .int (G_8 0 25)) X Y 25 (by decide) q1130 rfl rfl dX2_readClause_119 ?_
                  refine lv_iconst (v := (1 : Int32)) hx hb dX2_readClause_122 (by decide) ?_
                  refine lv_isub hx hb dX2_readClause_123 ?_
                  obtain ⟨r_23, G_24, hq_25, hf⟩ := bd2_s hf
                  refine mcI (av := [.int (0 : Int32), .int ((G_8 0 25) - (1 : Int32))]) (rest := []) 2 X Y (tX2_number l N G_8 (0 : Int32) ((G_8 0 25) - (1 : Int32)) r_23 G_24 hq_25) (lw_V q1274 q1276 qs39 q70 q1277) ydX2_number ⟨rfl, rfl, by decide, by decide⟩ rfl hl.1 rfl (Nat.le_of_ble_eq_true rfl) ⟨Nat.zero_le _, Nat.zero_le _⟩ dX2_readClause_124 (fun H locs Y => ?_)
                  refine lv_istore_n (lv' := [(2, .int r_23), (1, .int r_1), (0, .ref h)]) hx hb dX2_readClause_127 rfl hl (by decide) rfl (fun ls hl => ?_)
                  cases hf
                  exact J128_71 _ _ rfl _ _ Y _ (lv_sub hl [2, 0] rfl)
              · rw [if_pos c_14] at hf
                refine lv_aload_n hx hb dX2_readClause_103 rfl (lv_at hl 1 rfl) ?_
                obtain ⟨G_26, hq_27, hf⟩ := bd1_s hf
                refine mcV (av := []) (rest := []) 0 X Y (tX2_readPeril l N G_8 G_26 hq_27) (lw_V q1294 q1296 qs44 q70 q1297) ydX2_readPeril ⟨rfl, rfl, by decide, by decide⟩ rfl hl.1 rfl (Nat.le_of_ble_eq_true rfl) ⟨Nat.zero_le _, Nat.zero_le _⟩ dX2_readClause_104 (fun H locs Y => ?_)
                refine lv_goto (tgt := 171) hx hb dX2_readClause_107 (by decide) ?_
                cases hf
                have hf := hzl_71 _ rfl
                cases hf
                exact m_vret X Y dX2_readClause_171
            · rw [if_pos c_13] at hf
              refine lv_aload_n hx hb dX2_readClause_90 rfl (lv_at hl 1 rfl) ?_
              obtain ⟨G_28, hq_29, hf⟩ := bd1_s hf
              refine mcV (av := []) (rest := []) 0 X Y (tX2_readEnemies l N G_8 G_28 hq_29) (lw_V q1290 q1292 qs43 q70 q1293) ydX2_readEnemies ⟨rfl, rfl, by decide, by decide⟩ rfl hl.1 rfl (Nat.le_of_ble_eq_true rfl) ⟨Nat.zero_le _, Nat.zero_le _⟩ dX2_readClause_91 (fun H locs Y => ?_)
              refine lv_goto (tgt := 171) hx hb dX2_readClause_94 (by decide) ?_
              cases hf
              have hf := hzl_71 _ rfl
              cases hf
              exact m_vret X Y dX2_readClause_171
          · rw [if_neg c_12] at hf
            refine lv_aload_n hx hb dX2_readClause_73 rfl (lv_at hl 1 rfl) ?_
            refine lv_iload_n hx hb dX2_readClause_74 rfl (lv_at hl 0 rfl) ?_
            refine lv_bipush (v := (7 : Int32)) hx hb dX2_readClause_75 (by decide) ?_
            refine lv_isub hx hb dX2_readClause_77 ?_
            obtain ⟨G_30, hq_31, hf⟩ := bd1_s hf
            refine mcV (av := [.int (r_1 - (7 : Int32))]) (rest := []) 1 X Y (tX2_readKnight l N G_8 (r_1 - (7 : Int32)) G_30 hq_31) (lw_V q1286 q1288 qs42 q70 q1289) ydX2_readKnight ⟨rfl, rfl, by decide, by decide⟩ rfl hl.1 rfl (Nat.le_of_ble_eq_true rfl) ⟨Nat.zero_le _, Nat.zero_le _⟩ dX2_readClause_78 (fun H locs Y => ?_)
            refine lv_goto (tgt := 171) hx hb dX2_readClause_81 (by decide) ?_
            cases hf
            have hf := hzl_71 _ rfl
            cases hf
            exact m_vret X Y dX2_readClause_171
        · rw [if_neg c_11] at hf
          refine lv_aload_n hx hb dX2_readClause_57 rfl (lv_at hl 1 rfl) ?_
          refine lv_iload_n hx hb dX2_readClause_58 rfl (lv_at hl 0 rfl) ?_
          refine lv_iconst (v := (2 : Int32)) hx hb dX2_readClause_59 (by decide) ?_
          refine lv_isub hx hb dX2_readClause_60 ?_
          obtain ⟨G_32, hq_33, hf⟩ := bd1_s hf
          refine mcV (av := [.int (r_1 - (2 : Int32))]) (rest := []) 1 X Y (tX2_readName l N G_8 (r_1 - (2 : Int32)) G_32 hq_33) (lw_V q1282 q1284 qs41 q70 q1285) ydX2_readName ⟨rfl, rfl, by decide, by decide⟩ rfl hl.1 rfl (Nat.le_of_ble_eq_true rfl) ⟨Nat.zero_le _, Nat.zero_le _⟩ dX2_readClause_61 (fun H locs Y => ?_)
          refine lv_goto (tgt := 171) hx hb dX2_readClause_64 (by decide) ?_
          cases hf
          have hf := hzl_71 _ rfl
          cases hf
          exact m_vret X Y dX2_readClause_171
      · rw [if_pos c_10] at hf
        refine lv_aload_n hx hb dX2_readClause_44 rfl (lv_at hl 1 rfl) ?_
        obtain ⟨G_34, hq_35, hf⟩ := bd1_s hf
        refine mcV (av := []) (rest := []) 0 X Y (tX2_readTable l N G_8 G_34 hq_35) (lw_V q1270 q1272 qs38 q70 q1273) ydX2_readTable ⟨rfl, rfl, by decide, by decide⟩ rfl hl.1 rfl (Nat.le_of_ble_eq_true rfl) ⟨Nat.zero_le _, Nat.zero_le _⟩ dX2_readClause_45 (fun H locs Y => ?_)
        refine lv_goto (tgt := 171) hx hb dX2_readClause_48 (by decide) ?_
        cases hf
        have hf := hzl_71 _ rfl
        cases hf
        exact m_vret X Y dX2_readClause_171
    · rw [if_neg c_7] at hf
      refine lv_aload_n hx hb dX2_readClause_20 rfl (lv_at hl 1 rfl) ?_
      refine mg (v := .int (G 0 25)) X Y 25 (by decide) q1130 rfl rfl dX2_readClause_21 ?_
      refine lv_bipush (v := (6 : Int32)) hx hb dX2_readClause_24 (by decide) ?_
      refine lv_icmp_ne (tgt := 35) hx hb dX2_readClause_26 (by decide) (fun c_36 => ?_) (fun c_36 => ?_)
      · rw [if_neg c_36] at hf
        refine lv_aload_n hx hb dX2_readClause_35 rfl (lv_at hl 1 rfl) ?_
        obtain ⟨G_37, hq_38, hf⟩ := bd1_s hf
        refine mcV (av := []) (rest := []) 0 X Y (tX2_next l N G G_37 hq_38) (lw_V q1240 q1242 qs32 q70 q1243) ydX2_next ⟨rfl, rfl, by decide, by decide⟩ rfl hl.1 rfl (Nat.le_of_ble_eq_true rfl) ⟨Nat.zero_le _, Nat.zero_le _⟩ dX2_readClause_36 (fun H locs Y => ?_)
        refine lv_iload_n hx hb dX2_readClause_39 rfl (lv_at hl 0 rfl) ?_
        refine lv_iconst (v := (1 : Int32)) hx hb dX2_readClause_40 (by decide) ?_
        refine lv_icmp_ne (tgt := 51) hx hb dX2_readClause_41 (by decide) (fun c_39 => ?_) (fun c_39 => ?_)
        · rw [if_neg c_39] at hf
          refine lv_iload_n hx hb dX2_readClause_51 rfl (lv_at hl 0 rfl) ?_
          refine lv_bipush (v := (6 : Int32)) hx hb dX2_readClause_52 (by decide) ?_
          refine lv_icmp_gt (tgt := 67) hx hb dX2_readClause_54 (by decide) (fun c_40 => ?_) (fun c_40 => ?_)
          · rw [if_pos c_40] at hf
            refine lv_iload_n hx hb dX2_readClause_67 rfl (lv_at hl 0 rfl) ?_
            refine lv_bipush (v := (9 : Int32)) hx hb dX2_readClause_68 (by decide) ?_
            refine lv_icmp_gt (tgt := 84) hx hb dX2_readClause_70 (by decide) (fun c_41 => ?_) (fun c_41 => ?_)
            · rw [if_pos c_41] at hf
              refine lv_iload_n hx hb dX2_readClause_84 rfl (lv_at hl 0 rfl) ?_
              refine lv_bipush (v := (10 : Int32)) hx hb dX2_readClause_85 (by decide) ?_
              refine lv_icmp_ne (tgt := 97) hx hb dX2_readClause_87 (by decide) (fun c_42 => ?_) (fun c_42 => ?_)
              · rw [if_neg c_42] at hf
                refine lv_iload_n hx hb dX2_readClause_97 rfl (lv_at hl 0 rfl) ?_
                refine lv_bipush (v := (11 : Int32)) hx hb dX2_readClause_98 (by decide) ?_
                refine lv_icmp_ne (tgt := 110) hx hb dX2_readClause_100 (by decide) (fun c_43 => ?_) (fun c_43 => ?_)
                · rw [if_neg c_43] at hf
                  refine lv_iload_n hx hb dX2_readClause_110 rfl (lv_at hl 0 rfl) ?_
                  refine lv_bipush (v := (12 : Int32)) hx hb dX2_readClause_111 (by decide) ?_
                  refine lv_icmp_ne (tgt := 150) hx hb dX2_readClause_113 (by decide) (fun c_44 => ?_) (fun c_44 => ?_)
                  · rw [if_neg c_44] at hf
                    refine lv_iconst (v := (0 : Int32)) hx hb dX2_readClause_150 (by decide) ?_
                    refine lv_istore_n (lv' := [(2, .int (0 : Int32)), (1, .int r_1), (0, .ref h)]) hx hb dX2_readClause_151 rfl hl (by decide) rfl (fun ls hl => ?_)
                    obtain ⟨G_51, hL, hf⟩ := bd1_s hf
                    have E152_74 : ∀ (H : Heap) (locs : List Loc), WX D A s (mW h ad cA G_51) H locs → ∀ ls : Array Slot, lv_has ls 3 [] → W p l e (mR 5) s m args below meth c H locs 0 0 (MQ below (mQ D cA h ad A (none) G') args s 0 0 A) (F0 m 171 ls []) := by
                      clear hL
                      intro H locs Y ls hl
                      cases hf
                      have hf := hzl_71 _ rfl
                      cases hf
                      exact m_vret X Y dX2_readClause_171
                    clear hf
                    have L152_74 : ∀ (n_ : Nat) (x2_45 : Int32) (G_46 : GS), fX2_readClause_L152x N n_ x2_45 G_46 = some G_51 → ∀ (H : Heap) (locs : List Loc), WX D A s (mW h ad cA G_46) H locs → ∀ ls : Array Slot, lv_has ls 3 [(0, .ref h), (2, .int x2_45)] → W p l e (mR 5) s m args below meth c H locs 0 0 (MQ below (mQ D cA h ad A (none) G') args s 0 0 A) (F0 m 152 ls []) := by
                      clear hL
                      intro n_
                      induction n_ with
                      | zero =>
                        intro x2_45 G_46 hf
                        rw [fX2_readClause_L152x.eq_1] at hf
                        cases hf
                      | succ n_ ih =>
                        intro x2_45 G_46 hf
                        intro H locs Y ls hl
                        rw [fX2_readClause_L152x.eq_2] at hf
                        refine lv_iload_n hx hb dX2_readClause_152 rfl (lv_at hl 1 rfl) ?_
                        refine lv_bipush (v := (6 : Int32)) hx hb dX2_readClause_153 (by decide) ?_
                        refine lv_icmp_ge (tgt := 171) hx hb dX2_readClause_155 (by decide) (fun c_47 => ?_) (fun c_47 => ?_)
                        · rw [if_pos c_47] at hf
                          cases hf
                          exact E152_74 _ _ Y _ (lv_sub hl [] rfl)
                        · rw [if_neg c_47] at hf
                          refine lv_aload_n hx hb dX2_readClause_158 rfl (lv_at hl 0 rfl) ?_
                          refine mg (v := .ref (ad 27)) X Y 27 (by decide) q1132 rfl rfl dX2_readClause_159 ?_
                          refine lv_iload_n hx hb dX2_readClause_162 rfl (lv_at hl 1 rfl) ?_
                          refine lv_iconst (v := (0 : Int32)) hx hb dX2_readClause_163 (by decide) ?_
                          obtain ⟨b_48, hf⟩ := gd_s hf
                          obtain ⟨G_49, eG_49, hf⟩ := nm_s hf
                          refine ms (n := 6) X Y 27 12 rfl mz27 b_48 eG_49 dX2_readClause_164 (fun H locs Y => ?_)
                          obtain ⟨x2_50, ex2_50, hf⟩ := nm_s hf
                          refine lv_iinc (v := x2_50) (lv' := [(2, .int x2_50), (0, .ref h)]) hx hb dX2_readClause_165 hl (k := 1) rfl (by rw [ex2_50]; rfl) (by decide) rfl (fun ls hl => ?_)
                          refine lv_goto (tgt := 152) hx hb dX2_readClause_168 (by decide) ?_
                          exact ih _ _ hf _ _ Y _ (lv_sub hl [1, 0] rfl)
                    exact L152_74 N _ _ hL _ _ Y _ (lv_sub hl [2, 0] rfl)
                  · rw [if_pos c_44] at hf
                    refine lv_aload_n hx hb dX2_readClause_116 rfl (lv_at hl 1 rfl) ?_
                    refine lv_iconst (v := (0 : Int32)) hx hb dX2_readClause_117 (by decide) ?_
                    refine lv_aload_n hx hb dX2_readClause_118 rfl (lv_at hl 1 rfl) ?_
                    refine mg (v := .int (G_37 0 25)) X Y 25 (by decide) q1130 rfl rfl dX2_readClause_119 ?_
                    refine lv_iconst (v := (1 : Int32)) hx hb dX2_readClause_122 (by decide) ?_
                    refine lv_isub hx hb dX2_readClause_123 ?_
                    obtain ⟨r_52, G_53, hq_54, hf⟩ := bd2_s hf
                    refine mcI (av := [.int (0 : Int32), .int ((G_37 0 25) - (1 : Int32))]) (rest := []) 2 X Y (tX2_number l N G_37 (0 : Int32) ((G_37 0 25) - (1 : Int32)) r_52 G_53 hq_54) (lw_V q1274 q1276 qs39 q70 q1277) ydX2_number ⟨rfl, rfl, by decide, by decide⟩ rfl hl.1 rfl (Nat.le_of_ble_eq_true rfl) ⟨Nat.zero_le _, Nat.zero_le _⟩ dX2_readClause_124 (fun H locs Y => ?_)
                    refine lv_istore_n (lv' := [(2, .int r_52), (1, .int r_1), (0, .ref h)]) hx hb dX2_readClause_127 rfl hl (by decide) rfl (fun ls hl => ?_)
                    cases hf
                    exact J128_71 _ _ rfl _ _ Y _ (lv_sub hl [2, 0] rfl)
                · rw [if_pos c_43] at hf
                  refine lv_aload_n hx hb dX2_readClause_103 rfl (lv_at hl 1 rfl) ?_
                  obtain ⟨G_55, hq_56, hf⟩ := bd1_s hf
                  refine mcV (av := []) (rest := []) 0 X Y (tX2_readPeril l N G_37 G_55 hq_56) (lw_V q1294 q1296 qs44 q70 q1297) ydX2_readPeril ⟨rfl, rfl, by decide, by decide⟩ rfl hl.1 rfl (Nat.le_of_ble_eq_true rfl) ⟨Nat.zero_le _, Nat.zero_le _⟩ dX2_readClause_104 (fun H locs Y => ?_)
                  refine lv_goto (tgt := 171) hx hb dX2_readClause_107 (by decide) ?_
                  cases hf
                  have hf := hzl_71 _ rfl
                  cases hf
                  exact m_vret X Y dX2_readClause_171
              · rw [if_pos c_42] at hf
                refine lv_aload_n hx hb dX2_readClause_90 rfl (lv_at hl 1 rfl) ?_
                obtain ⟨G_57, hq_58, hf⟩ := bd1_s hf
                refine mcV (av := []) (rest := []) 0 X Y (tX2_readEnemies l N G_37 G_57 hq_58) (lw_V q1290 q1292 qs43 q70 q1293) ydX2_readEnemies ⟨rfl, rfl, by decide, by decide⟩ rfl hl.1 rfl (Nat.le_of_ble_eq_true rfl) ⟨Nat.zero_le _, Nat.zero_le _⟩ dX2_readClause_91 (fun H locs Y => ?_)
                refine lv_goto (tgt := 171) hx hb dX2_readClause_94 (by decide) ?_
                cases hf
                have hf := hzl_71 _ rfl
                cases hf
                exact m_vret X Y dX2_readClause_171
            · rw [if_neg c_41] at hf
              refine lv_aload_n hx hb dX2_readClause_73 rfl (lv_at hl 1 rfl) ?_
              refine lv_iload_n hx hb dX2_readClause_74 rfl (lv_at hl 0 rfl) ?_
              refine lv_bipush (v := (7 : Int32)) hx hb dX2_readClause_75 (by decide) ?_
              refine lv_isub hx hb dX2_readClause_77 ?_
              obtain ⟨G_59, hq_60, hf⟩ := bd1_s hf
              refine mcV (av := [.int (r_1 - (7 : Int32))]) (rest := []) 1 X Y (tX2_readKnight l N G_37 (r_1 - (7 : Int32)) G_59 hq_60) (lw_V q1286 q1288 qs42 q70 q1289) ydX2_readKnight ⟨rfl, rfl, by decide, by decide⟩ rfl hl.1 rfl (Nat.le_of_ble_eq_true rfl) ⟨Nat.zero_le _, Nat.zero_le _⟩ dX2_readClause_78 (fun H locs Y => ?_)
              refine lv_goto (tgt := 171) hx hb dX2_readClause_81 (by decide) ?_
              cases hf
              have hf := hzl_71 _ rfl
              cases hf
              exact m_vret X Y dX2_readClause_171
          · rw [if_neg c_40] at hf
            refine lv_aload_n hx hb dX2_readClause_57 rfl (lv_at hl 1 rfl) ?_
            refine lv_iload_n hx hb dX2_readClause_58 rfl (lv_at hl 0 rfl) ?_
            refine lv_iconst (v := (2 : Int32)) hx hb dX2_readClause_59 (by decide) ?_
            refine lv_isub hx hb dX2_readClause_60 ?_
            obtain ⟨G_61, hq_62, hf⟩ := bd1_s hf
            refine mcV (av := [.int (r_1 - (2 : Int32))]) (rest := []) 1 X Y (tX2_readName l N G_37 (r_1 - (2 : Int32)) G_61 hq_62) (lw_V q1282 q1284 qs41 q70 q1285) ydX2_readName ⟨rfl, rfl, by decide, by decide⟩ rfl hl.1 rfl (Nat.le_of_ble_eq_true rfl) ⟨Nat.zero_le _, Nat.zero_le _⟩ dX2_readClause_61 (fun H locs Y => ?_)
            refine lv_goto (tgt := 171) hx hb dX2_readClause_64 (by decide) ?_
            cases hf
            have hf := hzl_71 _ rfl
            cases hf
            exact m_vret X Y dX2_readClause_171
        · rw [if_pos c_39] at hf
          refine lv_aload_n hx hb dX2_readClause_44 rfl (lv_at hl 1 rfl) ?_
          obtain ⟨G_63, hq_64, hf⟩ := bd1_s hf
          refine mcV (av := []) (rest := []) 0 X Y (tX2_readTable l N G_37 G_63 hq_64) (lw_V q1270 q1272 qs38 q70 q1273) ydX2_readTable ⟨rfl, rfl, by decide, by decide⟩ rfl hl.1 rfl (Nat.le_of_ble_eq_true rfl) ⟨Nat.zero_le _, Nat.zero_le _⟩ dX2_readClause_45 (fun H locs Y => ?_)
          refine lv_goto (tgt := 171) hx hb dX2_readClause_48 (by decide) ?_
          cases hf
          have hf := hzl_71 _ rfl
          cases hf
          exact m_vret X Y dX2_readClause_171
      · rw [if_pos c_36] at hf
        refine lv_aload_n hx hb dX2_readClause_29 rfl (lv_at hl 1 rfl) ?_
        refine lv_iconst (v := (0 : Int32)) hx hb dX2_readClause_30 (by decide) ?_
        obtain ⟨G_65, eG_65, hf⟩ := nm_s hf
        refine mpZ X Y 21 (by decide) q1126 ⟨rfl, rfl⟩ rfl mz0_21 (by decide) eG_65 dX2_readClause_31 (fun H locs Y => ?_)
        cases hf
        have hf := hzl_71 _ rfl
        cases hf
        exact m_vret X Y dX2_readClause_34

def fX2_reads_L18 (N : Nat) : Nat → Int32 → GS → Option GS
  | 0, _, _ => none
  | n_ + 1, x1_3, G_4 =>
    if (16 : Int32) ≤ x1_3 then (
     some G_4
    ) else (
     gd (inb x1_3 16) <|
     nm (G_4 1 (x1_3).toNatClampNeg : Int32) fun v_7 =>
     gd (inb x1_3 16) <|
     nm (gu G_4 24 (x1_3).toNatClampNeg v_7 : GS) fun G_9 =>
     nm ((x1_3 + (1 : Int32)) : Int32) fun x1_10 =>
     fX2_reads_L18 N n_ x1_10 G_9
    )
def fX2_reads_L44 (N : Nat) : Nat → Int32 → GS → Option GS
  | 0, _, _ => none
  | n_ + 1, x1_12, G_13 =>
    if (18 : Int32) ≤ x1_12 then (
     some G_13
    ) else (
     gd (inb x1_12 18) <|
     nm (G_13 3 (x1_12).toNatClampNeg : Int32) fun v_16 =>
     gd (inb x1_12 18) <|
     nm (gu G_13 26 (x1_12).toNatClampNeg v_16 : GS) fun G_18 =>
     nm ((x1_12 + (1 : Int32)) : Int32) fun x1_19 =>
     fX2_reads_L44 N n_ x1_19 G_18
    )
def fX2_reads_L70 (N : Nat) : Nat → Int32 → GS → Option GS
  | 0, _, _ => none
  | n_ + 1, x1_21, G_22 =>
    if (6 : Int32) ≤ x1_21 then (
     some G_22
    ) else (
     gd (inb x1_21 6) <|
     nm (G_22 4 (x1_21).toNatClampNeg : Int32) fun v_25 =>
     gd (inb x1_21 6) <|
     nm (gu G_22 27 (x1_21).toNatClampNeg v_25 : GS) fun G_27 =>
     nm ((x1_21 + (1 : Int32)) : Int32) fun x1_28 =>
     fX2_reads_L70 N n_ x1_28 G_27
    )
def fX2_reads_L139 (N : Nat) : Nat → Int32 → GS → Option GS
  | 0, _, _ => none
  | n_ + 1, x1_38, G_39 =>
    if x1_38 = (0 : Int32) then (
     some G_39
    ) else (
     bd1 (fX2_readClause N G_39) fun G_41 =>
     bd1 (
      if (G_41 0 21) = (0 : Int32) then (
       some (0 : Int32)
      ) else (
       some (1 : Int32)
      )
     ) fun j_44 =>
     nm (gu G_41 0 22 ((G_41 0 22) + j_44) : GS) fun G_45 =>
     bd1 (
      if (G_45 0 21) = (0 : Int32) then (
       some (0 : Int32)
      ) else (
       if (G_45 0 19) = (3 : Int32) then (
        if (14 : Int32) ≤ (G_45 0 22) then (
         some (0 : Int32)
        ) else (
         some (1 : Int32)
        )
       ) else (
        some (0 : Int32)
       )
      )
     ) fun j_49 =>
     bd1 (
      if (G_45 0 21) = (0 : Int32) then (
       some (0 : Int32)
      ) else (
       if j_49 = (0 : Int32) then (
        if (G_45 0 19) = (0 : Int32) then (
         some (1 : Int32)
        ) else (
         some (0 : Int32)
        )
       ) else (
        some (1 : Int32)
       )
      )
     ) fun j_53 =>
     gd (zb j_53) <|
     nm (gu G_45 0 21 j_53 : GS) fun G_55 =>
     if j_49 = (0 : Int32) then (
      fX2_reads_L139 N n_ j_49 G_55
     ) else (
      bd1 (fX2_next N G_55) fun G_57 =>
      fX2_reads_L139 N n_ j_49 G_57
     )
    )
def fX2_reads (N : Nat) (G : GS) : Option GS :=
  nm (gu G 0 23 (G 0 0) : GS) fun G_1 =>
  nm (gu G_1 0 25 (G_1 0 2) : GS) fun G_2 =>
  bd1 (fX2_reads_L18 N N (0 : Int32) G_2) fun G_11 =>
  bd1 (fX2_reads_L44 N N (0 : Int32) G_11) fun G_20 =>
  bd1 (fX2_reads_L70 N N (0 : Int32) G_20) fun G_29 =>
  nm (gu G_29 0 28 (G_29 0 5) : GS) fun G_30 =>
  nm (gu G_30 0 29 (G_30 0 6) : GS) fun G_31 =>
  nm (gu G_31 0 30 (G_31 0 7) : GS) fun G_32 =>
  nm (gu G_32 0 17 (0 : Int32) : GS) fun G_33 =>
  nm (gu G_33 0 22 (0 : Int32) : GS) fun G_34 =>
  nm (gu G_34 0 21 (1 : Int32) : GS) fun G_35 =>
  bd1 (fX2_next N G_35) fun G_36 =>
  bd1 (fX2_reads_L139 N N (1 : Int32) G_36) fun G_59 =>
  some G_59
theorem ydX2_reads : yX2_reads.cls = RX2 ∧ yX2_reads.cls ≠ "java/lang/invoke/MethodHandle" ∧ yX2_reads.cls ≠ "java/lang/invoke/VarHandle" ∧ (parseMethodDescriptor yX2_reads.desc).map (fun d => d.parameters.length) = some 0 := by decide +kernel
set_option maxHeartbeats 4000000 in
theorem tX2_reads (l : Launch) (N : Nat) (G : GS) (G' : GS) (hf : fX2_reads N G = some G') : mMet l yX2_reads cX2_reads 2 none (mR 6) [] G (none) G' := by
  unfold fX2_reads at hf
  refine mMet_of (by decide +kernel) rfl (Nat.le_of_ble_eq_true rfl) (fun {p e s m args below meth c ls D cA h ad A} X Y hl => ?_)
  have hx := X.1.1
  have hb := X.1.2.1
  have hl : lv_has ls 2 [(0, .ref h)] := hl
  refine lv_aload_n hx hb dX2_reads_0 rfl (lv_at hl 0 rfl) ?_
  refine lv_aload_n hx hb dX2_reads_1 rfl (lv_at hl 0 rfl) ?_
  refine mg (v := .int (G 0 0)) X Y 0 (by decide) q1105 rfl rfl dX2_reads_2 ?_
  obtain ⟨G_1, eG_1, hf⟩ := nm_s hf
  refine mp X Y 23 (by decide) q1128 ⟨rfl, rfl⟩ rfl mz0_23 eG_1 dX2_reads_5 (fun H locs Y => ?_)
  refine lv_aload_n hx hb dX2_reads_8 rfl (lv_at hl 0 rfl) ?_
  refine lv_aload_n hx hb dX2_reads_9 rfl (lv_at hl 0 rfl) ?_
  refine mg (v := .int (G_1 0 2)) X Y 2 (by decide) q1107 rfl rfl dX2_reads_10 ?_
  obtain ⟨G_2, eG_2, hf⟩ := nm_s hf
  refine mp X Y 25 (by decide) q1130 ⟨rfl, rfl⟩ rfl mz0_25 eG_2 dX2_reads_13 (fun H locs Y => ?_)
  refine lv_iconst (v := (0 : Int32)) hx hb dX2_reads_16 (by decide) ?_
  refine lv_istore_n (lv' := [(1, .int (0 : Int32)), (0, .ref h)]) hx hb dX2_reads_17 rfl hl (by decide) rfl (fun ls hl => ?_)
  obtain ⟨G_11, hL, hf⟩ := bd1_s hf
  have E18_60 : ∀ (H : Heap) (locs : List Loc), WX D A s (mW h ad cA G_11) H locs → ∀ ls : Array Slot, lv_has ls 2 [(0, .ref h)] → W p l e (mR 6) s m args below meth c H locs 0 0 (MQ below (mQ D cA h ad A (none) G') args s 0 0 A) (F0 m 42 ls []) := by
    clear hL
    intro H locs Y ls hl
    refine lv_iconst (v := (0 : Int32)) hx hb dX2_reads_42 (by decide) ?_
    refine lv_istore_n (lv' := [(1, .int (0 : Int32)), (0, .ref h)]) hx hb dX2_reads_43 rfl hl (by decide) rfl (fun ls hl => ?_)
    obtain ⟨G_20, hL, hf⟩ := bd1_s hf
    have E44_61 : ∀ (H : Heap) (locs : List Loc), WX D A s (mW h ad cA G_20) H locs → ∀ ls : Array Slot, lv_has ls 2 [(0, .ref h)] → W p l e (mR 6) s m args below meth c H locs 0 0 (MQ below (mQ D cA h ad A (none) G') args s 0 0 A) (F0 m 68 ls []) := by
      clear hL
      intro H locs Y ls hl
      refine lv_iconst (v := (0 : Int32)) hx hb dX2_reads_68 (by decide) ?_
      refine lv_istore_n (lv' := [(1, .int (0 : Int32)), (0, .ref h)]) hx hb dX2_reads_69 rfl hl (by decide) rfl (fun ls hl => ?_)
      obtain ⟨G_29, hL, hf⟩ := bd1_s hf
      have E70_62 : ∀ (H : Heap) (locs : List Loc), WX D A s (mW h ad cA G_29) H locs → ∀ ls : Array Slot, lv_has ls 2 [(0, .ref h)] → W p l e (mR 6) s m args below meth c H locs 0 0 (MQ below (mQ D cA h ad A (none) G') args s 0 0 A) (F0 m 94 ls []) := by
        clear hL
        intro H locs Y ls hl
        refine lv_aload_n hx hb dX2_reads_94 rfl (lv_at hl 0 rfl) ?_
        refine lv_aload_n hx hb dX2_reads_95 rfl (lv_at hl 0 rfl) ?_
        refine mg (v := .int (G_29 0 5)) X Y 5 (by decide) q1110 rfl rfl dX2_reads_96 ?_
        obtain ⟨G_30, eG_30, hf⟩ := nm_s hf
        refine mp X Y 28 (by decide) q1133 ⟨rfl, rfl⟩ rfl mz0_28 eG_30 dX2_reads_99 (fun H locs Y => ?_)
        refine lv_aload_n hx hb dX2_reads_102 rfl (lv_at hl 0 rfl) ?_
        refine lv_aload_n hx hb dX2_reads_103 rfl (lv_at hl 0 rfl) ?_
        refine mg (v := .int (G_30 0 6)) X Y 6 (by decide) q1111 rfl rfl dX2_reads_104 ?_
        obtain ⟨G_31, eG_31, hf⟩ := nm_s hf
        refine mp X Y 29 (by decide) q1134 ⟨rfl, rfl⟩ rfl mz0_29 eG_31 dX2_reads_107 (fun H locs Y => ?_)
        refine lv_aload_n hx hb dX2_reads_110 rfl (lv_at hl 0 rfl) ?_
        refine lv_aload_n hx hb dX2_reads_111 rfl (lv_at hl 0 rfl) ?_
        refine mg (v := .int (G_31 0 7)) X Y 7 (by decide) q1112 rfl rfl dX2_reads_112 ?_
        obtain ⟨G_32, eG_32, hf⟩ := nm_s hf
        refine mp X Y 30 (by decide) q1135 ⟨rfl, rfl⟩ rfl mz0_30 eG_32 dX2_reads_115 (fun H locs Y => ?_)
        refine lv_aload_n hx hb dX2_reads_118 rfl (lv_at hl 0 rfl) ?_
        refine lv_iconst (v := (0 : Int32)) hx hb dX2_reads_119 (by decide) ?_
        obtain ⟨G_33, eG_33, hf⟩ := nm_s hf
        refine mp X Y 17 (by decide) q1122 ⟨rfl, rfl⟩ rfl mz0_17 eG_33 dX2_reads_120 (fun H locs Y => ?_)
        refine lv_aload_n hx hb dX2_reads_123 rfl (lv_at hl 0 rfl) ?_
        refine lv_iconst (v := (0 : Int32)) hx hb dX2_reads_124 (by decide) ?_
        obtain ⟨G_34, eG_34, hf⟩ := nm_s hf
        refine mp X Y 22 (by decide) q1127 ⟨rfl, rfl⟩ rfl mz0_22 eG_34 dX2_reads_125 (fun H locs Y => ?_)
        refine lv_aload_n hx hb dX2_reads_128 rfl (lv_at hl 0 rfl) ?_
        refine lv_iconst (v := (1 : Int32)) hx hb dX2_reads_129 (by decide) ?_
        obtain ⟨G_35, eG_35, hf⟩ := nm_s hf
        refine mpZ X Y 21 (by decide) q1126 ⟨rfl, rfl⟩ rfl mz0_21 (by decide) eG_35 dX2_reads_130 (fun H locs Y => ?_)
        refine lv_aload_n hx hb dX2_reads_133 rfl (lv_at hl 0 rfl) ?_
        obtain ⟨G_36, hq_37, hf⟩ := bd1_s hf
        refine mcV (av := []) (rest := []) 0 X Y (tX2_next l N G_35 G_36 hq_37) (lw_V q1240 q1242 qs32 q70 q1243) ydX2_next ⟨rfl, rfl, by decide, by decide⟩ rfl hl.1 rfl (Nat.le_of_ble_eq_true rfl) ⟨Nat.zero_le _, Nat.zero_le _⟩ dX2_reads_134 (fun H locs Y => ?_)
        refine lv_iconst (v := (1 : Int32)) hx hb dX2_reads_137 (by decide) ?_
        refine lv_istore_n (lv' := [(1, .int (1 : Int32)), (0, .ref h)]) hx hb dX2_reads_138 rfl hl (by decide) rfl (fun ls hl => ?_)
        obtain ⟨G_59, hL, hf⟩ := bd1_s hf
        have E139_63 : ∀ (H : Heap) (locs : List Loc), WX D A s (mW h ad cA G_59) H locs → ∀ ls : Array Slot, lv_has ls 2 [] → W p l e (mR 6) s m args below meth c H locs 0 0 (MQ below (mQ D cA h ad A (none) G') args s 0 0 A) (F0 m 236 ls []) := by
          clear hL
          intro H locs Y ls hl
          cases hf
          exact m_vret X Y dX2_reads_236
        clear hf
        have L139_63 : ∀ (n_ : Nat) (x1_38 : Int32) (G_39 : GS), fX2_reads_L139 N n_ x1_38 G_39 = some G_59 → ∀ (H : Heap) (locs : List Loc), WX D A s (mW h ad cA G_39) H locs → ∀ ls : Array Slot, lv_has ls 2 [(0, .ref h), (1, .int x1_38)] → W p l e (mR 6) s m args below meth c H locs 0 0 (MQ below (mQ D cA h ad A (none) G') args s 0 0 A) (F0 m 139 ls []) := by
          clear hL
          intro n_
          induction n_ with
          | zero =>
            intro x1_38 G_39 hf
            rw [fX2_reads_L139.eq_1] at hf
            cases hf
          | succ n_ ih =>
            intro x1_38 G_39 hf
            intro H locs Y ls hl
            rw [fX2_reads_L139.eq_2] at hf
            refine lv_iload_n hx hb dX2_reads_139 rfl (lv_at hl 1 rfl) ?_
            refine lv_if_eq (tgt := 236) hx hb dX2_reads_140 (by decide) (fun c_40 => ?_) (fun c_40 => ?_)
            · rw [if_pos c_40] at hf
              cases hf
              exact E139_63 _ _ Y _ (lv_sub hl [] rfl)
            · rw [if_neg c_40] at hf
              refine lv_aload_n hx hb dX2_reads_143 rfl (lv_at hl 0 rfl) ?_
              obtain ⟨G_41, hq_42, hf⟩ := bd1_s hf
              refine mcV (av := []) (rest := []) 0 X Y (tX2_readClause l N G_39 G_41 hq_42) (lw_V q1254 q1256 qs34 q70 q1257) ydX2_readClause ⟨rfl, rfl, by decide, by decide⟩ rfl hl.1 rfl (Nat.le_of_ble_eq_true rfl) ⟨Nat.zero_le _, Nat.zero_le _⟩ dX2_reads_144 (fun H locs Y => ?_)
              refine lv_aload_n hx hb dX2_reads_147 rfl (lv_at hl 0 rfl) ?_
              refine lv_dup hx hb dX2_reads_148 rfl ?_
              refine mg (v := .int (G_41 0 22)) X Y 22 (by decide) q1127 rfl rfl dX2_reads_149 ?_
              refine lv_aload_n hx hb dX2_reads_152 rfl (lv_at hl 0 rfl) ?_
              refine mg (v := .int (G_41 0 21)) X Y 21 (by decide) q1126 rfl rfl dX2_reads_153 ?_
              obtain ⟨j_44, hj, hf⟩ := bd1_s hf
              have J164_64 : ∀ (H : Heap) (locs : List Loc), WX D A s (mW h ad cA G_41) H locs → ∀ ls : Array Slot, lv_has ls 2 [(0, .ref h)] → W p l e (mR 6) s m args below meth c H locs 0 0 (MQ below (mQ D cA h ad A (none) G') args s 0 0 A) (F0 m 164 ls [.int j_44, .int (G_41 0 22), .ref h]) := by
                clear hj
                intro H locs Y ls hl
                refine lv_iadd hx hb dX2_reads_164 ?_
                obtain ⟨G_45, eG_45, hf⟩ := nm_s hf
                refine mp X Y 22 (by decide) q1127 ⟨rfl, rfl⟩ rfl mz0_22 eG_45 dX2_reads_165 (fun H locs Y => ?_)
                refine lv_aload_n hx hb dX2_reads_168 rfl (lv_at hl 0 rfl) ?_
                refine mg (v := .int (G_45 0 21)) X Y 21 (by decide) q1126 rfl rfl dX2_reads_169 ?_
                obtain ⟨j_49, hj, hf⟩ := bd1_s hf
                have J197_65 : ∀ (H : Heap) (locs : List Loc), WX D A s (mW h ad cA G_45) H locs → ∀ ls : Array Slot, lv_has ls 2 [(0, .ref h)] → W p l e (mR 6) s m args below meth c H locs 0 0 (MQ below (mQ D cA h ad A (none) G') args s 0 0 A) (F0 m 197 ls [.int j_49]) := by
                  clear hj
                  intro H locs Y ls hl
                  refine lv_istore_n (lv' := [(1, .int j_49), (0, .ref h)]) hx hb dX2_reads_197 rfl hl (by decide) rfl (fun ls hl => ?_)
                  refine lv_aload_n hx hb dX2_reads_198 rfl (lv_at hl 1 rfl) ?_
                  refine lv_aload_n hx hb dX2_reads_199 rfl (lv_at hl 1 rfl) ?_
                  refine mg (v := .int (G_45 0 21)) X Y 21 (by decide) q1126 rfl rfl dX2_reads_200 ?_
                  obtain ⟨j_53, hj, hf⟩ := bd1_s hf
                  have J222_66 : ∀ (H : Heap) (locs : List Loc), WX D A s (mW h ad cA G_45) H locs → ∀ ls : Array Slot, lv_has ls 2 [(0, .ref h), (1, .int j_49)] → W p l e (mR 6) s m args below meth c H locs 0 0 (MQ below (mQ D cA h ad A (none) G') args s 0 0 A) (F0 m 222 ls [.int j_53, .ref h]) := by
                    clear hj
                    intro H locs Y ls hl
                    obtain ⟨b_54, hf⟩ := gd_s hf
                    obtain ⟨G_55, eG_55, hf⟩ := nm_s hf
                    refine mpZ X Y 21 (by decide) q1126 ⟨rfl, rfl⟩ rfl mz0_21 b_54 eG_55 dX2_reads_222 (fun H locs Y => ?_)
                    refine lv_iload_n hx hb dX2_reads_225 rfl (lv_at hl 1 rfl) ?_
                    refine lv_if_eq (tgt := 139) hx hb dX2_reads_226 (by decide) (fun c_56 => ?_) (fun c_56 => ?_)
                    · rw [if_pos c_56] at hf
                      exact ih _ _ hf _ _ Y _ (lv_sub hl [0, 1] rfl)
                    · rw [if_neg c_56] at hf
                      refine lv_aload_n hx hb dX2_reads_229 rfl (lv_at hl 0 rfl) ?_
                      obtain ⟨G_57, hq_58, hf⟩ := bd1_s hf
                      refine mcV (av := []) (rest := []) 0 X Y (tX2_next l N G_55 G_57 hq_58) (lw_V q1240 q1242 qs32 q70 q1243) ydX2_next ⟨rfl, rfl, by decide, by decide⟩ rfl hl.1 rfl (Nat.le_of_ble_eq_true rfl) ⟨Nat.zero_le _, Nat.zero_le _⟩ dX2_reads_230 (fun H locs Y => ?_)
                      refine lv_goto (tgt := 139) hx hb dX2_reads_233 (by decide) ?_
                      exact ih _ _ hf _ _ Y _ (lv_sub hl [0, 1] rfl)
                  replace hf := hj
                  clear hj
                  refine lv_if_eq (tgt := 221) hx hb dX2_reads_203 (by decide) (fun c_50 => ?_) (fun c_50 => ?_)
                  · rw [if_pos c_50] at hf
                    refine lv_iconst (v := (0 : Int32)) hx hb dX2_reads_221 (by decide) ?_
                    cases hf
                    exact J222_66 _ _ Y _ (lv_sub hl [1, 0] rfl)
                  · rw [if_neg c_50] at hf
                    refine lv_iload_n hx hb dX2_reads_206 rfl (lv_at hl 0 rfl) ?_
                    refine lv_if_ne (tgt := 217) hx hb dX2_reads_207 (by decide) (fun c_51 => ?_) (fun c_51 => ?_)
                    · rw [if_neg c_51] at hf
                      refine lv_iconst (v := (1 : Int32)) hx hb dX2_reads_217 (by decide) ?_
                      refine lv_goto (tgt := 222) hx hb dX2_reads_218 (by decide) ?_
                      cases hf
                      exact J222_66 _ _ Y _ (lv_sub hl [1, 0] rfl)
                    · rw [if_pos c_51] at hf
                      refine lv_aload_n hx hb dX2_reads_210 rfl (lv_at hl 1 rfl) ?_
                      refine mg (v := .int (G_45 0 19)) X Y 19 (by decide) q1124 rfl rfl dX2_reads_211 ?_
                      refine lv_if_ne (tgt := 221) hx hb dX2_reads_214 (by decide) (fun c_52 => ?_) (fun c_52 => ?_)
                      · rw [if_neg c_52] at hf
                        refine lv_iconst (v := (0 : Int32)) hx hb dX2_reads_221 (by decide) ?_
                        cases hf
                        exact J222_66 _ _ Y _ (lv_sub hl [1, 0] rfl)
                      · rw [if_pos c_52] at hf
                        refine lv_iconst (v := (1 : Int32)) hx hb dX2_reads_217 (by decide) ?_
                        refine lv_goto (tgt := 222) hx hb dX2_reads_218 (by decide) ?_
                        cases hf
                        exact J222_66 _ _ Y _ (lv_sub hl [1, 0] rfl)
                replace hf := hj
                clear hj
                refine lv_if_eq (tgt := 196) hx hb dX2_reads_172 (by decide) (fun c_46 => ?_) (fun c_46 => ?_)
                · rw [if_pos c_46] at hf
                  refine lv_iconst (v := (0 : Int32)) hx hb dX2_reads_196 (by decide) ?_
                  cases hf
                  exact J197_65 _ _ Y _ (lv_sub hl [0] rfl)
                · rw [if_neg c_46] at hf
                  refine lv_aload_n hx hb dX2_reads_175 rfl (lv_at hl 0 rfl) ?_
                  refine mg (v := .int (G_45 0 19)) X Y 19 (by decide) q1124 rfl rfl dX2_reads_176 ?_
                  refine lv_iconst (v := (3 : Int32)) hx hb dX2_reads_179 (by decide) ?_
                  refine lv_icmp_ne (tgt := 196) hx hb dX2_reads_180 (by decide) (fun c_47 => ?_) (fun c_47 => ?_)
                  · rw [if_neg c_47] at hf
                    refine lv_iconst (v := (0 : Int32)) hx hb dX2_reads_196 (by decide) ?_
                    cases hf
                    exact J197_65 _ _ Y _ (lv_sub hl [0] rfl)
                  · rw [if_pos c_47] at hf
                    refine lv_aload_n hx hb dX2_reads_183 rfl (lv_at hl 0 rfl) ?_
                    refine mg (v := .int (G_45 0 22)) X Y 22 (by decide) q1127 rfl rfl dX2_reads_184 ?_
                    refine lv_bipush (v := (14 : Int32)) hx hb dX2_reads_187 (by decide) ?_
                    refine lv_icmp_ge (tgt := 196) hx hb dX2_reads_189 (by decide) (fun c_48 => ?_) (fun c_48 => ?_)
                    · rw [if_pos c_48] at hf
                      refine lv_iconst (v := (0 : Int32)) hx hb dX2_reads_196 (by decide) ?_
                      cases hf
                      exact J197_65 _ _ Y _ (lv_sub hl [0] rfl)
                    · rw [if_neg c_48] at hf
                      refine lv_iconst (v := (1 : Int32)) hx hb dX2_reads_192 (by decide) ?_
                      refine lv_goto (tgt := 197) hx hb dX2_reads_193 (by decide) ?_
                      cases hf
                      exact J197_65 _ _ Y _ (lv_sub hl [0] rfl)
              replace hf := hj
              clear hj
              refine lv_if_eq (tgt := 163) hx hb dX2_reads_156 (by decide) (fun c_43 => ?_) (fun c_43 => ?_)
              · rw [if_pos c_43] at hf
                refine lv_iconst (v := (0 : Int32)) hx hb dX2_reads_163 (by decide) ?_
                cases hf
                exact J164_64 _ _ Y _ (lv_sub hl [0] rfl)
              · rw [if_neg c_43] at hf
                refine lv_iconst (v := (1 : Int32)) hx hb dX2_reads_159 (by decide) ?_
                refine lv_goto (tgt := 164) hx hb dX2_reads_160 (by decide) ?_
                cases hf
                exact J164_64 _ _ Y _ (lv_sub hl [0] rfl)
        exact L139_63 N _ _ hL _ _ Y _ (lv_sub hl [1, 0] rfl)
      clear hf
      have L70_62 : ∀ (n_ : Nat) (x1_21 : Int32) (G_22 : GS), fX2_reads_L70 N n_ x1_21 G_22 = some G_29 → ∀ (H : Heap) (locs : List Loc), WX D A s (mW h ad cA G_22) H locs → ∀ ls : Array Slot, lv_has ls 2 [(0, .ref h), (1, .int x1_21)] → W p l e (mR 6) s m args below meth c H locs 0 0 (MQ below (mQ D cA h ad A (none) G') args s 0 0 A) (F0 m 70 ls []) := by
        clear hL
        intro n_
        induction n_ with
        | zero =>
          intro x1_21 G_22 hf
          rw [fX2_reads_L70.eq_1] at hf
          cases hf
        | succ n_ ih =>
          intro x1_21 G_22 hf
          intro H locs Y ls hl
          rw [fX2_reads_L70.eq_2] at hf
          refine lv_iload_n hx hb dX2_reads_70 rfl (lv_at hl 1 rfl) ?_
          refine lv_bipush (v := (6 : Int32)) hx hb dX2_reads_71 (by decide) ?_
          refine lv_icmp_ge (tgt := 94) hx hb dX2_reads_73 (by decide) (fun c_23 => ?_) (fun c_23 => ?_)
          · rw [if_pos c_23] at hf
            cases hf
            exact E70_62 _ _ Y _ (lv_sub hl [0] rfl)
          · rw [if_neg c_23] at hf
            refine lv_aload_n hx hb dX2_reads_76 rfl (lv_at hl 0 rfl) ?_
            refine mg (v := .ref (ad 27)) X Y 27 (by decide) q1132 rfl rfl dX2_reads_77 ?_
            refine lv_iload_n hx hb dX2_reads_80 rfl (lv_at hl 1 rfl) ?_
            refine lv_aload_n hx hb dX2_reads_81 rfl (lv_at hl 0 rfl) ?_
            refine mg (v := .ref (ad 4)) X Y 4 (by decide) q1109 rfl rfl dX2_reads_82 ?_
            refine lv_iload_n hx hb dX2_reads_85 rfl (lv_at hl 1 rfl) ?_
            obtain ⟨b_24, hf⟩ := gd_s hf
            obtain ⟨v_25, ev_25, hf⟩ := nm_s hf
            refine ml (n := 6) X Y 4 3 rfl b_24 ev_25 dX2_reads_86 ?_
            obtain ⟨b_26, hf⟩ := gd_s hf
            obtain ⟨G_27, eG_27, hf⟩ := nm_s hf
            refine ms (n := 6) X Y 27 12 rfl mz27 b_26 eG_27 dX2_reads_87 (fun H locs Y => ?_)
            obtain ⟨x1_28, ex1_28, hf⟩ := nm_s hf
            refine lv_iinc (v := x1_28) (lv' := [(1, .int x1_28), (0, .ref h)]) hx hb dX2_reads_88 hl (k := 1) rfl (by rw [ex1_28]; rfl) (by decide) rfl (fun ls hl => ?_)
            refine lv_goto (tgt := 70) hx hb dX2_reads_91 (by decide) ?_
            exact ih _ _ hf _ _ Y _ (lv_sub hl [1, 0] rfl)
      exact L70_62 N _ _ hL _ _ Y _ (lv_sub hl [1, 0] rfl)
    clear hf
    have L44_61 : ∀ (n_ : Nat) (x1_12 : Int32) (G_13 : GS), fX2_reads_L44 N n_ x1_12 G_13 = some G_20 → ∀ (H : Heap) (locs : List Loc), WX D A s (mW h ad cA G_13) H locs → ∀ ls : Array Slot, lv_has ls 2 [(0, .ref h), (1, .int x1_12)] → W p l e (mR 6) s m args below meth c H locs 0 0 (MQ below (mQ D cA h ad A (none) G') args s 0 0 A) (F0 m 44 ls []) := by
      clear hL
      intro n_
      induction n_ with
      | zero =>
        intro x1_12 G_13 hf
        rw [fX2_reads_L44.eq_1] at hf
        cases hf
      | succ n_ ih =>
        intro x1_12 G_13 hf
        intro H locs Y ls hl
        rw [fX2_reads_L44.eq_2] at hf
        refine lv_iload_n hx hb dX2_reads_44 rfl (lv_at hl 1 rfl) ?_
        refine lv_bipush (v := (18 : Int32)) hx hb dX2_reads_45 (by decide) ?_
        refine lv_icmp_ge (tgt := 68) hx hb dX2_reads_47 (by decide) (fun c_14 => ?_) (fun c_14 => ?_)
        · rw [if_pos c_14] at hf
          cases hf
          exact E44_61 _ _ Y _ (lv_sub hl [0] rfl)
        · rw [if_neg c_14] at hf
          refine lv_aload_n hx hb dX2_reads_50 rfl (lv_at hl 0 rfl) ?_
          refine mg (v := .ref (ad 26)) X Y 26 (by decide) q1131 rfl rfl dX2_reads_51 ?_
          refine lv_iload_n hx hb dX2_reads_54 rfl (lv_at hl 1 rfl) ?_
          refine lv_aload_n hx hb dX2_reads_55 rfl (lv_at hl 0 rfl) ?_
          refine mg (v := .ref (ad 3)) X Y 3 (by decide) q1108 rfl rfl dX2_reads_56 ?_
          refine lv_iload_n hx hb dX2_reads_59 rfl (lv_at hl 1 rfl) ?_
          obtain ⟨b_15, hf⟩ := gd_s hf
          obtain ⟨v_16, ev_16, hf⟩ := nm_s hf
          refine ml (n := 18) X Y 3 2 rfl b_15 ev_16 dX2_reads_60 ?_
          obtain ⟨b_17, hf⟩ := gd_s hf
          obtain ⟨G_18, eG_18, hf⟩ := nm_s hf
          refine ms (n := 18) X Y 26 11 rfl mz26 b_17 eG_18 dX2_reads_61 (fun H locs Y => ?_)
          obtain ⟨x1_19, ex1_19, hf⟩ := nm_s hf
          refine lv_iinc (v := x1_19) (lv' := [(1, .int x1_19), (0, .ref h)]) hx hb dX2_reads_62 hl (k := 1) rfl (by rw [ex1_19]; rfl) (by decide) rfl (fun ls hl => ?_)
          refine lv_goto (tgt := 44) hx hb dX2_reads_65 (by decide) ?_
          exact ih _ _ hf _ _ Y _ (lv_sub hl [1, 0] rfl)
    exact L44_61 N _ _ hL _ _ Y _ (lv_sub hl [1, 0] rfl)
  clear hf
  have L18_60 : ∀ (n_ : Nat) (x1_3 : Int32) (G_4 : GS), fX2_reads_L18 N n_ x1_3 G_4 = some G_11 → ∀ (H : Heap) (locs : List Loc), WX D A s (mW h ad cA G_4) H locs → ∀ ls : Array Slot, lv_has ls 2 [(0, .ref h), (1, .int x1_3)] → W p l e (mR 6) s m args below meth c H locs 0 0 (MQ below (mQ D cA h ad A (none) G') args s 0 0 A) (F0 m 18 ls []) := by
    clear hL
    intro n_
    induction n_ with
    | zero =>
      intro x1_3 G_4 hf
      rw [fX2_reads_L18.eq_1] at hf
      cases hf
    | succ n_ ih =>
      intro x1_3 G_4 hf
      intro H locs Y ls hl
      rw [fX2_reads_L18.eq_2] at hf
      refine lv_iload_n hx hb dX2_reads_18 rfl (lv_at hl 1 rfl) ?_
      refine lv_bipush (v := (16 : Int32)) hx hb dX2_reads_19 (by decide) ?_
      refine lv_icmp_ge (tgt := 42) hx hb dX2_reads_21 (by decide) (fun c_5 => ?_) (fun c_5 => ?_)
      · rw [if_pos c_5] at hf
        cases hf
        exact E18_60 _ _ Y _ (lv_sub hl [0] rfl)
      · rw [if_neg c_5] at hf
        refine lv_aload_n hx hb dX2_reads_24 rfl (lv_at hl 0 rfl) ?_
        refine mg (v := .ref (ad 24)) X Y 24 (by decide) q1129 rfl rfl dX2_reads_25 ?_
        refine lv_iload_n hx hb dX2_reads_28 rfl (lv_at hl 1 rfl) ?_
        refine lv_aload_n hx hb dX2_reads_29 rfl (lv_at hl 0 rfl) ?_
        refine mg (v := .ref (ad 1)) X Y 1 (by decide) q1106 rfl rfl dX2_reads_30 ?_
        refine lv_iload_n hx hb dX2_reads_33 rfl (lv_at hl 1 rfl) ?_
        obtain ⟨b_6, hf⟩ := gd_s hf
        obtain ⟨v_7, ev_7, hf⟩ := nm_s hf
        refine ml (n := 16) X Y 1 1 rfl b_6 ev_7 dX2_reads_34 ?_
        obtain ⟨b_8, hf⟩ := gd_s hf
        obtain ⟨G_9, eG_9, hf⟩ := nm_s hf
        refine ms (n := 16) X Y 24 10 rfl mz24 b_8 eG_9 dX2_reads_35 (fun H locs Y => ?_)
        obtain ⟨x1_10, ex1_10, hf⟩ := nm_s hf
        refine lv_iinc (v := x1_10) (lv' := [(1, .int x1_10), (0, .ref h)]) hx hb dX2_reads_36 hl (k := 1) rfl (by rw [ex1_10]; rfl) (by decide) rfl (fun ls hl => ?_)
        refine lv_goto (tgt := 18) hx hb dX2_reads_39 (by decide) ?_
        exact ih _ _ hf _ _ Y _ (lv_sub hl [1, 0] rfl)
  exact L18_60 N _ _ hL _ _ Y _ (lv_sub hl [1, 0] rfl)

def fX2_fault (N : Nat) (G : GS) : Option (Int32 × GS) :=
  bd1 (fX2_reads N G) fun G_1 =>
  if (G_1 0 21) = (0 : Int32) then (
   some ((G_1 0 18), G_1)
  ) else (
   some ((-1 : Int32), G_1)
  )
theorem ydX2_fault : yX2_fault.cls = RX2 ∧ yX2_fault.cls ≠ "java/lang/invoke/MethodHandle" ∧ yX2_fault.cls ≠ "java/lang/invoke/VarHandle" ∧ (parseMethodDescriptor yX2_fault.desc).map (fun d => d.parameters.length) = some 0 := by decide +kernel
set_option maxHeartbeats 4000000 in
theorem tX2_fault (l : Launch) (N : Nat) (G : GS) (r : Int32) (G' : GS) (hf : fX2_fault N G = some (r, G')) : mMet l yX2_fault cX2_fault 1 (some .int) (mR 7) [] G (some (.int r)) G' := by
  unfold fX2_fault at hf
  refine mMet_of (by decide +kernel) rfl (Nat.le_of_ble_eq_true rfl) (fun {p e s m args below meth c ls D cA h ad A} X Y hl => ?_)
  have hx := X.1.1
  have hb := X.1.2.1
  have hl : lv_has ls 1 [(0, .ref h)] := hl
  refine lv_aload_n hx hb dX2_fault_0 rfl (lv_at hl 0 rfl) ?_
  obtain ⟨G_1, hq_2, hf⟩ := bd1_s hf
  refine mcV (av := []) (rest := []) 0 X Y (tX2_reads l N G G_1 hq_2) (lw_V q1236 q1238 qs31 q70 q1239) ydX2_reads ⟨rfl, rfl, by decide, by decide⟩ rfl hl.1 rfl (Nat.le_of_ble_eq_true rfl) ⟨Nat.zero_le _, Nat.zero_le _⟩ dX2_fault_1 (fun H locs Y => ?_)
  refine lv_aload_n hx hb dX2_fault_4 rfl (lv_at hl 0 rfl) ?_
  refine mg (v := .int (G_1 0 21)) X Y 21 (by decide) q1126 rfl rfl dX2_fault_5 ?_
  refine lv_if_eq (tgt := 15) hx hb dX2_fault_8 (by decide) (fun c_3 => ?_) (fun c_3 => ?_)
  · rw [if_pos c_3] at hf
    refine lv_aload_n hx hb dX2_fault_15 rfl (lv_at hl 0 rfl) ?_
    refine mg (v := .int (G_1 0 18)) X Y 18 (by decide) q1123 rfl rfl dX2_fault_16 ?_
    cases hf
    exact m_iret X Y dX2_fault_19
  · rw [if_neg c_3] at hf
    refine lv_iconst (v := (-1 : Int32)) hx hb dX2_fault_11 (by decide) ?_
    refine lv_goto (tgt := 19) hx hb dX2_fault_12 (by decide) ?_
    cases hf
    exact m_iret X Y dX2_fault_19

def fX2_table_L32 (N : Nat) : Nat → Int32 → GS → Option GS
  | 0, _, _ => none
  | n_ + 1, x1_6, G_7 =>
    if (16 : Int32) ≤ x1_6 then (
     some G_7
    ) else (
     gd (inb x1_6 16) <|
     nm (G_7 24 (x1_6).toNatClampNeg : Int32) fun v_10 =>
     gd (inb x1_6 16) <|
     nm (gu G_7 1 (x1_6).toNatClampNeg v_10 : GS) fun G_12 =>
     nm ((x1_6 + (1 : Int32)) : Int32) fun x1_13 =>
     fX2_table_L32 N n_ x1_13 G_12
    )
def fX2_table_L58 (N : Nat) : Nat → Int32 → GS → Option GS
  | 0, _, _ => none
  | n_ + 1, x1_15, G_16 =>
    if (18 : Int32) ≤ x1_15 then (
     some G_16
    ) else (
     gd (inb x1_15 18) <|
     nm (G_16 26 (x1_15).toNatClampNeg : Int32) fun v_19 =>
     gd (inb x1_15 18) <|
     nm (gu G_16 3 (x1_15).toNatClampNeg v_19 : GS) fun G_21 =>
     nm ((x1_15 + (1 : Int32)) : Int32) fun x1_22 =>
     fX2_table_L58 N n_ x1_22 G_21
    )
def fX2_table_L84 (N : Nat) : Nat → Int32 → GS → Option GS
  | 0, _, _ => none
  | n_ + 1, x1_24, G_25 =>
    if (6 : Int32) ≤ x1_24 then (
     some G_25
    ) else (
     gd (inb x1_24 6) <|
     nm (G_25 27 (x1_24).toNatClampNeg : Int32) fun v_28 =>
     gd (inb x1_24 6) <|
     nm (gu G_25 4 (x1_24).toNatClampNeg v_28 : GS) fun G_30 =>
     nm ((x1_24 + (1 : Int32)) : Int32) fun x1_31 =>
     fX2_table_L84 N n_ x1_31 G_30
    )
def fX2_table (N : Nat) (G : GS) : Option (Int32 × GS) :=
  bd1 (fX2_reads N G) fun G_1 =>
  if (G_1 0 21) = (0 : Int32) then (
   some ((-4 : Int32), G_1)
  ) else (
   nm (gu G_1 0 0 (G_1 0 23) : GS) fun G_4 =>
   nm (gu G_4 0 2 (G_4 0 25) : GS) fun G_5 =>
   bd1 (fX2_table_L32 N N (0 : Int32) G_5) fun G_14 =>
   bd1 (fX2_table_L58 N N (0 : Int32) G_14) fun G_23 =>
   bd1 (fX2_table_L84 N N (0 : Int32) G_23) fun G_32 =>
   nm (gu G_32 0 5 (G_32 0 28) : GS) fun G_33 =>
   nm (gu G_33 0 6 (G_33 0 29) : GS) fun G_34 =>
   nm (gu G_34 0 7 (G_34 0 30) : GS) fun G_35 =>
   nm (gu G_35 0 16 (0 : Int32) : GS) fun G_36 =>
   bd1 (fX2_begins N G_36) fun G_37 =>
   some ((G_37 0 22), G_37)
  )
theorem ydX2_table : yX2_table.cls = RX2 ∧ yX2_table.cls ≠ "java/lang/invoke/MethodHandle" ∧ yX2_table.cls ≠ "java/lang/invoke/VarHandle" ∧ (parseMethodDescriptor yX2_table.desc).map (fun d => d.parameters.length) = some 0 := by decide +kernel
set_option maxHeartbeats 4000000 in
theorem tX2_table (l : Launch) (N : Nat) (G : GS) (r : Int32) (G' : GS) (hf : fX2_table N G = some (r, G')) : mMet l yX2_table cX2_table 2 (some .int) (mR 7) [] G (some (.int r)) G' := by
  unfold fX2_table at hf
  refine mMet_of (by decide +kernel) rfl (Nat.le_of_ble_eq_true rfl) (fun {p e s m args below meth c ls D cA h ad A} X Y hl => ?_)
  have hx := X.1.1
  have hb := X.1.2.1
  have hl : lv_has ls 2 [(0, .ref h)] := hl
  refine lv_aload_n hx hb dX2_table_0 rfl (lv_at hl 0 rfl) ?_
  obtain ⟨G_1, hq_2, hf⟩ := bd1_s hf
  refine mcV (av := []) (rest := []) 0 X Y (tX2_reads l N G G_1 hq_2) (lw_V q1236 q1238 qs31 q70 q1239) ydX2_reads ⟨rfl, rfl, by decide, by decide⟩ rfl hl.1 rfl (Nat.le_of_ble_eq_true rfl) ⟨Nat.zero_le _, Nat.zero_le _⟩ dX2_table_1 (fun H locs Y => ?_)
  refine lv_aload_n hx hb dX2_table_4 rfl (lv_at hl 0 rfl) ?_
  refine mg (v := .int (G_1 0 21)) X Y 21 (by decide) q1126 rfl rfl dX2_table_5 ?_
  refine lv_if_ne (tgt := 14) hx hb dX2_table_8 (by decide) (fun c_3 => ?_) (fun c_3 => ?_)
  · rw [if_neg c_3] at hf
    refine lv_aload_n hx hb dX2_table_14 rfl (lv_at hl 0 rfl) ?_
    refine lv_aload_n hx hb dX2_table_15 rfl (lv_at hl 0 rfl) ?_
    refine mg (v := .int (G_1 0 23)) X Y 23 (by decide) q1128 rfl rfl dX2_table_16 ?_
    obtain ⟨G_4, eG_4, hf⟩ := nm_s hf
    refine mp X Y 0 (by decide) q1105 ⟨rfl, rfl⟩ rfl mz0_0 eG_4 dX2_table_19 (fun H locs Y => ?_)
    refine lv_aload_n hx hb dX2_table_22 rfl (lv_at hl 0 rfl) ?_
    refine lv_aload_n hx hb dX2_table_23 rfl (lv_at hl 0 rfl) ?_
    refine mg (v := .int (G_4 0 25)) X Y 25 (by decide) q1130 rfl rfl dX2_table_24 ?_
    obtain ⟨G_5, eG_5, hf⟩ := nm_s hf
    refine mp X Y 2 (by decide) q1107 ⟨rfl, rfl⟩ rfl mz0_2 eG_5 dX2_table_27 (fun H locs Y => ?_)
    refine lv_iconst (v := (0 : Int32)) hx hb dX2_table_30 (by decide) ?_
    refine lv_istore_n (lv' := [(1, .int (0 : Int32)), (0, .ref h)]) hx hb dX2_table_31 rfl hl (by decide) rfl (fun ls hl => ?_)
    obtain ⟨G_14, hL, hf⟩ := bd1_s hf
    have E32_39 : ∀ (H : Heap) (locs : List Loc), WX D A s (mW h ad cA G_14) H locs → ∀ ls : Array Slot, lv_has ls 2 [(0, .ref h)] → W p l e (mR 7) s m args below meth c H locs 0 0 (MQ below (mQ D cA h ad A (some (.int r)) G') args s 0 0 A) (F0 m 56 ls []) := by
      clear hL
      intro H locs Y ls hl
      refine lv_iconst (v := (0 : Int32)) hx hb dX2_table_56 (by decide) ?_
      refine lv_istore_n (lv' := [(1, .int (0 : Int32)), (0, .ref h)]) hx hb dX2_table_57 rfl hl (by decide) rfl (fun ls hl => ?_)
      obtain ⟨G_23, hL, hf⟩ := bd1_s hf
      have E58_40 : ∀ (H : Heap) (locs : List Loc), WX D A s (mW h ad cA G_23) H locs → ∀ ls : Array Slot, lv_has ls 2 [(0, .ref h)] → W p l e (mR 7) s m args below meth c H locs 0 0 (MQ below (mQ D cA h ad A (some (.int r)) G') args s 0 0 A) (F0 m 82 ls []) := by
        clear hL
        intro H locs Y ls hl
        refine lv_iconst (v := (0 : Int32)) hx hb dX2_table_82 (by decide) ?_
        refine lv_istore_n (lv' := [(1, .int (0 : Int32)), (0, .ref h)]) hx hb dX2_table_83 rfl hl (by decide) rfl (fun ls hl => ?_)
        obtain ⟨G_32, hL, hf⟩ := bd1_s hf
        have E84_41 : ∀ (H : Heap) (locs : List Loc), WX D A s (mW h ad cA G_32) H locs → ∀ ls : Array Slot, lv_has ls 2 [(0, .ref h)] → W p l e (mR 7) s m args below meth c H locs 0 0 (MQ below (mQ D cA h ad A (some (.int r)) G') args s 0 0 A) (F0 m 108 ls []) := by
          clear hL
          intro H locs Y ls hl
          refine lv_aload_n hx hb dX2_table_108 rfl (lv_at hl 0 rfl) ?_
          refine lv_aload_n hx hb dX2_table_109 rfl (lv_at hl 0 rfl) ?_
          refine mg (v := .int (G_32 0 28)) X Y 28 (by decide) q1133 rfl rfl dX2_table_110 ?_
          obtain ⟨G_33, eG_33, hf⟩ := nm_s hf
          refine mp X Y 5 (by decide) q1110 ⟨rfl, rfl⟩ rfl mz0_5 eG_33 dX2_table_113 (fun H locs Y => ?_)
          refine lv_aload_n hx hb dX2_table_116 rfl (lv_at hl 0 rfl) ?_
          refine lv_aload_n hx hb dX2_table_117 rfl (lv_at hl 0 rfl) ?_
          refine mg (v := .int (G_33 0 29)) X Y 29 (by decide) q1134 rfl rfl dX2_table_118 ?_
          obtain ⟨G_34, eG_34, hf⟩ := nm_s hf
          refine mp X Y 6 (by decide) q1111 ⟨rfl, rfl⟩ rfl mz0_6 eG_34 dX2_table_121 (fun H locs Y => ?_)
          refine lv_aload_n hx hb dX2_table_124 rfl (lv_at hl 0 rfl) ?_
          refine lv_aload_n hx hb dX2_table_125 rfl (lv_at hl 0 rfl) ?_
          refine mg (v := .int (G_34 0 30)) X Y 30 (by decide) q1135 rfl rfl dX2_table_126 ?_
          obtain ⟨G_35, eG_35, hf⟩ := nm_s hf
          refine mp X Y 7 (by decide) q1112 ⟨rfl, rfl⟩ rfl mz0_7 eG_35 dX2_table_129 (fun H locs Y => ?_)
          refine lv_aload_n hx hb dX2_table_132 rfl (lv_at hl 0 rfl) ?_
          refine lv_iconst (v := (0 : Int32)) hx hb dX2_table_133 (by decide) ?_
          obtain ⟨G_36, eG_36, hf⟩ := nm_s hf
          refine mp X Y 16 (by decide) q1121 ⟨rfl, rfl⟩ rfl mz0_16 eG_36 dX2_table_134 (fun H locs Y => ?_)
          refine lv_aload_n hx hb dX2_table_137 rfl (lv_at hl 0 rfl) ?_
          obtain ⟨G_37, hq_38, hf⟩ := bd1_s hf
          refine mcV (av := []) (rest := []) 0 X Y (tX2_begins l N G_36 G_37 hq_38) (lw_V q1101 q1103 qs30 q70 q1104) ydX2_begins ⟨rfl, rfl, by decide, by decide⟩ rfl hl.1 rfl (Nat.le_of_ble_eq_true rfl) ⟨Nat.zero_le _, Nat.zero_le _⟩ dX2_table_138 (fun H locs Y => ?_)
          refine lv_aload_n hx hb dX2_table_141 rfl (lv_at hl 0 rfl) ?_
          refine mg (v := .int (G_37 0 22)) X Y 22 (by decide) q1127 rfl rfl dX2_table_142 ?_
          cases hf
          exact m_iret X Y dX2_table_145
        clear hf
        have L84_41 : ∀ (n_ : Nat) (x1_24 : Int32) (G_25 : GS), fX2_table_L84 N n_ x1_24 G_25 = some G_32 → ∀ (H : Heap) (locs : List Loc), WX D A s (mW h ad cA G_25) H locs → ∀ ls : Array Slot, lv_has ls 2 [(0, .ref h), (1, .int x1_24)] → W p l e (mR 7) s m args below meth c H locs 0 0 (MQ below (mQ D cA h ad A (some (.int r)) G') args s 0 0 A) (F0 m 84 ls []) := by
          clear hL
          intro n_
          induction n_ with
          | zero =>
            intro x1_24 G_25 hf
            rw [fX2_table_L84.eq_1] at hf
            cases hf
          | succ n_ ih =>
            intro x1_24 G_25 hf
            intro H locs Y ls hl
            rw [fX2_table_L84.eq_2] at hf
            refine lv_iload_n hx hb dX2_table_84 rfl (lv_at hl 1 rfl) ?_
            refine lv_bipush (v := (6 : Int32)) hx hb dX2_table_85 (by decide) ?_
            refine lv_icmp_ge (tgt := 108) hx hb dX2_table_87 (by decide) (fun c_26 => ?_) (fun c_26 => ?_)
            · rw [if_pos c_26] at hf
              cases hf
              exact E84_41 _ _ Y _ (lv_sub hl [0] rfl)
            · rw [if_neg c_26] at hf
              refine lv_aload_n hx hb dX2_table_90 rfl (lv_at hl 0 rfl) ?_
              refine mg (v := .ref (ad 4)) X Y 4 (by decide) q1109 rfl rfl dX2_table_91 ?_
              refine lv_iload_n hx hb dX2_table_94 rfl (lv_at hl 1 rfl) ?_
              refine lv_aload_n hx hb dX2_table_95 rfl (lv_at hl 0 rfl) ?_
              refine mg (v := .ref (ad 27)) X Y 27 (by decide) q1132 rfl rfl dX2_table_96 ?_
              refine lv_iload_n hx hb dX2_table_99 rfl (lv_at hl 1 rfl) ?_
              obtain ⟨b_27, hf⟩ := gd_s hf
              obtain ⟨v_28, ev_28, hf⟩ := nm_s hf
              refine ml (n := 6) X Y 27 12 rfl b_27 ev_28 dX2_table_100 ?_
              obtain ⟨b_29, hf⟩ := gd_s hf
              obtain ⟨G_30, eG_30, hf⟩ := nm_s hf
              refine ms (n := 6) X Y 4 3 rfl mz4 b_29 eG_30 dX2_table_101 (fun H locs Y => ?_)
              obtain ⟨x1_31, ex1_31, hf⟩ := nm_s hf
              refine lv_iinc (v := x1_31) (lv' := [(1, .int x1_31), (0, .ref h)]) hx hb dX2_table_102 hl (k := 1) rfl (by rw [ex1_31]; rfl) (by decide) rfl (fun ls hl => ?_)
              refine lv_goto (tgt := 84) hx hb dX2_table_105 (by decide) ?_
              exact ih _ _ hf _ _ Y _ (lv_sub hl [1, 0] rfl)
        exact L84_41 N _ _ hL _ _ Y _ (lv_sub hl [1, 0] rfl)
      clear hf
      have L58_40 : ∀ (n_ : Nat) (x1_15 : Int32) (G_16 : GS), fX2_table_L58 N n_ x1_15 G_16 = some G_23 → ∀ (H : Heap) (locs : List Loc), WX D A s (mW h ad cA G_16) H locs → ∀ ls : Array Slot, lv_has ls 2 [(0, .ref h), (1, .int x1_15)] → W p l e (mR 7) s m args below meth c H locs 0 0 (MQ below (mQ D cA h ad A (some (.int r)) G') args s 0 0 A) (F0 m 58 ls []) := by
        clear hL
        intro n_
        induction n_ with
        | zero =>
          intro x1_15 G_16 hf
          rw [fX2_table_L58.eq_1] at hf
          cases hf
        | succ n_ ih =>
          intro x1_15 G_16 hf
          intro H locs Y ls hl
          rw [fX2_table_L58.eq_2] at hf
          refine lv_iload_n hx hb dX2_table_58 rfl (lv_at hl 1 rfl) ?_
          refine lv_bipush (v := (18 : Int32)) hx hb dX2_table_59 (by decide) ?_
          refine lv_icmp_ge (tgt := 82) hx hb dX2_table_61 (by decide) (fun c_17 => ?_) (fun c_17 => ?_)
          · rw [if_pos c_17] at hf
            cases hf
            exact E58_40 _ _ Y _ (lv_sub hl [0] rfl)
          · rw [if_neg c_17] at hf
            refine lv_aload_n hx hb dX2_table_64 rfl (lv_at hl 0 rfl) ?_
            refine mg (v := .ref (ad 3)) X Y 3 (by decide) q1108 rfl rfl dX2_table_65 ?_
            refine lv_iload_n hx hb dX2_table_68 rfl (lv_at hl 1 rfl) ?_
            refine lv_aload_n hx hb dX2_table_69 rfl (lv_at hl 0 rfl) ?_
            refine mg (v := .ref (ad 26)) X Y 26 (by decide) q1131 rfl rfl dX2_table_70 ?_
            refine lv_iload_n hx hb dX2_table_73 rfl (lv_at hl 1 rfl) ?_
            obtain ⟨b_18, hf⟩ := gd_s hf
            obtain ⟨v_19, ev_19, hf⟩ := nm_s hf
            refine ml (n := 18) X Y 26 11 rfl b_18 ev_19 dX2_table_74 ?_
            obtain ⟨b_20, hf⟩ := gd_s hf
            obtain ⟨G_21, eG_21, hf⟩ := nm_s hf
            refine ms (n := 18) X Y 3 2 rfl mz3 b_20 eG_21 dX2_table_75 (fun H locs Y => ?_)
            obtain ⟨x1_22, ex1_22, hf⟩ := nm_s hf
            refine lv_iinc (v := x1_22) (lv' := [(1, .int x1_22), (0, .ref h)]) hx hb dX2_table_76 hl (k := 1) rfl (by rw [ex1_22]; rfl) (by decide) rfl (fun ls hl => ?_)
            refine lv_goto (tgt := 58) hx hb dX2_table_79 (by decide) ?_
            exact ih _ _ hf _ _ Y _ (lv_sub hl [1, 0] rfl)
      exact L58_40 N _ _ hL _ _ Y _ (lv_sub hl [1, 0] rfl)
    clear hf
    have L32_39 : ∀ (n_ : Nat) (x1_6 : Int32) (G_7 : GS), fX2_table_L32 N n_ x1_6 G_7 = some G_14 → ∀ (H : Heap) (locs : List Loc), WX D A s (mW h ad cA G_7) H locs → ∀ ls : Array Slot, lv_has ls 2 [(0, .ref h), (1, .int x1_6)] → W p l e (mR 7) s m args below meth c H locs 0 0 (MQ below (mQ D cA h ad A (some (.int r)) G') args s 0 0 A) (F0 m 32 ls []) := by
      clear hL
      intro n_
      induction n_ with
      | zero =>
        intro x1_6 G_7 hf
        rw [fX2_table_L32.eq_1] at hf
        cases hf
      | succ n_ ih =>
        intro x1_6 G_7 hf
        intro H locs Y ls hl
        rw [fX2_table_L32.eq_2] at hf
        refine lv_iload_n hx hb dX2_table_32 rfl (lv_at hl 1 rfl) ?_
        refine lv_bipush (v := (16 : Int32)) hx hb dX2_table_33 (by decide) ?_
        refine lv_icmp_ge (tgt := 56) hx hb dX2_table_35 (by decide) (fun c_8 => ?_) (fun c_8 => ?_)
        · rw [if_pos c_8] at hf
          cases hf
          exact E32_39 _ _ Y _ (lv_sub hl [0] rfl)
        · rw [if_neg c_8] at hf
          refine lv_aload_n hx hb dX2_table_38 rfl (lv_at hl 0 rfl) ?_
          refine mg (v := .ref (ad 1)) X Y 1 (by decide) q1106 rfl rfl dX2_table_39 ?_
          refine lv_iload_n hx hb dX2_table_42 rfl (lv_at hl 1 rfl) ?_
          refine lv_aload_n hx hb dX2_table_43 rfl (lv_at hl 0 rfl) ?_
          refine mg (v := .ref (ad 24)) X Y 24 (by decide) q1129 rfl rfl dX2_table_44 ?_
          refine lv_iload_n hx hb dX2_table_47 rfl (lv_at hl 1 rfl) ?_
          obtain ⟨b_9, hf⟩ := gd_s hf
          obtain ⟨v_10, ev_10, hf⟩ := nm_s hf
          refine ml (n := 16) X Y 24 10 rfl b_9 ev_10 dX2_table_48 ?_
          obtain ⟨b_11, hf⟩ := gd_s hf
          obtain ⟨G_12, eG_12, hf⟩ := nm_s hf
          refine ms (n := 16) X Y 1 1 rfl mz1 b_11 eG_12 dX2_table_49 (fun H locs Y => ?_)
          obtain ⟨x1_13, ex1_13, hf⟩ := nm_s hf
          refine lv_iinc (v := x1_13) (lv' := [(1, .int x1_13), (0, .ref h)]) hx hb dX2_table_50 hl (k := 1) rfl (by rw [ex1_13]; rfl) (by decide) rfl (fun ls hl => ?_)
          refine lv_goto (tgt := 32) hx hb dX2_table_53 (by decide) ?_
          exact ih _ _ hf _ _ Y _ (lv_sub hl [1, 0] rfl)
    exact L32_39 N _ _ hL _ _ Y _ (lv_sub hl [1, 0] rfl)
  · rw [if_pos c_3] at hf
    refine lv_bipush (v := (-4 : Int32)) hx hb dX2_table_11 (by decide) ?_
    cases hf
    exact m_iret X Y dX2_table_13

def fX2_isSeat (N : Nat) (G : GS) (a1 : Int32) : Option Int32 :=
  bd1 (fX2_in N a1 (0 : Int32) ((G 0 0) - (1 : Int32))) fun r_1 =>
  gd (zb r_1) <|
  some r_1
theorem ydX2_isSeat : yX2_isSeat.cls = RX2 ∧ yX2_isSeat.cls ≠ "java/lang/invoke/MethodHandle" ∧ yX2_isSeat.cls ≠ "java/lang/invoke/VarHandle" ∧ (parseMethodDescriptor yX2_isSeat.desc).map (fun d => d.parameters.length) = some 1 := by decide +kernel
set_option maxHeartbeats 4000000 in
theorem tX2_isSeat (l : Launch) (N : Nat) (G : GS) (a1 : Int32) (r : Int32) (hf : fX2_isSeat N G a1 = some r) : mMet l yX2_isSeat cX2_isSeat 2 (some .boolean) (mR 1) [.int a1] G (some (.int r)) G := by
  unfold fX2_isSeat at hf
  refine mMet_of (by decide +kernel) rfl (Nat.le_of_ble_eq_true rfl) (fun {p e s m args below meth c ls D cA h ad A} X Y hl => ?_)
  have hx := X.1.1
  have hb := X.1.2.1
  have hl : lv_has ls 2 [(0, .ref h), (1, .int a1)] := hl
  refine lv_iload_n hx hb dX2_isSeat_0 rfl (lv_at hl 1 rfl) ?_
  refine lv_iconst (v := (0 : Int32)) hx hb dX2_isSeat_1 (by decide) ?_
  refine lv_aload_n hx hb dX2_isSeat_2 rfl (lv_at hl 0 rfl) ?_
  refine mg (v := .int (G 0 0)) X Y 0 (by decide) q1105 rfl rfl dX2_isSeat_3 ?_
  refine lv_iconst (v := (1 : Int32)) hx hb dX2_isSeat_6 (by decide) ?_
  refine lv_isub hx hb dX2_isSeat_7 ?_
  obtain ⟨r_1, hq_2, hf⟩ := bd1_s hf
  refine w_callSI (av := [.int a1, .int (0 : Int32), .int ((G 0 0) - (1 : Int32))]) (rest := []) 3 X Y (tX2_in l N a1 (0 : Int32) ((G 0 0) - (1 : Int32)) r_1 hq_2) (lw_S q1225 q1226 q70 q1227) ydX2_in ⟨rfl, rfl, by decide, by decide⟩ rfl hl.1 rfl (Nat.le_of_ble_eq_true rfl) ⟨Nat.zero_le _, Nat.zero_le _⟩ dX2_isSeat_8 (fun H locs Y => ?_)
  obtain ⟨b_3, hf⟩ := gd_s hf
  cases hf
  exact m_zret X Y b_3 dX2_isSeat_11

def fX2_sitter_L4 (N : Nat) (G : GS) (a1 : Int32) : Nat → Int32 → Int32 → Option Int32
  | 0, _, _ => none
  | n_ + 1, x2_1, x3_2 =>
    if (G 0 2) ≤ x3_2 then (
     some x2_1
    ) else (
     gd (inb ((14 : Int32) + x3_2) 20) <|
     nm (G 8 (((14 : Int32) + x3_2)).toNatClampNeg : Int32) fun v_5 =>
     bd1 (
      if v_5 = a1 then (
       some x3_2
      ) else (
       some x2_1
      )
     ) fun j_7 =>
     nm ((x3_2 + (1 : Int32)) : Int32) fun x3_8 =>
     fX2_sitter_L4 N G a1 n_ j_7 x3_8
    )
def fX2_sitter (N : Nat) (G : GS) (a1 : Int32) : Option Int32 :=
  bd1 (fX2_sitter_L4 N G a1 N (-1 : Int32) (0 : Int32)) fun x2_9 =>
  some x2_9
theorem ydX2_sitter : yX2_sitter.cls = RX2 ∧ yX2_sitter.cls ≠ "java/lang/invoke/MethodHandle" ∧ yX2_sitter.cls ≠ "java/lang/invoke/VarHandle" ∧ (parseMethodDescriptor yX2_sitter.desc).map (fun d => d.parameters.length) = some 1 := by decide +kernel
set_option maxHeartbeats 4000000 in
theorem tX2_sitter (l : Launch) (N : Nat) (G : GS) (a1 : Int32) (r : Int32) (hf : fX2_sitter N G a1 = some r) : mMet l yX2_sitter cX2_sitter 4 (some .int) (mR 0) [.int a1] G (some (.int r)) G := by
  unfold fX2_sitter at hf
  refine mMet_of (by decide +kernel) rfl (Nat.le_of_ble_eq_true rfl) (fun {p e s m args below meth c ls D cA h ad A} X Y hl => ?_)
  have hx := X.1.1
  have hb := X.1.2.1
  have hl : lv_has ls 4 [(0, .ref h), (1, .int a1)] := hl
  refine lv_iconst (v := (-1 : Int32)) hx hb dX2_sitter_0 (by decide) ?_
  refine lv_istore_n (lv' := [(2, .int (-1 : Int32)), (0, .ref h), (1, .int a1)]) hx hb dX2_sitter_1 rfl hl (by decide) rfl (fun ls hl => ?_)
  refine lv_iconst (v := (0 : Int32)) hx hb dX2_sitter_2 (by decide) ?_
  refine lv_istore_n (lv' := [(3, .int (0 : Int32)), (2, .int (-1 : Int32)), (0, .ref h), (1, .int a1)]) hx hb dX2_sitter_3 rfl hl (by decide) rfl (fun ls hl => ?_)
  obtain ⟨x2_9, hL, hf⟩ := bd1_s hf
  have E4_10 : ∀ (H : Heap) (locs : List Loc), WX D A s (mW h ad cA G) H locs → ∀ ls : Array Slot, lv_has ls 4 [(2, .int x2_9)] → W p l e (mR 0) s m args below meth c H locs 0 0 (MQ below (mQ D cA h ad A (some (.int r)) G) args s 0 0 A) (F0 m 37 ls []) := by
    clear hL
    intro H locs Y ls hl
    refine lv_iload_n hx hb dX2_sitter_37 rfl (lv_at hl 0 rfl) ?_
    cases hf
    exact m_iret X Y dX2_sitter_38
  clear hf
  have L4_10 : ∀ (n_ : Nat) (x2_1 : Int32) (x3_2 : Int32), fX2_sitter_L4 N G a1 n_ x2_1 x3_2 = some x2_9 → ∀ (H : Heap) (locs : List Loc), WX D A s (mW h ad cA G) H locs → ∀ ls : Array Slot, lv_has ls 4 [(0, .ref h), (1, .int a1), (2, .int x2_1), (3, .int x3_2)] → W p l e (mR 0) s m args below meth c H locs 0 0 (MQ below (mQ D cA h ad A (some (.int r)) G) args s 0 0 A) (F0 m 4 ls []) := by
    clear hL
    intro n_
    induction n_ with
    | zero =>
      intro x2_1 x3_2 hf
      rw [fX2_sitter_L4.eq_1] at hf
      cases hf
    | succ n_ ih =>
      intro x2_1 x3_2 hf
      intro H locs Y ls hl
      rw [fX2_sitter_L4.eq_2] at hf
      refine lv_iload_n hx hb dX2_sitter_4 rfl (lv_at hl 3 rfl) ?_
      refine lv_aload_n hx hb dX2_sitter_5 rfl (lv_at hl 0 rfl) ?_
      refine mg (v := .int (G 0 2)) X Y 2 (by decide) q1107 rfl rfl dX2_sitter_6 ?_
      refine lv_icmp_ge (tgt := 37) hx hb dX2_sitter_9 (by decide) (fun c_3 => ?_) (fun c_3 => ?_)
      · rw [if_pos c_3] at hf
        cases hf
        exact E4_10 _ _ Y _ (lv_sub hl [2] rfl)
      · rw [if_neg c_3] at hf
        refine lv_aload_n hx hb dX2_sitter_12 rfl (lv_at hl 0 rfl) ?_
        refine mg (v := .ref (ad 8)) X Y 8 (by decide) q1113 rfl rfl dX2_sitter_13 ?_
        refine lv_bipush (v := (14 : Int32)) hx hb dX2_sitter_16 (by decide) ?_
        refine lv_iload_n hx hb dX2_sitter_18 rfl (lv_at hl 3 rfl) ?_
        refine lv_iadd hx hb dX2_sitter_19 ?_
        obtain ⟨b_4, hf⟩ := gd_s hf
        obtain ⟨v_5, ev_5, hf⟩ := nm_s hf
        refine ml (n := 20) X Y 8 4 rfl b_4 ev_5 dX2_sitter_20 ?_
        refine lv_iload_n hx hb dX2_sitter_21 rfl (lv_at hl 1 rfl) ?_
        obtain ⟨j_7, hj, hf⟩ := bd1_s hf
        have J30_11 : ∀ (H : Heap) (locs : List Loc), WX D A s (mW h ad cA G) H locs → ∀ ls : Array Slot, lv_has ls 4 [(0, .ref h), (1, .int a1), (3, .int x3_2)] → W p l e (mR 0) s m args below meth c H locs 0 0 (MQ below (mQ D cA h ad A (some (.int r)) G) args s 0 0 A) (F0 m 30 ls [.int j_7]) := by
          clear hj
          intro H locs Y ls hl
          refine lv_istore_n (lv' := [(2, .int j_7), (0, .ref h), (1, .int a1), (3, .int x3_2)]) hx hb dX2_sitter_30 rfl hl (by decide) rfl (fun ls hl => ?_)
          obtain ⟨x3_8, ex3_8, hf⟩ := nm_s hf
          refine lv_iinc (v := x3_8) (lv' := [(3, .int x3_8), (2, .int j_7), (0, .ref h), (1, .int a1)]) hx hb dX2_sitter_31 hl (k := 3) rfl (by rw [ex3_8]; rfl) (by decide) rfl (fun ls hl => ?_)
          refine lv_goto (tgt := 4) hx hb dX2_sitter_34 (by decide) ?_
          exact ih _ _ hf _ _ Y _ (lv_sub hl [2, 3, 1, 0] rfl)
        replace hf := hj
        clear hj
        refine lv_icmp_ne (tgt := 29) hx hb dX2_sitter_22 (by decide) (fun c_6 => ?_) (fun c_6 => ?_)
        · rw [if_neg c_6] at hf
          refine lv_iload_n hx hb dX2_sitter_29 rfl (lv_at hl 2 rfl) ?_
          cases hf
          exact J30_11 _ _ Y _ (lv_sub hl [0, 1, 3] rfl)
        · rw [if_pos c_6] at hf
          refine lv_iload_n hx hb dX2_sitter_25 rfl (lv_at hl 3 rfl) ?_
          refine lv_goto (tgt := 30) hx hb dX2_sitter_26 (by decide) ?_
          cases hf
          exact J30_11 _ _ Y _ (lv_sub hl [0, 1, 3] rfl)
  exact L4_10 N _ _ hL _ _ Y _ (lv_sub hl [2, 3, 1, 0] rfl)

def fX2_perilOn (N : Nat) (G : GS) : Option Int32 :=
  if (G 0 0) = (0 : Int32) then (
   some (-1 : Int32)
  ) else (
   gd (inb (0 : Int32) 20) <|
   nm (G 8 ((0 : Int32)).toNatClampNeg : Int32) fun v_3 =>
   gd (¬ (G 0 0) = (0 : Int32)) <|
   some (((G 0 5) + ((G 0 6) * v_3)) - ((G 0 5) + ((G 0 6) * v_3)) / (G 0 0) * (G 0 0))
  )
theorem ydX2_perilOn : yX2_perilOn.cls = RX2 ∧ yX2_perilOn.cls ≠ "java/lang/invoke/MethodHandle" ∧ yX2_perilOn.cls ≠ "java/lang/invoke/VarHandle" ∧ (parseMethodDescriptor yX2_perilOn.desc).map (fun d => d.parameters.length) = some 0 := by decide +kernel
set_option maxHeartbeats 4000000 in
theorem tX2_perilOn (l : Launch) (N : Nat) (G : GS) (r : Int32) (hf : fX2_perilOn N G = some r) : mMet l yX2_perilOn cX2_perilOn 1 (some .int) (mR 0) [] G (some (.int r)) G := by
  unfold fX2_perilOn at hf
  refine mMet_of (by decide +kernel) rfl (Nat.le_of_ble_eq_true rfl) (fun {p e s m args below meth c ls D cA h ad A} X Y hl => ?_)
  have hx := X.1.1
  have hb := X.1.2.1
  have hl : lv_has ls 1 [(0, .ref h)] := hl
  refine lv_aload_n hx hb dX2_perilOn_0 rfl (lv_at hl 0 rfl) ?_
  refine mg (v := .int (G 0 0)) X Y 0 (by decide) q1105 rfl rfl dX2_perilOn_1 ?_
  refine lv_if_ne (tgt := 11) hx hb dX2_perilOn_4 (by decide) (fun c_1 => ?_) (fun c_1 => ?_)
  · rw [if_neg c_1] at hf
    refine lv_aload_n hx hb dX2_perilOn_11 rfl (lv_at hl 0 rfl) ?_
    refine mg (v := .int (G 0 5)) X Y 5 (by decide) q1110 rfl rfl dX2_perilOn_12 ?_
    refine lv_aload_n hx hb dX2_perilOn_15 rfl (lv_at hl 0 rfl) ?_
    refine mg (v := .int (G 0 6)) X Y 6 (by decide) q1111 rfl rfl dX2_perilOn_16 ?_
    refine lv_aload_n hx hb dX2_perilOn_19 rfl (lv_at hl 0 rfl) ?_
    refine mg (v := .ref (ad 8)) X Y 8 (by decide) q1113 rfl rfl dX2_perilOn_20 ?_
    refine lv_iconst (v := (0 : Int32)) hx hb dX2_perilOn_23 (by decide) ?_
    obtain ⟨b_2, hf⟩ := gd_s hf
    obtain ⟨v_3, ev_3, hf⟩ := nm_s hf
    refine ml (n := 20) X Y 8 4 rfl b_2 ev_3 dX2_perilOn_24 ?_
    refine lv_imul hx hb dX2_perilOn_25 ?_
    refine lv_iadd hx hb dX2_perilOn_26 ?_
    refine lv_aload_n hx hb dX2_perilOn_27 rfl (lv_at hl 0 rfl) ?_
    refine mg (v := .int (G 0 0)) X Y 0 (by decide) q1105 rfl rfl dX2_perilOn_28 ?_
    obtain ⟨b_4, hf⟩ := gd_s hf
    refine lv_irem hx hb dX2_perilOn_31 b_4 ?_
    cases hf
    exact m_iret X Y dX2_perilOn_32
  · rw [if_pos c_1] at hf
    refine lv_iconst (v := (-1 : Int32)) hx hb dX2_perilOn_7 (by decide) ?_
    refine lv_goto (tgt := 32) hx hb dX2_perilOn_8 (by decide) ?_
    cases hf
    exact m_iret X Y dX2_perilOn_32

def fX2_seat (N : Nat) (G : GS) (a1 : Int32) (a2 : Int32) : Option Int32 :=
  bd1 (fX2_isSeat N G a1) fun r_1 =>
  if r_1 = (0 : Int32) then (
   some (-2 : Int32)
  ) else (
   if a2 = (0 : Int32) then (
    gd (inb (((2 : Int32) * a1) + a2) 16) <|
    nm (G 1 ((((2 : Int32) * a1) + a2)).toNatClampNeg : Int32) fun v_6 =>
    some v_6
   ) else (
   if a2 = (1 : Int32) then (
    gd (inb (((2 : Int32) * a1) + a2) 16) <|
    nm (G 1 ((((2 : Int32) * a1) + a2)).toNatClampNeg : Int32) fun v_8 =>
    some v_8
   ) else (
   if a2 = (2 : Int32) then (
    bd1 (fX2_sitter N G a1) fun r_9 =>
    some r_9
   ) else (
   if a2 = (3 : Int32) then (
    bd1 (fX2_perilOn N G) fun r_11 =>
    if a1 = r_11 then (
     some (1 : Int32)
    ) else (
     some (0 : Int32)
    )
   ) else (
    some (-3 : Int32)
   ))))
  )
theorem ydX2_seat : yX2_seat.cls = RX2 ∧ yX2_seat.cls ≠ "java/lang/invoke/MethodHandle" ∧ yX2_seat.cls ≠ "java/lang/invoke/VarHandle" ∧ (parseMethodDescriptor yX2_seat.desc).map (fun d => d.parameters.length) = some 2 := by decide +kernel
set_option maxHeartbeats 4000000 in
theorem tX2_seat (l : Launch) (N : Nat) (G : GS) (a1 : Int32) (a2 : Int32) (r : Int32) (hf : fX2_seat N G a1 a2 = some r) : mMet l yX2_seat cX2_seat 3 (some .int) (mR 2) [.int a1, .int a2] G (some (.int r)) G := by
  unfold fX2_seat at hf
  refine mMet_of (by decide +kernel) rfl (Nat.le_of_ble_eq_true rfl) (fun {p e s m args below meth c ls D cA h ad A} X Y hl => ?_)
  have hx := X.1.1
  have hb := X.1.2.1
  have hl : lv_has ls 3 [(0, .ref h), (1, .int a1), (2, .int a2)] := hl
  refine lv_aload_n hx hb dX2_seat_0 rfl (lv_at hl 0 rfl) ?_
  refine lv_iload_n hx hb dX2_seat_1 rfl (lv_at hl 1 rfl) ?_
  obtain ⟨r_1, hq_2, hf⟩ := bd1_s hf
  refine mcI (av := [.int a1]) (rest := []) 1 X Y (tX2_isSeat l N G a1 r_1 hq_2) (lw_V q1306 q1308 qs45 q70 q1309) ydX2_isSeat ⟨rfl, rfl, by decide, by decide⟩ rfl hl.1 rfl (Nat.le_of_ble_eq_true rfl) ⟨Nat.zero_le _, Nat.zero_le _⟩ dX2_seat_2 (fun H locs Y => ?_)
  refine lv_if_ne (tgt := 11) hx hb dX2_seat_5 (by decide) (fun c_3 => ?_) (fun c_3 => ?_)
  · rw [if_neg c_3] at hf
    refine lv_iload_n hx hb dX2_seat_11 rfl (lv_at hl 2 rfl) ?_
    by_cases c_4_0 : a2 = (0 : Int32)
    · rw [if_pos c_4_0] at hf
      refine lv_tableIn (off := 32) (tgt := 44) hx hb dX2_seat_12 (by rw [c_4_0]; decide) (by rw [c_4_0]; decide) (by rw [c_4_0]; rfl) (by decide) ?_
      refine lv_aload_n hx hb dX2_seat_44 rfl (lv_at hl 0 rfl) ?_
      refine mg (v := .ref (ad 1)) X Y 1 (by decide) q1106 rfl rfl dX2_seat_45 ?_
      refine lv_iconst (v := (2 : Int32)) hx hb dX2_seat_48 (by decide) ?_
      refine lv_iload_n hx hb dX2_seat_49 rfl (lv_at hl 1 rfl) ?_
      refine lv_imul hx hb dX2_seat_50 ?_
      refine lv_iload_n hx hb dX2_seat_51 rfl (lv_at hl 2 rfl) ?_
      refine lv_iadd hx hb dX2_seat_52 ?_
      obtain ⟨b_5, hf⟩ := gd_s hf
      obtain ⟨v_6, ev_6, hf⟩ := nm_s hf
      refine ml (n := 16) X Y 1 1 rfl b_5 ev_6 dX2_seat_53 ?_
      cases hf
      exact m_iret X Y dX2_seat_54
    rw [if_neg c_4_0] at hf
    by_cases c_4_1 : a2 = (1 : Int32)
    · rw [if_pos c_4_1] at hf
      refine lv_tableIn (off := 32) (tgt := 44) hx hb dX2_seat_12 (by rw [c_4_1]; decide) (by rw [c_4_1]; decide) (by rw [c_4_1]; rfl) (by decide) ?_
      refine lv_aload_n hx hb dX2_seat_44 rfl (lv_at hl 0 rfl) ?_
      refine mg (v := .ref (ad 1)) X Y 1 (by decide) q1106 rfl rfl dX2_seat_45 ?_
      refine lv_iconst (v := (2 : Int32)) hx hb dX2_seat_48 (by decide) ?_
      refine lv_iload_n hx hb dX2_seat_49 rfl (lv_at hl 1 rfl) ?_
      refine lv_imul hx hb dX2_seat_50 ?_
      refine lv_iload_n hx hb dX2_seat_51 rfl (lv_at hl 2 rfl) ?_
      refine lv_iadd hx hb dX2_seat_52 ?_
      obtain ⟨b_7, hf⟩ := gd_s hf
      obtain ⟨v_8, ev_8, hf⟩ := nm_s hf
      refine ml (n := 16) X Y 1 1 rfl b_7 ev_8 dX2_seat_53 ?_
      cases hf
      exact m_iret X Y dX2_seat_54
    rw [if_neg c_4_1] at hf
    by_cases c_4_2 : a2 = (2 : Int32)
    · rw [if_pos c_4_2] at hf
      refine lv_tableIn (off := 43) (tgt := 55) hx hb dX2_seat_12 (by rw [c_4_2]; decide) (by rw [c_4_2]; decide) (by rw [c_4_2]; rfl) (by decide) ?_
      refine lv_aload_n hx hb dX2_seat_55 rfl (lv_at hl 0 rfl) ?_
      refine lv_iload_n hx hb dX2_seat_56 rfl (lv_at hl 1 rfl) ?_
      obtain ⟨r_9, hq_10, hf⟩ := bd1_s hf
      refine mcI (av := [.int a1]) (rest := []) 1 X Y (tX2_sitter l N G a1 r_9 hq_10) (lw_V q1310 q1312 qs46 q70 q1313) ydX2_sitter ⟨rfl, rfl, by decide, by decide⟩ rfl hl.1 rfl (Nat.le_of_ble_eq_true rfl) ⟨Nat.zero_le _, Nat.zero_le _⟩ dX2_seat_57 (fun H locs Y => ?_)
      cases hf
      exact m_iret X Y dX2_seat_60
    rw [if_neg c_4_2] at hf
    by_cases c_4_3 : a2 = (3 : Int32)
    · rw [if_pos c_4_3] at hf
      refine lv_tableIn (off := 49) (tgt := 61) hx hb dX2_seat_12 (by rw [c_4_3]; decide) (by rw [c_4_3]; decide) (by rw [c_4_3]; rfl) (by decide) ?_
      refine lv_iload_n hx hb dX2_seat_61 rfl (lv_at hl 1 rfl) ?_
      refine lv_aload_n hx hb dX2_seat_62 rfl (lv_at hl 0 rfl) ?_
      obtain ⟨r_11, hq_12, hf⟩ := bd1_s hf
      refine mcI (av := []) (rest := [.int a1]) 0 X Y (tX2_perilOn l N G r_11 hq_12) (lw_V q1314 q1316 qs47 q70 q1317) ydX2_perilOn ⟨rfl, rfl, by decide, by decide⟩ rfl hl.1 rfl (Nat.le_of_ble_eq_true rfl) ⟨Nat.zero_le _, Nat.zero_le _⟩ dX2_seat_63 (fun H locs Y => ?_)
      refine lv_icmp_ne (tgt := 73) hx hb dX2_seat_66 (by decide) (fun c_13 => ?_) (fun c_13 => ?_)
      · rw [if_neg c_13] at hf
        refine lv_iconst (v := (0 : Int32)) hx hb dX2_seat_73 (by decide) ?_
        cases hf
        exact m_iret X Y dX2_seat_74
      · rw [if_pos c_13] at hf
        refine lv_iconst (v := (1 : Int32)) hx hb dX2_seat_69 (by decide) ?_
        refine lv_goto (tgt := 74) hx hb dX2_seat_70 (by decide) ?_
        cases hf
        exact m_iret X Y dX2_seat_74
    rw [if_neg c_4_3] at hf
    refine lv_tableOut (tgt := 75) hx hb dX2_seat_12 (sw_z (hi := 3) (sw_s (a := 3) (b := 4) (by decide) (by decide) c_4_3 (sw_s (a := 2) (b := 3) (by decide) (by decide) c_4_2 (sw_s (a := 1) (b := 2) (by decide) (by decide) c_4_1 (sw_s (a := 0) (b := 1) (by decide) (by decide) c_4_0 (sw_0 _ 0))))) (by decide)) (by decide) ?_
    refine lv_bipush (v := (-3 : Int32)) hx hb dX2_seat_75 (by decide) ?_
    cases hf
    exact m_iret X Y dX2_seat_77
  · rw [if_pos c_3] at hf
    refine lv_bipush (v := (-2 : Int32)) hx hb dX2_seat_8 (by decide) ?_
    cases hf
    exact m_iret X Y dX2_seat_10

def fX2_isKnight (N : Nat) (G : GS) (a1 : Int32) : Option Int32 :=
  bd1 (fX2_in N a1 (0 : Int32) ((G 0 2) - (1 : Int32))) fun r_1 =>
  gd (zb r_1) <|
  some r_1
theorem ydX2_isKnight : yX2_isKnight.cls = RX2 ∧ yX2_isKnight.cls ≠ "java/lang/invoke/MethodHandle" ∧ yX2_isKnight.cls ≠ "java/lang/invoke/VarHandle" ∧ (parseMethodDescriptor yX2_isKnight.desc).map (fun d => d.parameters.length) = some 1 := by decide +kernel
set_option maxHeartbeats 4000000 in
theorem tX2_isKnight (l : Launch) (N : Nat) (G : GS) (a1 : Int32) (r : Int32) (hf : fX2_isKnight N G a1 = some r) : mMet l yX2_isKnight cX2_isKnight 2 (some .boolean) (mR 1) [.int a1] G (some (.int r)) G := by
  unfold fX2_isKnight at hf
  refine mMet_of (by decide +kernel) rfl (Nat.le_of_ble_eq_true rfl) (fun {p e s m args below meth c ls D cA h ad A} X Y hl => ?_)
  have hx := X.1.1
  have hb := X.1.2.1
  have hl : lv_has ls 2 [(0, .ref h), (1, .int a1)] := hl
  refine lv_iload_n hx hb dX2_isKnight_0 rfl (lv_at hl 1 rfl) ?_
  refine lv_iconst (v := (0 : Int32)) hx hb dX2_isKnight_1 (by decide) ?_
  refine lv_aload_n hx hb dX2_isKnight_2 rfl (lv_at hl 0 rfl) ?_
  refine mg (v := .int (G 0 2)) X Y 2 (by decide) q1107 rfl rfl dX2_isKnight_3 ?_
  refine lv_iconst (v := (1 : Int32)) hx hb dX2_isKnight_6 (by decide) ?_
  refine lv_isub hx hb dX2_isKnight_7 ?_
  obtain ⟨r_1, hq_2, hf⟩ := bd1_s hf
  refine w_callSI (av := [.int a1, .int (0 : Int32), .int ((G 0 2) - (1 : Int32))]) (rest := []) 3 X Y (tX2_in l N a1 (0 : Int32) ((G 0 2) - (1 : Int32)) r_1 hq_2) (lw_S q1225 q1226 q70 q1227) ydX2_in ⟨rfl, rfl, by decide, by decide⟩ rfl hl.1 rfl (Nat.le_of_ble_eq_true rfl) ⟨Nat.zero_le _, Nat.zero_le _⟩ dX2_isKnight_8 (fun H locs Y => ?_)
  obtain ⟨b_3, hf⟩ := gd_s hf
  cases hf
  exact m_zret X Y b_3 dX2_isKnight_11

def fX2_has (N : Nat) (a1 : Int32) (a2 : Int32) : Option Int32 :=
  if ((a1 >>> (a2 &&& 31)) &&& (1 : Int32)) = (1 : Int32) then (
   some (1 : Int32)
  ) else (
   some (0 : Int32)
  )
theorem ydX2_has : yX2_has.cls ≠ "java/lang/invoke/MethodHandle" ∧ yX2_has.cls ≠ "java/lang/invoke/VarHandle" ∧ (parseMethodDescriptor yX2_has.desc).map (fun d => d.parameters.length) = some 2 := by decide +kernel
set_option maxHeartbeats 4000000 in
theorem tX2_has (l : Launch) (N : Nat) (a1 : Int32) (a2 : Int32) (r : Int32) (hf : fX2_has N a1 a2 = some r) : sMet l yX2_has cX2_has 2 (some .boolean) (mR 0) [.int a1, .int a2] (some (.int r)) := by
  unfold fX2_has at hf
  refine sMet_of (by decide +kernel) (Nat.le_of_ble_eq_true rfl) (fun {p e s m args below meth c ls} B hS hl => ?_)
  have hx := B.1
  have hb := B.2.1
  have hl : lv_has ls 2 [(0, .int a1), (1, .int a2)] := hl
  refine lv_iload_n hx hb dX2_has_0 rfl (lv_at hl 0 rfl) ?_
  refine lv_iload_n hx hb dX2_has_1 rfl (lv_at hl 1 rfl) ?_
  refine lv_ishr hx hb dX2_has_2 ?_
  refine lv_iconst (v := (1 : Int32)) hx hb dX2_has_3 (by decide) ?_
  refine lv_iand hx hb dX2_has_4 ?_
  refine lv_iconst (v := (1 : Int32)) hx hb dX2_has_5 (by decide) ?_
  refine lv_icmp_ne (tgt := 13) hx hb dX2_has_6 (by decide) (fun c_1 => ?_) (fun c_1 => ?_)
  · rw [if_neg c_1] at hf
    refine lv_iconst (v := (0 : Int32)) hx hb dX2_has_13 (by decide) ?_
    cases hf
    exact s_zret B hS (by decide) dX2_has_14
  · rw [if_pos c_1] at hf
    refine lv_iconst (v := (1 : Int32)) hx hb dX2_has_9 (by decide) ?_
    refine lv_goto (tgt := 14) hx hb dX2_has_10 (by decide) ?_
    cases hf
    exact s_zret B hS (by decide) dX2_has_14

def fX2_knight (N : Nat) (G : GS) (a1 : Int32) (a2 : Int32) : Option Int32 :=
  bd1 (fX2_isKnight N G a1) fun r_1 =>
  if r_1 = (0 : Int32) then (
   some (-2 : Int32)
  ) else (
   if a2 = (0 : Int32) then (
    gd (inb ((3 : Int32) * a1) 18) <|
    nm (G 3 (((3 : Int32) * a1)).toNatClampNeg : Int32) fun v_6 =>
    some v_6
   ) else (
   if a2 = (1 : Int32) then (
    gd (inb ((2 : Int32) + a1) 20) <|
    nm (G 8 (((2 : Int32) + a1)).toNatClampNeg : Int32) fun v_8 =>
    some v_8
   ) else (
   if a2 = (2 : Int32) then (
    gd (inb (((3 : Int32) * a1) + (2 : Int32)) 18) <|
    nm (G 3 ((((3 : Int32) * a1) + (2 : Int32))).toNatClampNeg : Int32) fun v_10 =>
    some v_10
   ) else (
   if a2 = (3 : Int32) then (
    gd (inb a1 6) <|
    nm (G 4 (a1).toNatClampNeg : Int32) fun v_12 =>
    some v_12
   ) else (
   if a2 = (4 : Int32) then (
    gd (inb (1 : Int32) 20) <|
    nm (G 8 ((1 : Int32)).toNatClampNeg : Int32) fun v_14 =>
    bd1 (fX2_has N v_14 a1) fun r_15 =>
    if r_15 = (0 : Int32) then (
     some (0 : Int32)
    ) else (
     some (1 : Int32)
    )
   ) else (
   if a2 = (5 : Int32) then (
    gd (inb ((8 : Int32) + a1) 20) <|
    nm (G 8 (((8 : Int32) + a1)).toNatClampNeg : Int32) fun v_19 =>
    some v_19
   ) else (
   if a2 = (6 : Int32) then (
    gd (inb ((14 : Int32) + a1) 20) <|
    nm (G 8 (((14 : Int32) + a1)).toNatClampNeg : Int32) fun v_21 =>
    some v_21
   ) else (
    some (-3 : Int32)
   )))))))
  )
theorem ydX2_knight : yX2_knight.cls = RX2 ∧ yX2_knight.cls ≠ "java/lang/invoke/MethodHandle" ∧ yX2_knight.cls ≠ "java/lang/invoke/VarHandle" ∧ (parseMethodDescriptor yX2_knight.desc).map (fun d => d.parameters.length) = some 2 := by decide +kernel
set_option maxHeartbeats 4000000 in
theorem tX2_knight (l : Launch) (N : Nat) (G : GS) (a1 : Int32) (a2 : Int32) (r : Int32) (hf : fX2_knight N G a1 a2 = some r) : mMet l yX2_knight cX2_knight 3 (some .int) (mR 2) [.int a1, .int a2] G (some (.int r)) G := by
  unfold fX2_knight at hf
  refine mMet_of (by decide +kernel) rfl (Nat.le_of_ble_eq_true rfl) (fun {p e s m args below meth c ls D cA h ad A} X Y hl => ?_)
  have hx := X.1.1
  have hb := X.1.2.1
  have hl : lv_has ls 3 [(0, .ref h), (1, .int a1), (2, .int a2)] := hl
  refine lv_aload_n hx hb dX2_knight_0 rfl (lv_at hl 0 rfl) ?_
  refine lv_iload_n hx hb dX2_knight_1 rfl (lv_at hl 1 rfl) ?_
  obtain ⟨r_1, hq_2, hf⟩ := bd1_s hf
  refine mcI (av := [.int a1]) (rest := []) 1 X Y (tX2_isKnight l N G a1 r_1 hq_2) (lw_V q1322 q1324 qs48 q70 q1325) ydX2_isKnight ⟨rfl, rfl, by decide, by decide⟩ rfl hl.1 rfl (Nat.le_of_ble_eq_true rfl) ⟨Nat.zero_le _, Nat.zero_le _⟩ dX2_knight_2 (fun H locs Y => ?_)
  refine lv_if_ne (tgt := 11) hx hb dX2_knight_5 (by decide) (fun c_3 => ?_) (fun c_3 => ?_)
  · rw [if_neg c_3] at hf
    refine lv_iload_n hx hb dX2_knight_11 rfl (lv_at hl 2 rfl) ?_
    by_cases c_4_0 : a2 = (0 : Int32)
    · rw [if_pos c_4_0] at hf
      refine lv_tableIn (off := 44) (tgt := 56) hx hb dX2_knight_12 (by rw [c_4_0]; decide) (by rw [c_4_0]; decide) (by rw [c_4_0]; rfl) (by decide) ?_
      refine lv_aload_n hx hb dX2_knight_56 rfl (lv_at hl 0 rfl) ?_
      refine mg (v := .ref (ad 3)) X Y 3 (by decide) q1108 rfl rfl dX2_knight_57 ?_
      refine lv_iconst (v := (3 : Int32)) hx hb dX2_knight_60 (by decide) ?_
      refine lv_iload_n hx hb dX2_knight_61 rfl (lv_at hl 1 rfl) ?_
      refine lv_imul hx hb dX2_knight_62 ?_
      obtain ⟨b_5, hf⟩ := gd_s hf
      obtain ⟨v_6, ev_6, hf⟩ := nm_s hf
      refine ml (n := 18) X Y 3 2 rfl b_5 ev_6 dX2_knight_63 ?_
      cases hf
      exact m_iret X Y dX2_knight_64
    rw [if_neg c_4_0] at hf
    by_cases c_4_1 : a2 = (1 : Int32)
    · rw [if_pos c_4_1] at hf
      refine lv_tableIn (off := 53) (tgt := 65) hx hb dX2_knight_12 (by rw [c_4_1]; decide) (by rw [c_4_1]; decide) (by rw [c_4_1]; rfl) (by decide) ?_
      refine lv_aload_n hx hb dX2_knight_65 rfl (lv_at hl 0 rfl) ?_
      refine mg (v := .ref (ad 8)) X Y 8 (by decide) q1113 rfl rfl dX2_knight_66 ?_
      refine lv_iconst (v := (2 : Int32)) hx hb dX2_knight_69 (by decide) ?_
      refine lv_iload_n hx hb dX2_knight_70 rfl (lv_at hl 1 rfl) ?_
      refine lv_iadd hx hb dX2_knight_71 ?_
      obtain ⟨b_7, hf⟩ := gd_s hf
      obtain ⟨v_8, ev_8, hf⟩ := nm_s hf
      refine ml (n := 20) X Y 8 4 rfl b_7 ev_8 dX2_knight_72 ?_
      cases hf
      exact m_iret X Y dX2_knight_73
    rw [if_neg c_4_1] at hf
    by_cases c_4_2 : a2 = (2 : Int32)
    · rw [if_pos c_4_2] at hf
      refine lv_tableIn (off := 62) (tgt := 74) hx hb dX2_knight_12 (by rw [c_4_2]; decide) (by rw [c_4_2]; decide) (by rw [c_4_2]; rfl) (by decide) ?_
      refine lv_aload_n hx hb dX2_knight_74 rfl (lv_at hl 0 rfl) ?_
      refine mg (v := .ref (ad 3)) X Y 3 (by decide) q1108 rfl rfl dX2_knight_75 ?_
      refine lv_iconst (v := (3 : Int32)) hx hb dX2_knight_78 (by decide) ?_
      refine lv_iload_n hx hb dX2_knight_79 rfl (lv_at hl 1 rfl) ?_
      refine lv_imul hx hb dX2_knight_80 ?_
      refine lv_iconst (v := (2 : Int32)) hx hb dX2_knight_81 (by decide) ?_
      refine lv_iadd hx hb dX2_knight_82 ?_
      obtain ⟨b_9, hf⟩ := gd_s hf
      obtain ⟨v_10, ev_10, hf⟩ := nm_s hf
      refine ml (n := 18) X Y 3 2 rfl b_9 ev_10 dX2_knight_83 ?_
      cases hf
      exact m_iret X Y dX2_knight_84
    rw [if_neg c_4_2] at hf
    by_cases c_4_3 : a2 = (3 : Int32)
    · rw [if_pos c_4_3] at hf
      refine lv_tableIn (off := 73) (tgt := 85) hx hb dX2_knight_12 (by rw [c_4_3]; decide) (by rw [c_4_3]; decide) (by rw [c_4_3]; rfl) (by decide) ?_
      refine lv_aload_n hx hb dX2_knight_85 rfl (lv_at hl 0 rfl) ?_
      refine mg (v := .ref (ad 4)) X Y 4 (by decide) q1109 rfl rfl dX2_knight_86 ?_
      refine lv_iload_n hx hb dX2_knight_89 rfl (lv_at hl 1 rfl) ?_
      obtain ⟨b_11, hf⟩ := gd_s hf
      obtain ⟨v_12, ev_12, hf⟩ := nm_s hf
      refine ml (n := 6) X Y 4 3 rfl b_11 ev_12 dX2_knight_90 ?_
      cases hf
      exact m_iret X Y dX2_knight_91
    rw [if_neg c_4_3] at hf
    by_cases c_4_4 : a2 = (4 : Int32)
    · rw [if_pos c_4_4] at hf
      refine lv_tableIn (off := 80) (tgt := 92) hx hb dX2_knight_12 (by rw [c_4_4]; decide) (by rw [c_4_4]; decide) (by rw [c_4_4]; rfl) (by decide) ?_
      refine lv_aload_n hx hb dX2_knight_92 rfl (lv_at hl 0 rfl) ?_
      refine mg (v := .ref (ad 8)) X Y 8 (by decide) q1113 rfl rfl dX2_knight_93 ?_
      refine lv_iconst (v := (1 : Int32)) hx hb dX2_knight_96 (by decide) ?_
      obtain ⟨b_13, hf⟩ := gd_s hf
      obtain ⟨v_14, ev_14, hf⟩ := nm_s hf
      refine ml (n := 20) X Y 8 4 rfl b_13 ev_14 dX2_knight_97 ?_
      refine lv_iload_n hx hb dX2_knight_98 rfl (lv_at hl 1 rfl) ?_
      obtain ⟨r_15, hq_16, hf⟩ := bd1_s hf
      refine w_callSI (av := [.int v_14, .int a1]) (rest := []) 2 X Y (tX2_has l N v_14 a1 r_15 hq_16) (lw_S q1326 q1327 q70 q1328) ydX2_has ⟨rfl, rfl, by decide, by decide⟩ rfl hl.1 rfl (Nat.le_of_ble_eq_true rfl) ⟨Nat.zero_le _, Nat.zero_le _⟩ dX2_knight_99 (fun H locs Y => ?_)
      refine lv_if_eq (tgt := 109) hx hb dX2_knight_102 (by decide) (fun c_17 => ?_) (fun c_17 => ?_)
      · rw [if_pos c_17] at hf
        refine lv_iconst (v := (0 : Int32)) hx hb dX2_knight_109 (by decide) ?_
        cases hf
        exact m_iret X Y dX2_knight_110
      · rw [if_neg c_17] at hf
        refine lv_iconst (v := (1 : Int32)) hx hb dX2_knight_105 (by decide) ?_
        refine lv_goto (tgt := 110) hx hb dX2_knight_106 (by decide) ?_
        cases hf
        exact m_iret X Y dX2_knight_110
    rw [if_neg c_4_4] at hf
    by_cases c_4_5 : a2 = (5 : Int32)
    · rw [if_pos c_4_5] at hf
      refine lv_tableIn (off := 99) (tgt := 111) hx hb dX2_knight_12 (by rw [c_4_5]; decide) (by rw [c_4_5]; decide) (by rw [c_4_5]; rfl) (by decide) ?_
      refine lv_aload_n hx hb dX2_knight_111 rfl (lv_at hl 0 rfl) ?_
      refine mg (v := .ref (ad 8)) X Y 8 (by decide) q1113 rfl rfl dX2_knight_112 ?_
      refine lv_bipush (v := (8 : Int32)) hx hb dX2_knight_115 (by decide) ?_
      refine lv_iload_n hx hb dX2_knight_117 rfl (lv_at hl 1 rfl) ?_
      refine lv_iadd hx hb dX2_knight_118 ?_
      obtain ⟨b_18, hf⟩ := gd_s hf
      obtain ⟨v_19, ev_19, hf⟩ := nm_s hf
      refine ml (n := 20) X Y 8 4 rfl b_18 ev_19 dX2_knight_119 ?_
      cases hf
      exact m_iret X Y dX2_knight_120
    rw [if_neg c_4_5] at hf
    by_cases c_4_6 : a2 = (6 : Int32)
    · rw [if_pos c_4_6] at hf
      refine lv_tableIn (off := 109) (tgt := 121) hx hb dX2_knight_12 (by rw [c_4_6]; decide) (by rw [c_4_6]; decide) (by rw [c_4_6]; rfl) (by decide) ?_
      refine lv_aload_n hx hb dX2_knight_121 rfl (lv_at hl 0 rfl) ?_
      refine mg (v := .ref (ad 8)) X Y 8 (by decide) q1113 rfl rfl dX2_knight_122 ?_
      refine lv_bipush (v := (14 : Int32)) hx hb dX2_knight_125 (by decide) ?_
      refine lv_iload_n hx hb dX2_knight_127 rfl (lv_at hl 1 rfl) ?_
      refine lv_iadd hx hb dX2_knight_128 ?_
      obtain ⟨b_20, hf⟩ := gd_s hf
      obtain ⟨v_21, ev_21, hf⟩ := nm_s hf
      refine ml (n := 20) X Y 8 4 rfl b_20 ev_21 dX2_knight_129 ?_
      cases hf
      exact m_iret X Y dX2_knight_130
    rw [if_neg c_4_6] at hf
    refine lv_tableOut (tgt := 131) hx hb dX2_knight_12 (sw_z (hi := 6) (sw_s (a := 6) (b := 7) (by decide) (by decide) c_4_6 (sw_s (a := 5) (b := 6) (by decide) (by decide) c_4_5 (sw_s (a := 4) (b := 5) (by decide) (by decide) c_4_4 (sw_s (a := 3) (b := 4) (by decide) (by decide) c_4_3 (sw_s (a := 2) (b := 3) (by decide) (by decide) c_4_2 (sw_s (a := 1) (b := 2) (by decide) (by decide) c_4_1 (sw_s (a := 0) (b := 1) (by decide) (by decide) c_4_0 (sw_0 _ 0)))))))) (by decide)) (by decide) ?_
    refine lv_bipush (v := (-3 : Int32)) hx hb dX2_knight_131 (by decide) ?_
    cases hf
    exact m_iret X Y dX2_knight_133
  · rw [if_pos c_3] at hf
    refine lv_bipush (v := (-2 : Int32)) hx hb dX2_knight_8 (by decide) ?_
    cases hf
    exact m_iret X Y dX2_knight_10

def fX2_fitsBy (N : Nat) (G : GS) (a1 : Int32) (a2 : Int32) (a3 : Int32) : Option Int32 :=
  gd (inb ((2 : Int32) * a2) 16) <|
  nm (G 1 (((2 : Int32) * a2)).toNatClampNeg : Int32) fun v_2 =>
  gd (inb (((2 : Int32) * a2) + (1 : Int32)) 16) <|
  nm (G 1 ((((2 : Int32) * a2) + (1 : Int32))).toNatClampNeg : Int32) fun v_4 =>
  if v_2 = (0 : Int32) then (
   some (1 : Int32)
  ) else (
   if v_2 = (4 : Int32) then (
    if v_2 = (1 : Int32) then (
     if a3 < v_4 then (
      some (0 : Int32)
     ) else (
      some (1 : Int32)
     )
    ) else (
     if v_2 = (2 : Int32) then (
      if v_4 < a3 then (
       some (0 : Int32)
      ) else (
       some (1 : Int32)
      )
     ) else (
      if v_2 = (3 : Int32) then (
       gd (inb (((3 : Int32) * a1) + (2 : Int32)) 18) <|
       nm (G 3 ((((3 : Int32) * a1) + (2 : Int32))).toNatClampNeg : Int32) fun v_11 =>
       if v_11 = v_4 then (
        some (1 : Int32)
       ) else (
        some (0 : Int32)
       )
      ) else (
       some (0 : Int32)
      )
     )
    )
   ) else (
    gd (inb ((3 : Int32) * a1) 18) <|
    nm (G 3 (((3 : Int32) * a1)).toNatClampNeg : Int32) fun v_16 =>
    if v_16 = (2 : Int32) then (
     some (1 : Int32)
    ) else (
     if v_2 = (1 : Int32) then (
      if a3 < v_4 then (
       some (0 : Int32)
      ) else (
       some (1 : Int32)
      )
     ) else (
      if v_2 = (2 : Int32) then (
       if v_4 < a3 then (
        some (0 : Int32)
       ) else (
        some (1 : Int32)
       )
      ) else (
       if v_2 = (3 : Int32) then (
        gd (inb (((3 : Int32) * a1) + (2 : Int32)) 18) <|
        nm (G 3 ((((3 : Int32) * a1) + (2 : Int32))).toNatClampNeg : Int32) fun v_22 =>
        if v_22 = v_4 then (
         some (1 : Int32)
        ) else (
         some (0 : Int32)
        )
       ) else (
        some (0 : Int32)
       )
      )
     )
    )
   )
  )
theorem ydX2_fitsBy : yX2_fitsBy.cls = RX2 ∧ yX2_fitsBy.cls ≠ "java/lang/invoke/MethodHandle" ∧ yX2_fitsBy.cls ≠ "java/lang/invoke/VarHandle" ∧ (parseMethodDescriptor yX2_fitsBy.desc).map (fun d => d.parameters.length) = some 3 := by decide +kernel
set_option maxHeartbeats 4000000 in
theorem tX2_fitsBy (l : Launch) (N : Nat) (G : GS) (a1 : Int32) (a2 : Int32) (a3 : Int32) (r : Int32) (hf : fX2_fitsBy N G a1 a2 a3 = some r) : mMet l yX2_fitsBy cX2_fitsBy 6 (some .boolean) (mR 0) [.int a1, .int a2, .int a3] G (some (.int r)) G := by
  unfold fX2_fitsBy at hf
  refine mMet_of (by decide +kernel) rfl (Nat.le_of_ble_eq_true rfl) (fun {p e s m args below meth c ls D cA h ad A} X Y hl => ?_)
  have hx := X.1.1
  have hb := X.1.2.1
  have hl : lv_has ls 6 [(0, .ref h), (1, .int a1), (2, .int a2), (3, .int a3)] := hl
  refine lv_aload_n hx hb dX2_fitsBy_0 rfl (lv_at hl 0 rfl) ?_
  refine mg (v := .ref (ad 1)) X Y 1 (by decide) q1106 rfl rfl dX2_fitsBy_1 ?_
  refine lv_iconst (v := (2 : Int32)) hx hb dX2_fitsBy_4 (by decide) ?_
  refine lv_iload_n hx hb dX2_fitsBy_5 rfl (lv_at hl 2 rfl) ?_
  refine lv_imul hx hb dX2_fitsBy_6 ?_
  obtain ⟨b_1, hf⟩ := gd_s hf
  obtain ⟨v_2, ev_2, hf⟩ := nm_s hf
  refine ml (n := 16) X Y 1 1 rfl b_1 ev_2 dX2_fitsBy_7 ?_
  refine lv_istore (lv' := [(4, .int v_2), (0, .ref h), (1, .int a1), (2, .int a2), (3, .int a3)]) hx hb dX2_fitsBy_8 hl (by decide) rfl (fun ls hl => ?_)
  refine lv_aload_n hx hb dX2_fitsBy_10 rfl (lv_at hl 1 rfl) ?_
  refine mg (v := .ref (ad 1)) X Y 1 (by decide) q1106 rfl rfl dX2_fitsBy_11 ?_
  refine lv_iconst (v := (2 : Int32)) hx hb dX2_fitsBy_14 (by decide) ?_
  refine lv_iload_n hx hb dX2_fitsBy_15 rfl (lv_at hl 3 rfl) ?_
  refine lv_imul hx hb dX2_fitsBy_16 ?_
  refine lv_iconst (v := (1 : Int32)) hx hb dX2_fitsBy_17 (by decide) ?_
  refine lv_iadd hx hb dX2_fitsBy_18 ?_
  obtain ⟨b_3, hf⟩ := gd_s hf
  obtain ⟨v_4, ev_4, hf⟩ := nm_s hf
  refine ml (n := 16) X Y 1 1 rfl b_3 ev_4 dX2_fitsBy_19 ?_
  refine lv_istore (lv' := [(5, .int v_4), (4, .int v_2), (0, .ref h), (1, .int a1), (2, .int a2), (3, .int a3)]) hx hb dX2_fitsBy_20 hl (by decide) rfl (fun ls hl => ?_)
  refine lv_iload hx hb dX2_fitsBy_22 (lv_at hl 1 rfl) ?_
  refine lv_if_eq (tgt := 45) hx hb dX2_fitsBy_24 (by decide) (fun c_5 => ?_) (fun c_5 => ?_)
  · rw [if_pos c_5] at hf
    refine lv_iconst (v := (1 : Int32)) hx hb dX2_fitsBy_45 (by decide) ?_
    cases hf
    exact m_zret X Y (by decide) dX2_fitsBy_46
  · rw [if_neg c_5] at hf
    refine lv_iload hx hb dX2_fitsBy_27 (lv_at hl 1 rfl) ?_
    refine lv_iconst (v := (4 : Int32)) hx hb dX2_fitsBy_29 (by decide) ?_
    refine lv_icmp_eq (tgt := 47) hx hb dX2_fitsBy_30 (by decide) (fun c_6 => ?_) (fun c_6 => ?_)
    · rw [if_pos c_6] at hf
      refine lv_iload hx hb dX2_fitsBy_47 (lv_at hl 1 rfl) ?_
      refine lv_iconst (v := (1 : Int32)) hx hb dX2_fitsBy_49 (by decide) ?_
      refine lv_icmp_ne (tgt := 67) hx hb dX2_fitsBy_50 (by decide) (fun c_7 => ?_) (fun c_7 => ?_)
      · rw [if_neg c_7] at hf
        refine lv_iload hx hb dX2_fitsBy_67 (lv_at hl 1 rfl) ?_
        refine lv_iconst (v := (2 : Int32)) hx hb dX2_fitsBy_69 (by decide) ?_
        refine lv_icmp_ne (tgt := 87) hx hb dX2_fitsBy_70 (by decide) (fun c_8 => ?_) (fun c_8 => ?_)
        · rw [if_neg c_8] at hf
          refine lv_iload hx hb dX2_fitsBy_87 (lv_at hl 1 rfl) ?_
          refine lv_iconst (v := (3 : Int32)) hx hb dX2_fitsBy_89 (by decide) ?_
          refine lv_icmp_ne (tgt := 112) hx hb dX2_fitsBy_90 (by decide) (fun c_9 => ?_) (fun c_9 => ?_)
          · rw [if_neg c_9] at hf
            refine lv_iconst (v := (0 : Int32)) hx hb dX2_fitsBy_112 (by decide) ?_
            cases hf
            exact m_zret X Y (by decide) dX2_fitsBy_113
          · rw [if_pos c_9] at hf
            refine lv_aload_n hx hb dX2_fitsBy_93 rfl (lv_at hl 2 rfl) ?_
            refine mg (v := .ref (ad 3)) X Y 3 (by decide) q1108 rfl rfl dX2_fitsBy_94 ?_
            refine lv_iconst (v := (3 : Int32)) hx hb dX2_fitsBy_97 (by decide) ?_
            refine lv_iload_n hx hb dX2_fitsBy_98 rfl (lv_at hl 3 rfl) ?_
            refine lv_imul hx hb dX2_fitsBy_99 ?_
            refine lv_iconst (v := (2 : Int32)) hx hb dX2_fitsBy_100 (by decide) ?_
            refine lv_iadd hx hb dX2_fitsBy_101 ?_
            obtain ⟨b_10, hf⟩ := gd_s hf
            obtain ⟨v_11, ev_11, hf⟩ := nm_s hf
            refine ml (n := 18) X Y 3 2 rfl b_10 ev_11 dX2_fitsBy_102 ?_
            refine lv_iload hx hb dX2_fitsBy_103 (lv_at hl 0 rfl) ?_
            refine lv_icmp_ne (tgt := 112) hx hb dX2_fitsBy_105 (by decide) (fun c_12 => ?_) (fun c_12 => ?_)
            · rw [if_neg c_12] at hf
              refine lv_iconst (v := (0 : Int32)) hx hb dX2_fitsBy_112 (by decide) ?_
              cases hf
              exact m_zret X Y (by decide) dX2_fitsBy_113
            · rw [if_pos c_12] at hf
              refine lv_iconst (v := (1 : Int32)) hx hb dX2_fitsBy_108 (by decide) ?_
              refine lv_goto (tgt := 113) hx hb dX2_fitsBy_109 (by decide) ?_
              cases hf
              exact m_zret X Y (by decide) dX2_fitsBy_113
        · rw [if_pos c_8] at hf
          refine lv_iload_n hx hb dX2_fitsBy_73 rfl (lv_at hl 5 rfl) ?_
          refine lv_iload hx hb dX2_fitsBy_74 (lv_at hl 0 rfl) ?_
          refine lv_icmp_gt (tgt := 83) hx hb dX2_fitsBy_76 (by decide) (fun c_13 => ?_) (fun c_13 => ?_)
          · rw [if_pos c_13] at hf
            refine lv_iconst (v := (0 : Int32)) hx hb dX2_fitsBy_83 (by decide) ?_
            refine lv_goto (tgt := 113) hx hb dX2_fitsBy_84 (by decide) ?_
            cases hf
            exact m_zret X Y (by decide) dX2_fitsBy_113
          · rw [if_neg c_13] at hf
            refine lv_iconst (v := (1 : Int32)) hx hb dX2_fitsBy_79 (by decide) ?_
            refine lv_goto (tgt := 113) hx hb dX2_fitsBy_80 (by decide) ?_
            cases hf
            exact m_zret X Y (by decide) dX2_fitsBy_113
      · rw [if_pos c_7] at hf
        refine lv_iload_n hx hb dX2_fitsBy_53 rfl (lv_at hl 5 rfl) ?_
        refine lv_iload hx hb dX2_fitsBy_54 (lv_at hl 0 rfl) ?_
        refine lv_icmp_lt (tgt := 63) hx hb dX2_fitsBy_56 (by decide) (fun c_14 => ?_) (fun c_14 => ?_)
        · rw [if_pos c_14] at hf
          refine lv_iconst (v := (0 : Int32)) hx hb dX2_fitsBy_63 (by decide) ?_
          refine lv_goto (tgt := 113) hx hb dX2_fitsBy_64 (by decide) ?_
          cases hf
          exact m_zret X Y (by decide) dX2_fitsBy_113
        · rw [if_neg c_14] at hf
          refine lv_iconst (v := (1 : Int32)) hx hb dX2_fitsBy_59 (by decide) ?_
          refine lv_goto (tgt := 113) hx hb dX2_fitsBy_60 (by decide) ?_
          cases hf
          exact m_zret X Y (by decide) dX2_fitsBy_113
    · rw [if_neg c_6] at hf
      refine lv_aload_n hx hb dX2_fitsBy_33 rfl (lv_at hl 2 rfl) ?_
      refine mg (v := .ref (ad 3)) X Y 3 (by decide) q1108 rfl rfl dX2_fitsBy_34 ?_
      refine lv_iconst (v := (3 : Int32)) hx hb dX2_fitsBy_37 (by decide) ?_
      refine lv_iload_n hx hb dX2_fitsBy_38 rfl (lv_at hl 3 rfl) ?_
      refine lv_imul hx hb dX2_fitsBy_39 ?_
      obtain ⟨b_15, hf⟩ := gd_s hf
      obtain ⟨v_16, ev_16, hf⟩ := nm_s hf
      refine ml (n := 18) X Y 3 2 rfl b_15 ev_16 dX2_fitsBy_40 ?_
      refine lv_iconst (v := (2 : Int32)) hx hb dX2_fitsBy_41 (by decide) ?_
      refine lv_icmp_ne (tgt := 47) hx hb dX2_fitsBy_42 (by decide) (fun c_17 => ?_) (fun c_17 => ?_)
      · rw [if_neg c_17] at hf
        refine lv_iload hx hb dX2_fitsBy_47 (lv_at hl 1 rfl) ?_
        refine lv_iconst (v := (1 : Int32)) hx hb dX2_fitsBy_49 (by decide) ?_
        refine lv_icmp_ne (tgt := 67) hx hb dX2_fitsBy_50 (by decide) (fun c_18 => ?_) (fun c_18 => ?_)
        · rw [if_neg c_18] at hf
          refine lv_iload hx hb dX2_fitsBy_67 (lv_at hl 1 rfl) ?_
          refine lv_iconst (v := (2 : Int32)) hx hb dX2_fitsBy_69 (by decide) ?_
          refine lv_icmp_ne (tgt := 87) hx hb dX2_fitsBy_70 (by decide) (fun c_19 => ?_) (fun c_19 => ?_)
          · rw [if_neg c_19] at hf
            refine lv_iload hx hb dX2_fitsBy_87 (lv_at hl 1 rfl) ?_
            refine lv_iconst (v := (3 : Int32)) hx hb dX2_fitsBy_89 (by decide) ?_
            refine lv_icmp_ne (tgt := 112) hx hb dX2_fitsBy_90 (by decide) (fun c_20 => ?_) (fun c_20 => ?_)
            · rw [if_neg c_20] at hf
              refine lv_iconst (v := (0 : Int32)) hx hb dX2_fitsBy_112 (by decide) ?_
              cases hf
              exact m_zret X Y (by decide) dX2_fitsBy_113
            · rw [if_pos c_20] at hf
              refine lv_aload_n hx hb dX2_fitsBy_93 rfl (lv_at hl 2 rfl) ?_
              refine mg (v := .ref (ad 3)) X Y 3 (by decide) q1108 rfl rfl dX2_fitsBy_94 ?_
              refine lv_iconst (v := (3 : Int32)) hx hb dX2_fitsBy_97 (by decide) ?_
              refine lv_iload_n hx hb dX2_fitsBy_98 rfl (lv_at hl 3 rfl) ?_
              refine lv_imul hx hb dX2_fitsBy_99 ?_
              refine lv_iconst (v := (2 : Int32)) hx hb dX2_fitsBy_100 (by decide) ?_
              refine lv_iadd hx hb dX2_fitsBy_101 ?_
              obtain ⟨b_21, hf⟩ := gd_s hf
              obtain ⟨v_22, ev_22, hf⟩ := nm_s hf
              refine ml (n := 18) X Y 3 2 rfl b_21 ev_22 dX2_fitsBy_102 ?_
              refine lv_iload hx hb dX2_fitsBy_103 (lv_at hl 0 rfl) ?_
              refine lv_icmp_ne (tgt := 112) hx hb dX2_fitsBy_105 (by decide) (fun c_23 => ?_) (fun c_23 => ?_)
              · rw [if_neg c_23] at hf
                refine lv_iconst (v := (0 : Int32)) hx hb dX2_fitsBy_112 (by decide) ?_
                cases hf
                exact m_zret X Y (by decide) dX2_fitsBy_113
              · rw [if_pos c_23] at hf
                refine lv_iconst (v := (1 : Int32)) hx hb dX2_fitsBy_108 (by decide) ?_
                refine lv_goto (tgt := 113) hx hb dX2_fitsBy_109 (by decide) ?_
                cases hf
                exact m_zret X Y (by decide) dX2_fitsBy_113
          · rw [if_pos c_19] at hf
            refine lv_iload_n hx hb dX2_fitsBy_73 rfl (lv_at hl 5 rfl) ?_
            refine lv_iload hx hb dX2_fitsBy_74 (lv_at hl 0 rfl) ?_
            refine lv_icmp_gt (tgt := 83) hx hb dX2_fitsBy_76 (by decide) (fun c_24 => ?_) (fun c_24 => ?_)
            · rw [if_pos c_24] at hf
              refine lv_iconst (v := (0 : Int32)) hx hb dX2_fitsBy_83 (by decide) ?_
              refine lv_goto (tgt := 113) hx hb dX2_fitsBy_84 (by decide) ?_
              cases hf
              exact m_zret X Y (by decide) dX2_fitsBy_113
            · rw [if_neg c_24] at hf
              refine lv_iconst (v := (1 : Int32)) hx hb dX2_fitsBy_79 (by decide) ?_
              refine lv_goto (tgt := 113) hx hb dX2_fitsBy_80 (by decide) ?_
              cases hf
              exact m_zret X Y (by decide) dX2_fitsBy_113
        · rw [if_pos c_18] at hf
          refine lv_iload_n hx hb dX2_fitsBy_53 rfl (lv_at hl 5 rfl) ?_
          refine lv_iload hx hb dX2_fitsBy_54 (lv_at hl 0 rfl) ?_
          refine lv_icmp_lt (tgt := 63) hx hb dX2_fitsBy_56 (by decide) (fun c_25 => ?_) (fun c_25 => ?_)
          · rw [if_pos c_25] at hf
            refine lv_iconst (v := (0 : Int32)) hx hb dX2_fitsBy_63 (by decide) ?_
            refine lv_goto (tgt := 113) hx hb dX2_fitsBy_64 (by decide) ?_
            cases hf
            exact m_zret X Y (by decide) dX2_fitsBy_113
          · rw [if_neg c_25] at hf
            refine lv_iconst (v := (1 : Int32)) hx hb dX2_fitsBy_59 (by decide) ?_
            refine lv_goto (tgt := 113) hx hb dX2_fitsBy_60 (by decide) ?_
            cases hf
            exact m_zret X Y (by decide) dX2_fitsBy_113
      · rw [if_pos c_17] at hf
        refine lv_iconst (v := (1 : Int32)) hx hb dX2_fitsBy_45 (by decide) ?_
        cases hf
        exact m_zret X Y (by decide) dX2_fitsBy_46

def fX2_fits (N : Nat) (G : GS) (a1 : Int32) (a2 : Int32) : Option Int32 :=
  gd (inb ((2 : Int32) + a1) 20) <|
  nm (G 8 (((2 : Int32) + a1)).toNatClampNeg : Int32) fun v_2 =>
  bd1 (fX2_fitsBy N G a1 a2 v_2) fun r_3 =>
  gd (zb r_3) <|
  some r_3
theorem ydX2_fits : yX2_fits.cls = RX2 ∧ yX2_fits.cls ≠ "java/lang/invoke/MethodHandle" ∧ yX2_fits.cls ≠ "java/lang/invoke/VarHandle" ∧ (parseMethodDescriptor yX2_fits.desc).map (fun d => d.parameters.length) = some 2 := by decide +kernel
set_option maxHeartbeats 4000000 in
theorem tX2_fits (l : Launch) (N : Nat) (G : GS) (a1 : Int32) (a2 : Int32) (r : Int32) (hf : fX2_fits N G a1 a2 = some r) : mMet l yX2_fits cX2_fits 3 (some .boolean) (mR 1) [.int a1, .int a2] G (some (.int r)) G := by
  unfold fX2_fits at hf
  refine mMet_of (by decide +kernel) rfl (Nat.le_of_ble_eq_true rfl) (fun {p e s m args below meth c ls D cA h ad A} X Y hl => ?_)
  have hx := X.1.1
  have hb := X.1.2.1
  have hl : lv_has ls 3 [(0, .ref h), (1, .int a1), (2, .int a2)] := hl
  refine lv_aload_n hx hb dX2_fits_0 rfl (lv_at hl 0 rfl) ?_
  refine lv_iload_n hx hb dX2_fits_1 rfl (lv_at hl 1 rfl) ?_
  refine lv_iload_n hx hb dX2_fits_2 rfl (lv_at hl 2 rfl) ?_
  refine lv_aload_n hx hb dX2_fits_3 rfl (lv_at hl 0 rfl) ?_
  refine mg (v := .ref (ad 8)) X Y 8 (by decide) q1113 rfl rfl dX2_fits_4 ?_
  refine lv_iconst (v := (2 : Int32)) hx hb dX2_fits_7 (by decide) ?_
  refine lv_iload_n hx hb dX2_fits_8 rfl (lv_at hl 1 rfl) ?_
  refine lv_iadd hx hb dX2_fits_9 ?_
  obtain ⟨b_1, hf⟩ := gd_s hf
  obtain ⟨v_2, ev_2, hf⟩ := nm_s hf
  refine ml (n := 20) X Y 8 4 rfl b_1 ev_2 dX2_fits_10 ?_
  obtain ⟨r_3, hq_4, hf⟩ := bd1_s hf
  refine mcI (av := [.int a1, .int a2, .int v_2]) (rest := []) 3 X Y (tX2_fitsBy l N G a1 a2 v_2 r_3 hq_4) (lw_V q1337 q1339 qs50 q70 q1340) ydX2_fitsBy ⟨rfl, rfl, by decide, by decide⟩ rfl hl.1 rfl (Nat.le_of_ble_eq_true rfl) ⟨Nat.zero_le _, Nat.zero_le _⟩ dX2_fits_11 (fun H locs Y => ?_)
  obtain ⟨b_5, hf⟩ := gd_s hf
  cases hf
  exact m_zret X Y b_5 dX2_fits_14

def fX2_as_L62 (N : Nat) (G : GS) (a1 : Int32) : Nat → Int32 → Int32 → Option Int32
  | 0, _, _ => none
  | n_ + 1, x4_10, x5_11 =>
    if (G 0 0) ≤ x5_11 then (
     some x4_10
    ) else (
     bd1 (fX2_fits N G a1 x5_11) fun r_13 =>
     bd1 (
      if r_13 = (0 : Int32) then (
       some (0 : Int32)
      ) else (
       some ((1 : Int32) <<< (x5_11 &&& 31))
      )
     ) fun j_16 =>
     nm ((x4_10 ||| j_16) : Int32) fun x4_17 =>
     nm ((x5_11 + (1 : Int32)) : Int32) fun x5_18 =>
     fX2_as_L62 N G a1 n_ x4_17 x5_18
    )
def fX2_as_L62x (N : Nat) (G : GS) (a1 : Int32) : Nat → Int32 → Int32 → Option Int32
  | 0, _, _ => none
  | n_ + 1, x4_21, x5_22 =>
    if (G 0 0) ≤ x5_22 then (
     some x4_21
    ) else (
     bd1 (fX2_fits N G a1 x5_22) fun r_24 =>
     bd1 (
      if r_24 = (0 : Int32) then (
       some (0 : Int32)
      ) else (
       some ((1 : Int32) <<< (x5_22 &&& 31))
      )
     ) fun j_27 =>
     nm ((x4_21 ||| j_27) : Int32) fun x4_28 =>
     nm ((x5_22 + (1 : Int32)) : Int32) fun x5_29 =>
     fX2_as_L62x N G a1 n_ x4_28 x5_29
    )
def fX2_as_L62xx (N : Nat) (G : GS) (a1 : Int32) : Nat → Int32 → Int32 → Option Int32
  | 0, _, _ => none
  | n_ + 1, x4_33, x5_34 =>
    if (G 0 0) ≤ x5_34 then (
     some x4_33
    ) else (
     bd1 (fX2_fits N G a1 x5_34) fun r_36 =>
     bd1 (
      if r_36 = (0 : Int32) then (
       some (0 : Int32)
      ) else (
       some ((1 : Int32) <<< (x5_34 &&& 31))
      )
     ) fun j_39 =>
     nm ((x4_33 ||| j_39) : Int32) fun x4_40 =>
     nm ((x5_34 + (1 : Int32)) : Int32) fun x5_41 =>
     fX2_as_L62xx N G a1 n_ x4_40 x5_41
    )
def fX2_as (N : Nat) (G : GS) (a1 : Int32) (a2 : Int32) : Option Int32 :=
  bd1 (fX2_isKnight N G a1) fun r_1 =>
  if r_1 = (0 : Int32) then (
   some (-2 : Int32)
  ) else (
   bd1 (fX2_in N a2 (0 : Int32) (3 : Int32)) fun r_4 =>
   if r_4 = (0 : Int32) then (
    some (-3 : Int32)
   ) else (
    gd (inb ((3 : Int32) * a1) 18) <|
    nm (G 3 (((3 : Int32) * a1)).toNatClampNeg : Int32) fun v_8 =>
    if a2 = (0 : Int32) then (
     bd1 (fX2_as_L62 N G a1 N (0 : Int32) (0 : Int32)) fun x4_19 =>
     some x4_19
    ) else (
     if a2 = (v_8 + (1 : Int32)) then (
      bd1 (fX2_as_L62x N G a1 N (0 : Int32) (0 : Int32)) fun x4_30 =>
      some x4_30
     ) else (
      if a2 = (1 : Int32) then (
       if v_8 = (2 : Int32) then (
        bd1 (fX2_as_L62xx N G a1 N (0 : Int32) (0 : Int32)) fun x4_42 =>
        some x4_42
       ) else (
        some (-4 : Int32)
       )
      ) else (
       some (-4 : Int32)
      )
     )
    )
   )
  )
theorem ydX2_as : yX2_as.cls = RX2 ∧ yX2_as.cls ≠ "java/lang/invoke/MethodHandle" ∧ yX2_as.cls ≠ "java/lang/invoke/VarHandle" ∧ (parseMethodDescriptor yX2_as.desc).map (fun d => d.parameters.length) = some 2 := by decide +kernel
set_option maxHeartbeats 4000000 in
theorem tX2_as (l : Launch) (N : Nat) (G : GS) (a1 : Int32) (a2 : Int32) (r : Int32) (hf : fX2_as N G a1 a2 = some r) : mMet l yX2_as cX2_as 6 (some .int) (mR 2) [.int a1, .int a2] G (some (.int r)) G := by
  unfold fX2_as at hf
  refine mMet_of (by decide +kernel) rfl (Nat.le_of_ble_eq_true rfl) (fun {p e s m args below meth c ls D cA h ad A} X Y hl => ?_)
  have hx := X.1.1
  have hb := X.1.2.1
  have hl : lv_has ls 6 [(0, .ref h), (1, .int a1), (2, .int a2)] := hl
  refine lv_aload_n hx hb dX2_as_0 rfl (lv_at hl 0 rfl) ?_
  refine lv_iload_n hx hb dX2_as_1 rfl (lv_at hl 1 rfl) ?_
  obtain ⟨r_1, hq_2, hf⟩ := bd1_s hf
  refine mcI (av := [.int a1]) (rest := []) 1 X Y (tX2_isKnight l N G a1 r_1 hq_2) (lw_V q1322 q1324 qs48 q70 q1325) ydX2_isKnight ⟨rfl, rfl, by decide, by decide⟩ rfl hl.1 rfl (Nat.le_of_ble_eq_true rfl) ⟨Nat.zero_le _, Nat.zero_le _⟩ dX2_as_2 (fun H locs Y => ?_)
  refine lv_if_ne (tgt := 11) hx hb dX2_as_5 (by decide) (fun c_3 => ?_) (fun c_3 => ?_)
  · rw [if_neg c_3] at hf
    refine lv_iload_n hx hb dX2_as_11 rfl (lv_at hl 2 rfl) ?_
    refine lv_iconst (v := (0 : Int32)) hx hb dX2_as_12 (by decide) ?_
    refine lv_iconst (v := (3 : Int32)) hx hb dX2_as_13 (by decide) ?_
    obtain ⟨r_4, hq_5, hf⟩ := bd1_s hf
    refine w_callSI (av := [.int a2, .int (0 : Int32), .int (3 : Int32)]) (rest := []) 3 X Y (tX2_in l N a2 (0 : Int32) (3 : Int32) r_4 hq_5) (lw_S q1225 q1226 q70 q1227) ydX2_in ⟨rfl, rfl, by decide, by decide⟩ rfl hl.1 rfl (Nat.le_of_ble_eq_true rfl) ⟨Nat.zero_le _, Nat.zero_le _⟩ dX2_as_14 (fun H locs Y => ?_)
    refine lv_if_ne (tgt := 23) hx hb dX2_as_17 (by decide) (fun c_6 => ?_) (fun c_6 => ?_)
    · rw [if_neg c_6] at hf
      refine lv_aload_n hx hb dX2_as_23 rfl (lv_at hl 0 rfl) ?_
      refine mg (v := .ref (ad 3)) X Y 3 (by decide) q1108 rfl rfl dX2_as_24 ?_
      refine lv_iconst (v := (3 : Int32)) hx hb dX2_as_27 (by decide) ?_
      refine lv_iload_n hx hb dX2_as_28 rfl (lv_at hl 1 rfl) ?_
      refine lv_imul hx hb dX2_as_29 ?_
      obtain ⟨b_7, hf⟩ := gd_s hf
      obtain ⟨v_8, ev_8, hf⟩ := nm_s hf
      refine ml (n := 18) X Y 3 2 rfl b_7 ev_8 dX2_as_30 ?_
      refine lv_istore_n (lv' := [(3, .int v_8), (0, .ref h), (1, .int a1), (2, .int a2)]) hx hb dX2_as_31 rfl hl (by decide) rfl (fun ls hl => ?_)
      refine lv_iload_n hx hb dX2_as_32 rfl (lv_at hl 3 rfl) ?_
      refine lv_if_eq (tgt := 56) hx hb dX2_as_33 (by decide) (fun c_9 => ?_) (fun c_9 => ?_)
      · rw [if_pos c_9] at hf
        refine lv_iconst (v := (0 : Int32)) hx hb dX2_as_56 (by decide) ?_
        refine lv_istore (lv' := [(4, .int (0 : Int32)), (3, .int v_8), (0, .ref h), (1, .int a1), (2, .int a2)]) hx hb dX2_as_57 hl (by decide) rfl (fun ls hl => ?_)
        refine lv_iconst (v := (0 : Int32)) hx hb dX2_as_59 (by decide) ?_
        refine lv_istore (lv' := [(5, .int (0 : Int32)), (4, .int (0 : Int32)), (3, .int v_8), (0, .ref h), (1, .int a1), (2, .int a2)]) hx hb dX2_as_60 hl (by decide) rfl (fun ls hl => ?_)
        obtain ⟨x4_19, hL, hf⟩ := bd1_s hf
        have E62_43 : ∀ (H : Heap) (locs : List Loc), WX D A s (mW h ad cA G) H locs → ∀ ls : Array Slot, lv_has ls 6 [(4, .int x4_19)] → W p l e (mR 2) s m args below meth c H locs 0 0 (MQ below (mQ D cA h ad A (some (.int r)) G) args s 0 0 A) (F0 m 100 ls []) := by
          clear hL
          intro H locs Y ls hl
          refine lv_iload hx hb dX2_as_100 (lv_at hl 0 rfl) ?_
          cases hf
          exact m_iret X Y dX2_as_102
        clear hf
        have L62_43 : ∀ (n_ : Nat) (x4_10 : Int32) (x5_11 : Int32), fX2_as_L62 N G a1 n_ x4_10 x5_11 = some x4_19 → ∀ (H : Heap) (locs : List Loc), WX D A s (mW h ad cA G) H locs → ∀ ls : Array Slot, lv_has ls 6 [(0, .ref h), (1, .int a1), (4, .int x4_10), (5, .int x5_11)] → W p l e (mR 2) s m args below meth c H locs 0 0 (MQ below (mQ D cA h ad A (some (.int r)) G) args s 0 0 A) (F0 m 62 ls []) := by
          clear hL
          intro n_
          induction n_ with
          | zero =>
            intro x4_10 x5_11 hf
            rw [fX2_as_L62.eq_1] at hf
            cases hf
          | succ n_ ih =>
            intro x4_10 x5_11 hf
            intro H locs Y ls hl
            rw [fX2_as_L62.eq_2] at hf
            refine lv_iload hx hb dX2_as_62 (lv_at hl 3 rfl) ?_
            refine lv_aload_n hx hb dX2_as_64 rfl (lv_at hl 0 rfl) ?_
            refine mg (v := .int (G 0 0)) X Y 0 (by decide) q1105 rfl rfl dX2_as_65 ?_
            refine lv_icmp_ge (tgt := 100) hx hb dX2_as_68 (by decide) (fun c_12 => ?_) (fun c_12 => ?_)
            · rw [if_pos c_12] at hf
              cases hf
              exact E62_43 _ _ Y _ (lv_sub hl [2] rfl)
            · rw [if_neg c_12] at hf
              refine lv_iload hx hb dX2_as_71 (lv_at hl 2 rfl) ?_
              refine lv_aload_n hx hb dX2_as_73 rfl (lv_at hl 0 rfl) ?_
              refine lv_iload_n hx hb dX2_as_74 rfl (lv_at hl 1 rfl) ?_
              refine lv_iload hx hb dX2_as_75 (lv_at hl 3 rfl) ?_
              obtain ⟨r_13, hq_14, hf⟩ := bd1_s hf
              refine mcI (av := [.int a1, .int x5_11]) (rest := [.int x4_10]) 2 X Y (tX2_fits l N G a1 x5_11 r_13 hq_14) (lw_V q1333 q1335 qs49 q70 q1336) ydX2_fits ⟨rfl, rfl, by decide, by decide⟩ rfl hl.1 rfl (Nat.le_of_ble_eq_true rfl) ⟨Nat.zero_le _, Nat.zero_le _⟩ dX2_as_77 (fun H locs Y => ?_)
              obtain ⟨j_16, hj, hf⟩ := bd1_s hf
              have J91_44 : ∀ (H : Heap) (locs : List Loc), WX D A s (mW h ad cA G) H locs → ∀ ls : Array Slot, lv_has ls 6 [(0, .ref h), (1, .int a1), (5, .int x5_11)] → W p l e (mR 2) s m args below meth c H locs 0 0 (MQ below (mQ D cA h ad A (some (.int r)) G) args s 0 0 A) (F0 m 91 ls [.int j_16, .int x4_10]) := by
                clear hj
                intro H locs Y ls hl
                refine lv_ior hx hb dX2_as_91 ?_
                obtain ⟨x4_17, ex4_17, hf⟩ := nm_s hf
                refine lv_topE ex4_17 ?_
                refine lv_istore (lv' := [(4, .int x4_17), (0, .ref h), (1, .int a1), (5, .int x5_11)]) hx hb dX2_as_92 hl (by decide) rfl (fun ls hl => ?_)
                obtain ⟨x5_18, ex5_18, hf⟩ := nm_s hf
                refine lv_iinc (v := x5_18) (lv' := [(5, .int x5_18), (4, .int x4_17), (0, .ref h), (1, .int a1)]) hx hb dX2_as_94 hl (k := 3) rfl (by rw [ex5_18]; rfl) (by decide) rfl (fun ls hl => ?_)
                refine lv_goto (tgt := 62) hx hb dX2_as_97 (by decide) ?_
                exact ih _ _ hf _ _ Y _ (lv_sub hl [2, 3, 1, 0] rfl)
              replace hf := hj
              clear hj
              refine lv_if_eq (tgt := 90) hx hb dX2_as_80 (by decide) (fun c_15 => ?_) (fun c_15 => ?_)
              · rw [if_pos c_15] at hf
                refine lv_iconst (v := (0 : Int32)) hx hb dX2_as_90 (by decide) ?_
                cases hf
                exact J91_44 _ _ Y _ (lv_sub hl [0, 1, 3] rfl)
              · rw [if_neg c_15] at hf
                refine lv_iconst (v := (1 : Int32)) hx hb dX2_as_83 (by decide) ?_
                refine lv_iload hx hb dX2_as_84 (lv_at hl 3 rfl) ?_
                refine lv_ishl hx hb dX2_as_86 ?_
                refine lv_goto (tgt := 91) hx hb dX2_as_87 (by decide) ?_
                cases hf
                exact J91_44 _ _ Y _ (lv_sub hl [0, 1, 3] rfl)
        exact L62_43 N _ _ hL _ _ Y _ (lv_sub hl [3, 4, 1, 0] rfl)
      · rw [if_neg c_9] at hf
        refine lv_iload_n hx hb dX2_as_36 rfl (lv_at hl 3 rfl) ?_
        refine lv_iload_n hx hb dX2_as_37 rfl (lv_at hl 0 rfl) ?_
        refine lv_iconst (v := (1 : Int32)) hx hb dX2_as_38 (by decide) ?_
        refine lv_iadd hx hb dX2_as_39 ?_
        refine lv_icmp_eq (tgt := 56) hx hb dX2_as_40 (by decide) (fun c_20 => ?_) (fun c_20 => ?_)
        · rw [if_pos c_20] at hf
          refine lv_iconst (v := (0 : Int32)) hx hb dX2_as_56 (by decide) ?_
          refine lv_istore (lv' := [(4, .int (0 : Int32)), (3, .int v_8), (0, .ref h), (1, .int a1), (2, .int a2)]) hx hb dX2_as_57 hl (by decide) rfl (fun ls hl => ?_)
          refine lv_iconst (v := (0 : Int32)) hx hb dX2_as_59 (by decide) ?_
          refine lv_istore (lv' := [(5, .int (0 : Int32)), (4, .int (0 : Int32)), (3, .int v_8), (0, .ref h), (1, .int a1), (2, .int a2)]) hx hb dX2_as_60 hl (by decide) rfl (fun ls hl => ?_)
          obtain ⟨x4_30, hL, hf⟩ := bd1_s hf
          have E62_45 : ∀ (H : Heap) (locs : List Loc), WX D A s (mW h ad cA G) H locs → ∀ ls : Array Slot, lv_has ls 6 [(4, .int x4_30)] → W p l e (mR 2) s m args below meth c H locs 0 0 (MQ below (mQ D cA h ad A (some (.int r)) G) args s 0 0 A) (F0 m 100 ls []) := by
            clear hL
            intro H locs Y ls hl
            refine lv_iload hx hb dX2_as_100 (lv_at hl 0 rfl) ?_
            cases hf
            exact m_iret X Y dX2_as_102
          clear hf
          have L62_45 : ∀ (n_ : Nat) (x4_21 : Int32) (x5_22 : Int32), fX2_as_L62x N G a1 n_ x4_21 x5_22 = some x4_30 → ∀ (H : Heap) (locs : List Loc), WX D A s (mW h ad cA G) H locs → ∀ ls : Array Slot, lv_has ls 6 [(0, .ref h), (1, .int a1), (4, .int x4_21), (5, .int x5_22)] → W p l e (mR 2) s m args below meth c H locs 0 0 (MQ below (mQ D cA h ad A (some (.int r)) G) args s 0 0 A) (F0 m 62 ls []) := by
            clear hL
            intro n_
            induction n_ with
            | zero =>
              intro x4_21 x5_22 hf
              rw [fX2_as_L62x.eq_1] at hf
              cases hf
            | succ n_ ih =>
              intro x4_21 x5_22 hf
              intro H locs Y ls hl
              rw [fX2_as_L62x.eq_2] at hf
              refine lv_iload hx hb dX2_as_62 (lv_at hl 3 rfl) ?_
              refine lv_aload_n hx hb dX2_as_64 rfl (lv_at hl 0 rfl) ?_
              refine mg (v := .int (G 0 0)) X Y 0 (by decide) q1105 rfl rfl dX2_as_65 ?_
              refine lv_icmp_ge (tgt := 100) hx hb dX2_as_68 (by decide) (fun c_23 => ?_) (fun c_23 => ?_)
              · rw [if_pos c_23] at hf
                cases hf
                exact E62_45 _ _ Y _ (lv_sub hl [2] rfl)
              · rw [if_neg c_23] at hf
                refine lv_iload hx hb dX2_as_71 (lv_at hl 2 rfl) ?_
                refine lv_aload_n hx hb dX2_as_73 rfl (lv_at hl 0 rfl) ?_
                refine lv_iload_n hx hb dX2_as_74 rfl (lv_at hl 1 rfl) ?_
                refine lv_iload hx hb dX2_as_75 (lv_at hl 3 rfl) ?_
                obtain ⟨r_24, hq_25, hf⟩ := bd1_s hf
                refine mcI (av := [.int a1, .int x5_22]) (rest := [.int x4_21]) 2 X Y (tX2_fits l N G a1 x5_22 r_24 hq_25) (lw_V q1333 q1335 qs49 q70 q1336) ydX2_fits ⟨rfl, rfl, by decide, by decide⟩ rfl hl.1 rfl (Nat.le_of_ble_eq_true rfl) ⟨Nat.zero_le _, Nat.zero_le _⟩ dX2_as_77 (fun H locs Y => ?_)
                obtain ⟨j_27, hj, hf⟩ := bd1_s hf
                have J91_46 : ∀ (H : Heap) (locs : List Loc), WX D A s (mW h ad cA G) H locs → ∀ ls : Array Slot, lv_has ls 6 [(0, .ref h), (1, .int a1), (5, .int x5_22)] → W p l e (mR 2) s m args below meth c H locs 0 0 (MQ below (mQ D cA h ad A (some (.int r)) G) args s 0 0 A) (F0 m 91 ls [.int j_27, .int x4_21]) := by
                  clear hj
                  intro H locs Y ls hl
                  refine lv_ior hx hb dX2_as_91 ?_
                  obtain ⟨x4_28, ex4_28, hf⟩ := nm_s hf
                  refine lv_topE ex4_28 ?_
                  refine lv_istore (lv' := [(4, .int x4_28), (0, .ref h), (1, .int a1), (5, .int x5_22)]) hx hb dX2_as_92 hl (by decide) rfl (fun ls hl => ?_)
                  obtain ⟨x5_29, ex5_29, hf⟩ := nm_s hf
                  refine lv_iinc (v := x5_29) (lv' := [(5, .int x5_29), (4, .int x4_28), (0, .ref h), (1, .int a1)]) hx hb dX2_as_94 hl (k := 3) rfl (by rw [ex5_29]; rfl) (by decide) rfl (fun ls hl => ?_)
                  refine lv_goto (tgt := 62) hx hb dX2_as_97 (by decide) ?_
                  exact ih _ _ hf _ _ Y _ (lv_sub hl [2, 3, 1, 0] rfl)
                replace hf := hj
                clear hj
                refine lv_if_eq (tgt := 90) hx hb dX2_as_80 (by decide) (fun c_26 => ?_) (fun c_26 => ?_)
                · rw [if_pos c_26] at hf
                  refine lv_iconst (v := (0 : Int32)) hx hb dX2_as_90 (by decide) ?_
                  cases hf
                  exact J91_46 _ _ Y _ (lv_sub hl [0, 1, 3] rfl)
                · rw [if_neg c_26] at hf
                  refine lv_iconst (v := (1 : Int32)) hx hb dX2_as_83 (by decide) ?_
                  refine lv_iload hx hb dX2_as_84 (lv_at hl 3 rfl) ?_
                  refine lv_ishl hx hb dX2_as_86 ?_
                  refine lv_goto (tgt := 91) hx hb dX2_as_87 (by decide) ?_
                  cases hf
                  exact J91_46 _ _ Y _ (lv_sub hl [0, 1, 3] rfl)
          exact L62_45 N _ _ hL _ _ Y _ (lv_sub hl [3, 4, 1, 0] rfl)
        · rw [if_neg c_20] at hf
          refine lv_iload_n hx hb dX2_as_43 rfl (lv_at hl 3 rfl) ?_
          refine lv_iconst (v := (1 : Int32)) hx hb dX2_as_44 (by decide) ?_
          refine lv_icmp_ne (tgt := 53) hx hb dX2_as_45 (by decide) (fun c_31 => ?_) (fun c_31 => ?_)
          · rw [if_neg c_31] at hf
            refine lv_bipush (v := (-4 : Int32)) hx hb dX2_as_53 (by decide) ?_
            cases hf
            exact m_iret X Y dX2_as_55
          · rw [if_pos c_31] at hf
            refine lv_iload_n hx hb dX2_as_48 rfl (lv_at hl 0 rfl) ?_
            refine lv_iconst (v := (2 : Int32)) hx hb dX2_as_49 (by decide) ?_
            refine lv_icmp_eq (tgt := 56) hx hb dX2_as_50 (by decide) (fun c_32 => ?_) (fun c_32 => ?_)
            · rw [if_pos c_32] at hf
              refine lv_iconst (v := (0 : Int32)) hx hb dX2_as_56 (by decide) ?_
              refine lv_istore (lv' := [(4, .int (0 : Int32)), (3, .int v_8), (0, .ref h), (1, .int a1), (2, .int a2)]) hx hb dX2_as_57 hl (by decide) rfl (fun ls hl => ?_)
              refine lv_iconst (v := (0 : Int32)) hx hb dX2_as_59 (by decide) ?_
              refine lv_istore (lv' := [(5, .int (0 : Int32)), (4, .int (0 : Int32)), (3, .int v_8), (0, .ref h), (1, .int a1), (2, .int a2)]) hx hb dX2_as_60 hl (by decide) rfl (fun ls hl => ?_)
              obtain ⟨x4_42, hL, hf⟩ := bd1_s hf
              have E62_47 : ∀ (H : Heap) (locs : List Loc), WX D A s (mW h ad cA G) H locs → ∀ ls : Array Slot, lv_has ls 6 [(4, .int x4_42)] → W p l e (mR 2) s m args below meth c H locs 0 0 (MQ below (mQ D cA h ad A (some (.int r)) G) args s 0 0 A) (F0 m 100 ls []) := by
                clear hL
                intro H locs Y ls hl
                refine lv_iload hx hb dX2_as_100 (lv_at hl 0 rfl) ?_
                cases hf
                exact m_iret X Y dX2_as_102
              clear hf
              have L62_47 : ∀ (n_ : Nat) (x4_33 : Int32) (x5_34 : Int32), fX2_as_L62xx N G a1 n_ x4_33 x5_34 = some x4_42 → ∀ (H : Heap) (locs : List Loc), WX D A s (mW h ad cA G) H locs → ∀ ls : Array Slot, lv_has ls 6 [(0, .ref h), (1, .int a1), (4, .int x4_33), (5, .int x5_34)] → W p l e (mR 2) s m args below meth c H locs 0 0 (MQ below (mQ D cA h ad A (some (.int r)) G) args s 0 0 A) (F0 m 62 ls []) := by
                clear hL
                intro n_
                induction n_ with
                | zero =>
                  intro x4_33 x5_34 hf
                  rw [fX2_as_L62xx.eq_1] at hf
                  cases hf
                | succ n_ ih =>
                  intro x4_33 x5_34 hf
                  intro H locs Y ls hl
                  rw [fX2_as_L62xx.eq_2] at hf
                  refine lv_iload hx hb dX2_as_62 (lv_at hl 3 rfl) ?_
                  refine lv_aload_n hx hb dX2_as_64 rfl (lv_at hl 0 rfl) ?_
                  refine mg (v := .int (G 0 0)) X Y 0 (by decide) q1105 rfl rfl dX2_as_65 ?_
                  refine lv_icmp_ge (tgt := 100) hx hb dX2_as_68 (by decide) (fun c_35 => ?_) (fun c_35 => ?_)
                  · rw [if_pos c_35] at hf
                    cases hf
                    exact E62_47 _ _ Y _ (lv_sub hl [2] rfl)
                  · rw [if_neg c_35] at hf
                    refine lv_iload hx hb dX2_as_71 (lv_at hl 2 rfl) ?_
                    refine lv_aload_n hx hb dX2_as_73 rfl (lv_at hl 0 rfl) ?_
                    refine lv_iload_n hx hb dX2_as_74 rfl (lv_at hl 1 rfl) ?_
                    refine lv_iload hx hb dX2_as_75 (lv_at hl 3 rfl) ?_
                    obtain ⟨r_36, hq_37, hf⟩ := bd1_s hf
                    refine mcI (av := [.int a1, .int x5_34]) (rest := [.int x4_33]) 2 X Y (tX2_fits l N G a1 x5_34 r_36 hq_37) (lw_V q1333 q1335 qs49 q70 q1336) ydX2_fits ⟨rfl, rfl, by decide, by decide⟩ rfl hl.1 rfl (Nat.le_of_ble_eq_true rfl) ⟨Nat.zero_le _, Nat.zero_le _⟩ dX2_as_77 (fun H locs Y => ?_)
                    obtain ⟨j_39, hj, hf⟩ := bd1_s hf
                    have J91_48 : ∀ (H : Heap) (locs : List Loc), WX D A s (mW h ad cA G) H locs → ∀ ls : Array Slot, lv_has ls 6 [(0, .ref h), (1, .int a1), (5, .int x5_34)] → W p l e (mR 2) s m args below meth c H locs 0 0 (MQ below (mQ D cA h ad A (some (.int r)) G) args s 0 0 A) (F0 m 91 ls [.int j_39, .int x4_33]) := by
                      clear hj
                      intro H locs Y ls hl
                      refine lv_ior hx hb dX2_as_91 ?_
                      obtain ⟨x4_40, ex4_40, hf⟩ := nm_s hf
                      refine lv_topE ex4_40 ?_
                      refine lv_istore (lv' := [(4, .int x4_40), (0, .ref h), (1, .int a1), (5, .int x5_34)]) hx hb dX2_as_92 hl (by decide) rfl (fun ls hl => ?_)
                      obtain ⟨x5_41, ex5_41, hf⟩ := nm_s hf
                      refine lv_iinc (v := x5_41) (lv' := [(5, .int x5_41), (4, .int x4_40), (0, .ref h), (1, .int a1)]) hx hb dX2_as_94 hl (k := 3) rfl (by rw [ex5_41]; rfl) (by decide) rfl (fun ls hl => ?_)
                      refine lv_goto (tgt := 62) hx hb dX2_as_97 (by decide) ?_
                      exact ih _ _ hf _ _ Y _ (lv_sub hl [2, 3, 1, 0] rfl)
                    replace hf := hj
                    clear hj
                    refine lv_if_eq (tgt := 90) hx hb dX2_as_80 (by decide) (fun c_38 => ?_) (fun c_38 => ?_)
                    · rw [if_pos c_38] at hf
                      refine lv_iconst (v := (0 : Int32)) hx hb dX2_as_90 (by decide) ?_
                      cases hf
                      exact J91_48 _ _ Y _ (lv_sub hl [0, 1, 3] rfl)
                    · rw [if_neg c_38] at hf
                      refine lv_iconst (v := (1 : Int32)) hx hb dX2_as_83 (by decide) ?_
                      refine lv_iload hx hb dX2_as_84 (lv_at hl 3 rfl) ?_
                      refine lv_ishl hx hb dX2_as_86 ?_
                      refine lv_goto (tgt := 91) hx hb dX2_as_87 (by decide) ?_
                      cases hf
                      exact J91_48 _ _ Y _ (lv_sub hl [0, 1, 3] rfl)
              exact L62_47 N _ _ hL _ _ Y _ (lv_sub hl [3, 4, 1, 0] rfl)
            · rw [if_neg c_32] at hf
              refine lv_bipush (v := (-4 : Int32)) hx hb dX2_as_53 (by decide) ?_
              cases hf
              exact m_iret X Y dX2_as_55
    · rw [if_pos c_6] at hf
      refine lv_bipush (v := (-3 : Int32)) hx hb dX2_as_20 (by decide) ?_
      cases hf
      exact m_iret X Y dX2_as_22
  · rw [if_pos c_3] at hf
    refine lv_bipush (v := (-2 : Int32)) hx hb dX2_as_8 (by decide) ?_
    cases hf
    exact m_iret X Y dX2_as_10

def fX2_isThere (N : Nat) (G : GS) (a1 : Int32) : Option Int32 :=
  bd1 (fX2_isKnight N G a1) fun r_1 =>
  if r_1 = (0 : Int32) then (
   some (0 : Int32)
  ) else (
   gd (inb (1 : Int32) 20) <|
   nm (G 8 ((1 : Int32)).toNatClampNeg : Int32) fun v_5 =>
   bd1 (fX2_has N v_5 a1) fun r_6 =>
   if r_6 = (0 : Int32) then (
    some (0 : Int32)
   ) else (
    some (1 : Int32)
   )
  )
theorem ydX2_isThere : yX2_isThere.cls = RX2 ∧ yX2_isThere.cls ≠ "java/lang/invoke/MethodHandle" ∧ yX2_isThere.cls ≠ "java/lang/invoke/VarHandle" ∧ (parseMethodDescriptor yX2_isThere.desc).map (fun d => d.parameters.length) = some 1 := by decide +kernel
set_option maxHeartbeats 4000000 in
theorem tX2_isThere (l : Launch) (N : Nat) (G : GS) (a1 : Int32) (r : Int32) (hf : fX2_isThere N G a1 = some r) : mMet l yX2_isThere cX2_isThere 2 (some .boolean) (mR 2) [.int a1] G (some (.int r)) G := by
  unfold fX2_isThere at hf
  refine mMet_of (by decide +kernel) rfl (Nat.le_of_ble_eq_true rfl) (fun {p e s m args below meth c ls D cA h ad A} X Y hl => ?_)
  have hx := X.1.1
  have hb := X.1.2.1
  have hl : lv_has ls 2 [(0, .ref h), (1, .int a1)] := hl
  refine lv_aload_n hx hb dX2_isThere_0 rfl (lv_at hl 0 rfl) ?_
  refine lv_iload_n hx hb dX2_isThere_1 rfl (lv_at hl 1 rfl) ?_
  obtain ⟨r_1, hq_2, hf⟩ := bd1_s hf
  refine mcI (av := [.int a1]) (rest := []) 1 X Y (tX2_isKnight l N G a1 r_1 hq_2) (lw_V q1322 q1324 qs48 q70 q1325) ydX2_isKnight ⟨rfl, rfl, by decide, by decide⟩ rfl hl.1 rfl (Nat.le_of_ble_eq_true rfl) ⟨Nat.zero_le _, Nat.zero_le _⟩ dX2_isThere_2 (fun H locs Y => ?_)
  refine lv_if_eq (tgt := 25) hx hb dX2_isThere_5 (by decide) (fun c_3 => ?_) (fun c_3 => ?_)
  · rw [if_pos c_3] at hf
    refine lv_iconst (v := (0 : Int32)) hx hb dX2_isThere_25 (by decide) ?_
    cases hf
    exact m_zret X Y (by decide) dX2_isThere_26
  · rw [if_neg c_3] at hf
    refine lv_aload_n hx hb dX2_isThere_8 rfl (lv_at hl 0 rfl) ?_
    refine mg (v := .ref (ad 8)) X Y 8 (by decide) q1113 rfl rfl dX2_isThere_9 ?_
    refine lv_iconst (v := (1 : Int32)) hx hb dX2_isThere_12 (by decide) ?_
    obtain ⟨b_4, hf⟩ := gd_s hf
    obtain ⟨v_5, ev_5, hf⟩ := nm_s hf
    refine ml (n := 20) X Y 8 4 rfl b_4 ev_5 dX2_isThere_13 ?_
    refine lv_iload_n hx hb dX2_isThere_14 rfl (lv_at hl 1 rfl) ?_
    obtain ⟨r_6, hq_7, hf⟩ := bd1_s hf
    refine w_callSI (av := [.int v_5, .int a1]) (rest := []) 2 X Y (tX2_has l N v_5 a1 r_6 hq_7) (lw_S q1326 q1327 q70 q1328) ydX2_has ⟨rfl, rfl, by decide, by decide⟩ rfl hl.1 rfl (Nat.le_of_ble_eq_true rfl) ⟨Nat.zero_le _, Nat.zero_le _⟩ dX2_isThere_15 (fun H locs Y => ?_)
    refine lv_if_eq (tgt := 25) hx hb dX2_isThere_18 (by decide) (fun c_8 => ?_) (fun c_8 => ?_)
    · rw [if_pos c_8] at hf
      refine lv_iconst (v := (0 : Int32)) hx hb dX2_isThere_25 (by decide) ?_
      cases hf
      exact m_zret X Y (by decide) dX2_isThere_26
    · rw [if_neg c_8] at hf
      refine lv_iconst (v := (1 : Int32)) hx hb dX2_isThere_21 (by decide) ?_
      refine lv_goto (tgt := 26) hx hb dX2_isThere_22 (by decide) ?_
      cases hf
      exact m_zret X Y (by decide) dX2_isThere_26

def fX2_seatAs_L66 (N : Nat) (G : GS) (a1 : Int32) : Nat → Int32 → Int32 → Option Int32
  | 0, _, _ => none
  | n_ + 1, x4_10, x5_11 =>
    if (G 0 2) ≤ x5_11 then (
     some x4_10
    ) else (
     bd1 (fX2_isThere N G x5_11) fun r_13 =>
     bd1 (
      if r_13 = (0 : Int32) then (
       some (0 : Int32)
      ) else (
       bd1 (fX2_fits N G x5_11 a1) fun r_16 =>
       if r_16 = (0 : Int32) then (
        some (0 : Int32)
       ) else (
        some ((1 : Int32) <<< (x5_11 &&& 31))
       )
      )
     ) fun j_19 =>
     nm ((x4_10 ||| j_19) : Int32) fun x4_20 =>
     nm ((x5_11 + (1 : Int32)) : Int32) fun x5_21 =>
     fX2_seatAs_L66 N G a1 n_ x4_20 x5_21
    )
def fX2_seatAs_L66x (N : Nat) (G : GS) (a1 : Int32) : Nat → Int32 → Int32 → Option Int32
  | 0, _, _ => none
  | n_ + 1, x4_24, x5_25 =>
    if (G 0 2) ≤ x5_25 then (
     some x4_24
    ) else (
     bd1 (fX2_isThere N G x5_25) fun r_27 =>
     bd1 (
      if r_27 = (0 : Int32) then (
       some (0 : Int32)
      ) else (
       bd1 (fX2_fits N G x5_25 a1) fun r_30 =>
       if r_30 = (0 : Int32) then (
        some (0 : Int32)
       ) else (
        some ((1 : Int32) <<< (x5_25 &&& 31))
       )
      )
     ) fun j_33 =>
     nm ((x4_24 ||| j_33) : Int32) fun x4_34 =>
     nm ((x5_25 + (1 : Int32)) : Int32) fun x5_35 =>
     fX2_seatAs_L66x N G a1 n_ x4_34 x5_35
    )
def fX2_seatAs_L66xx (N : Nat) (G : GS) (a1 : Int32) : Nat → Int32 → Int32 → Option Int32
  | 0, _, _ => none
  | n_ + 1, x4_41, x5_42 =>
    if (G 0 2) ≤ x5_42 then (
     some x4_41
    ) else (
     bd1 (fX2_isThere N G x5_42) fun r_44 =>
     bd1 (
      if r_44 = (0 : Int32) then (
       some (0 : Int32)
      ) else (
       bd1 (fX2_fits N G x5_42 a1) fun r_47 =>
       if r_47 = (0 : Int32) then (
        some (0 : Int32)
       ) else (
        some ((1 : Int32) <<< (x5_42 &&& 31))
       )
      )
     ) fun j_50 =>
     nm ((x4_41 ||| j_50) : Int32) fun x4_51 =>
     nm ((x5_42 + (1 : Int32)) : Int32) fun x5_52 =>
     fX2_seatAs_L66xx N G a1 n_ x4_51 x5_52
    )
def fX2_seatAs (N : Nat) (G : GS) (a1 : Int32) (a2 : Int32) : Option Int32 :=
  bd1 (fX2_isSeat N G a1) fun r_1 =>
  if r_1 = (0 : Int32) then (
   some (-2 : Int32)
  ) else (
   bd1 (fX2_in N a2 (0 : Int32) (5 : Int32)) fun r_4 =>
   if r_4 = (0 : Int32) then (
    some (-3 : Int32)
   ) else (
    gd (inb ((2 : Int32) * a1) 16) <|
    nm (G 1 (((2 : Int32) * a1)).toNatClampNeg : Int32) fun v_8 =>
    if a2 = (0 : Int32) then (
     bd1 (fX2_seatAs_L66 N G a1 N (0 : Int32) (0 : Int32)) fun x4_22 =>
     some x4_22
    ) else (
     if a2 = (v_8 + (1 : Int32)) then (
      bd1 (fX2_seatAs_L66x N G a1 N (0 : Int32) (0 : Int32)) fun x4_36 =>
      some x4_36
     ) else (
      if a2 = (1 : Int32) then (
       bd1 (fX2_in N v_8 (1 : Int32) (2 : Int32)) fun r_38 =>
       if r_38 = (0 : Int32) then (
        some (-4 : Int32)
       ) else (
        bd1 (fX2_seatAs_L66xx N G a1 N (0 : Int32) (0 : Int32)) fun x4_53 =>
        some x4_53
       )
      ) else (
       some (-4 : Int32)
      )
     )
    )
   )
  )
theorem ydX2_seatAs : yX2_seatAs.cls = RX2 ∧ yX2_seatAs.cls ≠ "java/lang/invoke/MethodHandle" ∧ yX2_seatAs.cls ≠ "java/lang/invoke/VarHandle" ∧ (parseMethodDescriptor yX2_seatAs.desc).map (fun d => d.parameters.length) = some 2 := by decide +kernel
set_option maxHeartbeats 4000000 in
theorem tX2_seatAs (l : Launch) (N : Nat) (G : GS) (a1 : Int32) (a2 : Int32) (r : Int32) (hf : fX2_seatAs N G a1 a2 = some r) : mMet l yX2_seatAs cX2_seatAs 6 (some .int) (mR 3) [.int a1, .int a2] G (some (.int r)) G := by
  unfold fX2_seatAs at hf
  refine mMet_of (by decide +kernel) rfl (Nat.le_of_ble_eq_true rfl) (fun {p e s m args below meth c ls D cA h ad A} X Y hl => ?_)
  have hx := X.1.1
  have hb := X.1.2.1
  have hl : lv_has ls 6 [(0, .ref h), (1, .int a1), (2, .int a2)] := hl
  refine lv_aload_n hx hb dX2_seatAs_0 rfl (lv_at hl 0 rfl) ?_
  refine lv_iload_n hx hb dX2_seatAs_1 rfl (lv_at hl 1 rfl) ?_
  obtain ⟨r_1, hq_2, hf⟩ := bd1_s hf
  refine mcI (av := [.int a1]) (rest := []) 1 X Y (tX2_isSeat l N G a1 r_1 hq_2) (lw_V q1306 q1308 qs45 q70 q1309) ydX2_isSeat ⟨rfl, rfl, by decide, by decide⟩ rfl hl.1 rfl (Nat.le_of_ble_eq_true rfl) ⟨Nat.zero_le _, Nat.zero_le _⟩ dX2_seatAs_2 (fun H locs Y => ?_)
  refine lv_if_ne (tgt := 11) hx hb dX2_seatAs_5 (by decide) (fun c_3 => ?_) (fun c_3 => ?_)
  · rw [if_neg c_3] at hf
    refine lv_iload_n hx hb dX2_seatAs_11 rfl (lv_at hl 2 rfl) ?_
    refine lv_iconst (v := (0 : Int32)) hx hb dX2_seatAs_12 (by decide) ?_
    refine lv_iconst (v := (5 : Int32)) hx hb dX2_seatAs_13 (by decide) ?_
    obtain ⟨r_4, hq_5, hf⟩ := bd1_s hf
    refine w_callSI (av := [.int a2, .int (0 : Int32), .int (5 : Int32)]) (rest := []) 3 X Y (tX2_in l N a2 (0 : Int32) (5 : Int32) r_4 hq_5) (lw_S q1225 q1226 q70 q1227) ydX2_in ⟨rfl, rfl, by decide, by decide⟩ rfl hl.1 rfl (Nat.le_of_ble_eq_true rfl) ⟨Nat.zero_le _, Nat.zero_le _⟩ dX2_seatAs_14 (fun H locs Y => ?_)
    refine lv_if_ne (tgt := 23) hx hb dX2_seatAs_17 (by decide) (fun c_6 => ?_) (fun c_6 => ?_)
    · rw [if_neg c_6] at hf
      refine lv_aload_n hx hb dX2_seatAs_23 rfl (lv_at hl 0 rfl) ?_
      refine mg (v := .ref (ad 1)) X Y 1 (by decide) q1106 rfl rfl dX2_seatAs_24 ?_
      refine lv_iconst (v := (2 : Int32)) hx hb dX2_seatAs_27 (by decide) ?_
      refine lv_iload_n hx hb dX2_seatAs_28 rfl (lv_at hl 1 rfl) ?_
      refine lv_imul hx hb dX2_seatAs_29 ?_
      obtain ⟨b_7, hf⟩ := gd_s hf
      obtain ⟨v_8, ev_8, hf⟩ := nm_s hf
      refine ml (n := 16) X Y 1 1 rfl b_7 ev_8 dX2_seatAs_30 ?_
      refine lv_istore_n (lv' := [(3, .int v_8), (0, .ref h), (1, .int a1), (2, .int a2)]) hx hb dX2_seatAs_31 rfl hl (by decide) rfl (fun ls hl => ?_)
      refine lv_iload_n hx hb dX2_seatAs_32 rfl (lv_at hl 3 rfl) ?_
      refine lv_if_eq (tgt := 60) hx hb dX2_seatAs_33 (by decide) (fun c_9 => ?_) (fun c_9 => ?_)
      · rw [if_pos c_9] at hf
        refine lv_iconst (v := (0 : Int32)) hx hb dX2_seatAs_60 (by decide) ?_
        refine lv_istore (lv' := [(4, .int (0 : Int32)), (3, .int v_8), (0, .ref h), (1, .int a1), (2, .int a2)]) hx hb dX2_seatAs_61 hl (by decide) rfl (fun ls hl => ?_)
        refine lv_iconst (v := (0 : Int32)) hx hb dX2_seatAs_63 (by decide) ?_
        refine lv_istore (lv' := [(5, .int (0 : Int32)), (4, .int (0 : Int32)), (3, .int v_8), (0, .ref h), (1, .int a1), (2, .int a2)]) hx hb dX2_seatAs_64 hl (by decide) rfl (fun ls hl => ?_)
        obtain ⟨x4_22, hL, hf⟩ := bd1_s hf
        have E66_54 : ∀ (H : Heap) (locs : List Loc), WX D A s (mW h ad cA G) H locs → ∀ ls : Array Slot, lv_has ls 6 [(4, .int x4_22)] → W p l e (mR 3) s m args below meth c H locs 0 0 (MQ below (mQ D cA h ad A (some (.int r)) G) args s 0 0 A) (F0 m 113 ls []) := by
          clear hL
          intro H locs Y ls hl
          refine lv_iload hx hb dX2_seatAs_113 (lv_at hl 0 rfl) ?_
          cases hf
          exact m_iret X Y dX2_seatAs_115
        clear hf
        have L66_54 : ∀ (n_ : Nat) (x4_10 : Int32) (x5_11 : Int32), fX2_seatAs_L66 N G a1 n_ x4_10 x5_11 = some x4_22 → ∀ (H : Heap) (locs : List Loc), WX D A s (mW h ad cA G) H locs → ∀ ls : Array Slot, lv_has ls 6 [(0, .ref h), (1, .int a1), (4, .int x4_10), (5, .int x5_11)] → W p l e (mR 3) s m args below meth c H locs 0 0 (MQ below (mQ D cA h ad A (some (.int r)) G) args s 0 0 A) (F0 m 66 ls []) := by
          clear hL
          intro n_
          induction n_ with
          | zero =>
            intro x4_10 x5_11 hf
            rw [fX2_seatAs_L66.eq_1] at hf
            cases hf
          | succ n_ ih =>
            intro x4_10 x5_11 hf
            intro H locs Y ls hl
            rw [fX2_seatAs_L66.eq_2] at hf
            refine lv_iload hx hb dX2_seatAs_66 (lv_at hl 3 rfl) ?_
            refine lv_aload_n hx hb dX2_seatAs_68 rfl (lv_at hl 0 rfl) ?_
            refine mg (v := .int (G 0 2)) X Y 2 (by decide) q1107 rfl rfl dX2_seatAs_69 ?_
            refine lv_icmp_ge (tgt := 113) hx hb dX2_seatAs_72 (by decide) (fun c_12 => ?_) (fun c_12 => ?_)
            · rw [if_pos c_12] at hf
              cases hf
              exact E66_54 _ _ Y _ (lv_sub hl [2] rfl)
            · rw [if_neg c_12] at hf
              refine lv_iload hx hb dX2_seatAs_75 (lv_at hl 2 rfl) ?_
              refine lv_aload_n hx hb dX2_seatAs_77 rfl (lv_at hl 0 rfl) ?_
              refine lv_iload hx hb dX2_seatAs_78 (lv_at hl 3 rfl) ?_
              obtain ⟨r_13, hq_14, hf⟩ := bd1_s hf
              refine mcI (av := [.int x5_11]) (rest := [.int x4_10]) 1 X Y (tX2_isThere l N G x5_11 r_13 hq_14) (lw_V q1345 q1347 qs51 q70 q1348) ydX2_isThere ⟨rfl, rfl, by decide, by decide⟩ rfl hl.1 rfl (Nat.le_of_ble_eq_true rfl) ⟨Nat.zero_le _, Nat.zero_le _⟩ dX2_seatAs_80 (fun H locs Y => ?_)
              obtain ⟨j_19, hj, hf⟩ := bd1_s hf
              have J104_55 : ∀ (H : Heap) (locs : List Loc), WX D A s (mW h ad cA G) H locs → ∀ ls : Array Slot, lv_has ls 6 [(0, .ref h), (1, .int a1), (5, .int x5_11)] → W p l e (mR 3) s m args below meth c H locs 0 0 (MQ below (mQ D cA h ad A (some (.int r)) G) args s 0 0 A) (F0 m 104 ls [.int j_19, .int x4_10]) := by
                clear hj
                intro H locs Y ls hl
                refine lv_ior hx hb dX2_seatAs_104 ?_
                obtain ⟨x4_20, ex4_20, hf⟩ := nm_s hf
                refine lv_topE ex4_20 ?_
                refine lv_istore (lv' := [(4, .int x4_20), (0, .ref h), (1, .int a1), (5, .int x5_11)]) hx hb dX2_seatAs_105 hl (by decide) rfl (fun ls hl => ?_)
                obtain ⟨x5_21, ex5_21, hf⟩ := nm_s hf
                refine lv_iinc (v := x5_21) (lv' := [(5, .int x5_21), (4, .int x4_20), (0, .ref h), (1, .int a1)]) hx hb dX2_seatAs_107 hl (k := 3) rfl (by rw [ex5_21]; rfl) (by decide) rfl (fun ls hl => ?_)
                refine lv_goto (tgt := 66) hx hb dX2_seatAs_110 (by decide) ?_
                exact ih _ _ hf _ _ Y _ (lv_sub hl [2, 3, 1, 0] rfl)
              replace hf := hj
              clear hj
              refine lv_if_eq (tgt := 103) hx hb dX2_seatAs_83 (by decide) (fun c_15 => ?_) (fun c_15 => ?_)
              · rw [if_pos c_15] at hf
                refine lv_iconst (v := (0 : Int32)) hx hb dX2_seatAs_103 (by decide) ?_
                cases hf
                exact J104_55 _ _ Y _ (lv_sub hl [0, 1, 3] rfl)
              · rw [if_neg c_15] at hf
                refine lv_aload_n hx hb dX2_seatAs_86 rfl (lv_at hl 0 rfl) ?_
                refine lv_iload hx hb dX2_seatAs_87 (lv_at hl 3 rfl) ?_
                refine lv_iload_n hx hb dX2_seatAs_89 rfl (lv_at hl 1 rfl) ?_
                obtain ⟨r_16, hq_17, hf⟩ := bd1_s hf
                refine mcI (av := [.int x5_11, .int a1]) (rest := [.int x4_10]) 2 X Y (tX2_fits l N G x5_11 a1 r_16 hq_17) (lw_V q1333 q1335 qs49 q70 q1336) ydX2_fits ⟨rfl, rfl, by decide, by decide⟩ rfl hl.1 rfl (Nat.le_of_ble_eq_true rfl) ⟨Nat.zero_le _, Nat.zero_le _⟩ dX2_seatAs_90 (fun H locs Y => ?_)
                refine lv_if_eq (tgt := 103) hx hb dX2_seatAs_93 (by decide) (fun c_18 => ?_) (fun c_18 => ?_)
                · rw [if_pos c_18] at hf
                  refine lv_iconst (v := (0 : Int32)) hx hb dX2_seatAs_103 (by decide) ?_
                  cases hf
                  exact J104_55 _ _ Y _ (lv_sub hl [0, 1, 3] rfl)
                · rw [if_neg c_18] at hf
                  refine lv_iconst (v := (1 : Int32)) hx hb dX2_seatAs_96 (by decide) ?_
                  refine lv_iload hx hb dX2_seatAs_97 (lv_at hl 3 rfl) ?_
                  refine lv_ishl hx hb dX2_seatAs_99 ?_
                  refine lv_goto (tgt := 104) hx hb dX2_seatAs_100 (by decide) ?_
                  cases hf
                  exact J104_55 _ _ Y _ (lv_sub hl [0, 1, 3] rfl)
        exact L66_54 N _ _ hL _ _ Y _ (lv_sub hl [3, 4, 1, 0] rfl)
      · rw [if_neg c_9] at hf
        refine lv_iload_n hx hb dX2_seatAs_36 rfl (lv_at hl 3 rfl) ?_
        refine lv_iload_n hx hb dX2_seatAs_37 rfl (lv_at hl 0 rfl) ?_
        refine lv_iconst (v := (1 : Int32)) hx hb dX2_seatAs_38 (by decide) ?_
        refine lv_iadd hx hb dX2_seatAs_39 ?_
        refine lv_icmp_eq (tgt := 60) hx hb dX2_seatAs_40 (by decide) (fun c_23 => ?_) (fun c_23 => ?_)
        · rw [if_pos c_23] at hf
          refine lv_iconst (v := (0 : Int32)) hx hb dX2_seatAs_60 (by decide) ?_
          refine lv_istore (lv' := [(4, .int (0 : Int32)), (3, .int v_8), (0, .ref h), (1, .int a1), (2, .int a2)]) hx hb dX2_seatAs_61 hl (by decide) rfl (fun ls hl => ?_)
          refine lv_iconst (v := (0 : Int32)) hx hb dX2_seatAs_63 (by decide) ?_
          refine lv_istore (lv' := [(5, .int (0 : Int32)), (4, .int (0 : Int32)), (3, .int v_8), (0, .ref h), (1, .int a1), (2, .int a2)]) hx hb dX2_seatAs_64 hl (by decide) rfl (fun ls hl => ?_)
          obtain ⟨x4_36, hL, hf⟩ := bd1_s hf
          have E66_56 : ∀ (H : Heap) (locs : List Loc), WX D A s (mW h ad cA G) H locs → ∀ ls : Array Slot, lv_has ls 6 [(4, .int x4_36)] → W p l e (mR 3) s m args below meth c H locs 0 0 (MQ below (mQ D cA h ad A (some (.int r)) G) args s 0 0 A) (F0 m 113 ls []) := by
            clear hL
            intro H locs Y ls hl
            refine lv_iload hx hb dX2_seatAs_113 (lv_at hl 0 rfl) ?_
            cases hf
            exact m_iret X Y dX2_seatAs_115
          clear hf
          have L66_56 : ∀ (n_ : Nat) (x4_24 : Int32) (x5_25 : Int32), fX2_seatAs_L66x N G a1 n_ x4_24 x5_25 = some x4_36 → ∀ (H : Heap) (locs : List Loc), WX D A s (mW h ad cA G) H locs → ∀ ls : Array Slot, lv_has ls 6 [(0, .ref h), (1, .int a1), (4, .int x4_24), (5, .int x5_25)] → W p l e (mR 3) s m args below meth c H locs 0 0 (MQ below (mQ D cA h ad A (some (.int r)) G) args s 0 0 A) (F0 m 66 ls []) := by
            clear hL
            intro n_
            induction n_ with
            | zero =>
              intro x4_24 x5_25 hf
              rw [fX2_seatAs_L66x.eq_1] at hf
              cases hf
            | succ n_ ih =>
              intro x4_24 x5_25 hf
              intro H locs Y ls hl
              rw [fX2_seatAs_L66x.eq_2] at hf
              refine lv_iload hx hb dX2_seatAs_66 (lv_at hl 3 rfl) ?_
              refine lv_aload_n hx hb dX2_seatAs_68 rfl (lv_at hl 0 rfl) ?_
              refine mg (v := .int (G 0 2)) X Y 2 (by decide) q1107 rfl rfl dX2_seatAs_69 ?_
              refine lv_icmp_ge (tgt := 113) hx hb dX2_seatAs_72 (by decide) (fun c_26 => ?_) (fun c_26 => ?_)
              · rw [if_pos c_26] at hf
                cases hf
                exact E66_56 _ _ Y _ (lv_sub hl [2] rfl)
              · rw [if_neg c_26] at hf
                refine lv_iload hx hb dX2_seatAs_75 (lv_at hl 2 rfl) ?_
                refine lv_aload_n hx hb dX2_seatAs_77 rfl (lv_at hl 0 rfl) ?_
                refine lv_iload hx hb dX2_seatAs_78 (lv_at hl 3 rfl) ?_
                obtain ⟨r_27, hq_28, hf⟩ := bd1_s hf
                refine mcI (av := [.int x5_25]) (rest := [.int x4_24]) 1 X Y (tX2_isThere l N G x5_25 r_27 hq_28) (lw_V q1345 q1347 qs51 q70 q1348) ydX2_isThere ⟨rfl, rfl, by decide, by decide⟩ rfl hl.1 rfl (Nat.le_of_ble_eq_true rfl) ⟨Nat.zero_le _, Nat.zero_le _⟩ dX2_seatAs_80 (fun H locs Y => ?_)
                obtain ⟨j_33, hj, hf⟩ := bd1_s hf
                have J104_57 : ∀ (H : Heap) (locs : List Loc), WX D A s (mW h ad cA G) H locs → ∀ ls : Array Slot, lv_has ls 6 [(0, .ref h), (1, .int a1), (5, .int x5_25)] → W p l e (mR 3) s m args below meth c H locs 0 0 (MQ below (mQ D cA h ad A (some (.int r)) G) args s 0 0 A) (F0 m 104 ls [.int j_33, .int x4_24]) := by
                  clear hj
                  intro H locs Y ls hl
                  refine lv_ior hx hb dX2_seatAs_104 ?_
                  obtain ⟨x4_34, ex4_34, hf⟩ := nm_s hf
                  refine lv_topE ex4_34 ?_
                  refine lv_istore (lv' := [(4, .int x4_34), (0, .ref h), (1, .int a1), (5, .int x5_25)]) hx hb dX2_seatAs_105 hl (by decide) rfl (fun ls hl => ?_)
                  obtain ⟨x5_35, ex5_35, hf⟩ := nm_s hf
                  refine lv_iinc (v := x5_35) (lv' := [(5, .int x5_35), (4, .int x4_34), (0, .ref h), (1, .int a1)]) hx hb dX2_seatAs_107 hl (k := 3) rfl (by rw [ex5_35]; rfl) (by decide) rfl (fun ls hl => ?_)
                  refine lv_goto (tgt := 66) hx hb dX2_seatAs_110 (by decide) ?_
                  exact ih _ _ hf _ _ Y _ (lv_sub hl [2, 3, 1, 0] rfl)
                replace hf := hj
                clear hj
                refine lv_if_eq (tgt := 103) hx hb dX2_seatAs_83 (by decide) (fun c_29 => ?_) (fun c_29 => ?_)
                · rw [if_pos c_29] at hf
                  refine lv_iconst (v := (0 : Int32)) hx hb dX2_seatAs_103 (by decide) ?_
                  cases hf
                  exact J104_57 _ _ Y _ (lv_sub hl [0, 1, 3] rfl)
                · rw [if_neg c_29] at hf
                  refine lv_aload_n hx hb dX2_seatAs_86 rfl (lv_at hl 0 rfl) ?_
                  refine lv_iload hx hb dX2_seatAs_87 (lv_at hl 3 rfl) ?_
                  refine lv_iload_n hx hb dX2_seatAs_89 rfl (lv_at hl 1 rfl) ?_
                  obtain ⟨r_30, hq_31, hf⟩ := bd1_s hf
                  refine mcI (av := [.int x5_25, .int a1]) (rest := [.int x4_24]) 2 X Y (tX2_fits l N G x5_25 a1 r_30 hq_31) (lw_V q1333 q1335 qs49 q70 q1336) ydX2_fits ⟨rfl, rfl, by decide, by decide⟩ rfl hl.1 rfl (Nat.le_of_ble_eq_true rfl) ⟨Nat.zero_le _, Nat.zero_le _⟩ dX2_seatAs_90 (fun H locs Y => ?_)
                  refine lv_if_eq (tgt := 103) hx hb dX2_seatAs_93 (by decide) (fun c_32 => ?_) (fun c_32 => ?_)
                  · rw [if_pos c_32] at hf
                    refine lv_iconst (v := (0 : Int32)) hx hb dX2_seatAs_103 (by decide) ?_
                    cases hf
                    exact J104_57 _ _ Y _ (lv_sub hl [0, 1, 3] rfl)
                  · rw [if_neg c_32] at hf
                    refine lv_iconst (v := (1 : Int32)) hx hb dX2_seatAs_96 (by decide) ?_
                    refine lv_iload hx hb dX2_seatAs_97 (lv_at hl 3 rfl) ?_
                    refine lv_ishl hx hb dX2_seatAs_99 ?_
                    refine lv_goto (tgt := 104) hx hb dX2_seatAs_100 (by decide) ?_
                    cases hf
                    exact J104_57 _ _ Y _ (lv_sub hl [0, 1, 3] rfl)
          exact L66_56 N _ _ hL _ _ Y _ (lv_sub hl [3, 4, 1, 0] rfl)
        · rw [if_neg c_23] at hf
          refine lv_iload_n hx hb dX2_seatAs_43 rfl (lv_at hl 3 rfl) ?_
          refine lv_iconst (v := (1 : Int32)) hx hb dX2_seatAs_44 (by decide) ?_
          refine lv_icmp_ne (tgt := 57) hx hb dX2_seatAs_45 (by decide) (fun c_37 => ?_) (fun c_37 => ?_)
          · rw [if_neg c_37] at hf
            refine lv_bipush (v := (-4 : Int32)) hx hb dX2_seatAs_57 (by decide) ?_
            cases hf
            exact m_iret X Y dX2_seatAs_59
          · rw [if_pos c_37] at hf
            refine lv_iload_n hx hb dX2_seatAs_48 rfl (lv_at hl 0 rfl) ?_
            refine lv_iconst (v := (1 : Int32)) hx hb dX2_seatAs_49 (by decide) ?_
            refine lv_iconst (v := (2 : Int32)) hx hb dX2_seatAs_50 (by decide) ?_
            obtain ⟨r_38, hq_39, hf⟩ := bd1_s hf
            refine w_callSI (av := [.int v_8, .int (1 : Int32), .int (2 : Int32)]) (rest := []) 3 X Y (tX2_in l N v_8 (1 : Int32) (2 : Int32) r_38 hq_39) (lw_S q1225 q1226 q70 q1227) ydX2_in ⟨rfl, rfl, by decide, by decide⟩ rfl hl.1 rfl (Nat.le_of_ble_eq_true rfl) ⟨Nat.zero_le _, Nat.zero_le _⟩ dX2_seatAs_51 (fun H locs Y => ?_)
            refine lv_if_ne (tgt := 60) hx hb dX2_seatAs_54 (by decide) (fun c_40 => ?_) (fun c_40 => ?_)
            · rw [if_neg c_40] at hf
              refine lv_iconst (v := (0 : Int32)) hx hb dX2_seatAs_60 (by decide) ?_
              refine lv_istore (lv' := [(4, .int (0 : Int32)), (3, .int v_8), (0, .ref h), (1, .int a1), (2, .int a2)]) hx hb dX2_seatAs_61 hl (by decide) rfl (fun ls hl => ?_)
              refine lv_iconst (v := (0 : Int32)) hx hb dX2_seatAs_63 (by decide) ?_
              refine lv_istore (lv' := [(5, .int (0 : Int32)), (4, .int (0 : Int32)), (3, .int v_8), (0, .ref h), (1, .int a1), (2, .int a2)]) hx hb dX2_seatAs_64 hl (by decide) rfl (fun ls hl => ?_)
              obtain ⟨x4_53, hL, hf⟩ := bd1_s hf
              have E66_58 : ∀ (H : Heap) (locs : List Loc), WX D A s (mW h ad cA G) H locs → ∀ ls : Array Slot, lv_has ls 6 [(4, .int x4_53)] → W p l e (mR 3) s m args below meth c H locs 0 0 (MQ below (mQ D cA h ad A (some (.int r)) G) args s 0 0 A) (F0 m 113 ls []) := by
                clear hL
                intro H locs Y ls hl
                refine lv_iload hx hb dX2_seatAs_113 (lv_at hl 0 rfl) ?_
                cases hf
                exact m_iret X Y dX2_seatAs_115
              clear hf
              have L66_58 : ∀ (n_ : Nat) (x4_41 : Int32) (x5_42 : Int32), fX2_seatAs_L66xx N G a1 n_ x4_41 x5_42 = some x4_53 → ∀ (H : Heap) (locs : List Loc), WX D A s (mW h ad cA G) H locs → ∀ ls : Array Slot, lv_has ls 6 [(0, .ref h), (1, .int a1), (4, .int x4_41), (5, .int x5_42)] → W p l e (mR 3) s m args below meth c H locs 0 0 (MQ below (mQ D cA h ad A (some (.int r)) G) args s 0 0 A) (F0 m 66 ls []) := by
                clear hL
                intro n_
                induction n_ with
                | zero =>
                  intro x4_41 x5_42 hf
                  rw [fX2_seatAs_L66xx.eq_1] at hf
                  cases hf
                | succ n_ ih =>
                  intro x4_41 x5_42 hf
                  intro H locs Y ls hl
                  rw [fX2_seatAs_L66xx.eq_2] at hf
                  refine lv_iload hx hb dX2_seatAs_66 (lv_at hl 3 rfl) ?_
                  refine lv_aload_n hx hb dX2_seatAs_68 rfl (lv_at hl 0 rfl) ?_
                  refine mg (v := .int (G 0 2)) X Y 2 (by decide) q1107 rfl rfl dX2_seatAs_69 ?_
                  refine lv_icmp_ge (tgt := 113) hx hb dX2_seatAs_72 (by decide) (fun c_43 => ?_) (fun c_43 => ?_)
                  · rw [if_pos c_43] at hf
                    cases hf
                    exact E66_58 _ _ Y _ (lv_sub hl [2] rfl)
                  · rw [if_neg c_43] at hf
                    refine lv_iload hx hb dX2_seatAs_75 (lv_at hl 2 rfl) ?_
                    refine lv_aload_n hx hb dX2_seatAs_77 rfl (lv_at hl 0 rfl) ?_
                    refine lv_iload hx hb dX2_seatAs_78 (lv_at hl 3 rfl) ?_
                    obtain ⟨r_44, hq_45, hf⟩ := bd1_s hf
                    refine mcI (av := [.int x5_42]) (rest := [.int x4_41]) 1 X Y (tX2_isThere l N G x5_42 r_44 hq_45) (lw_V q1345 q1347 qs51 q70 q1348) ydX2_isThere ⟨rfl, rfl, by decide, by decide⟩ rfl hl.1 rfl (Nat.le_of_ble_eq_true rfl) ⟨Nat.zero_le _, Nat.zero_le _⟩ dX2_seatAs_80 (fun H locs Y => ?_)
                    obtain ⟨j_50, hj, hf⟩ := bd1_s hf
                    have J104_59 : ∀ (H : Heap) (locs : List Loc), WX D A s (mW h ad cA G) H locs → ∀ ls : Array Slot, lv_has ls 6 [(0, .ref h), (1, .int a1), (5, .int x5_42)] → W p l e (mR 3) s m args below meth c H locs 0 0 (MQ below (mQ D cA h ad A (some (.int r)) G) args s 0 0 A) (F0 m 104 ls [.int j_50, .int x4_41]) := by
                      clear hj
                      intro H locs Y ls hl
                      refine lv_ior hx hb dX2_seatAs_104 ?_
                      obtain ⟨x4_51, ex4_51, hf⟩ := nm_s hf
                      refine lv_topE ex4_51 ?_
                      refine lv_istore (lv' := [(4, .int x4_51), (0, .ref h), (1, .int a1), (5, .int x5_42)]) hx hb dX2_seatAs_105 hl (by decide) rfl (fun ls hl => ?_)
                      obtain ⟨x5_52, ex5_52, hf⟩ := nm_s hf
                      refine lv_iinc (v := x5_52) (lv' := [(5, .int x5_52), (4, .int x4_51), (0, .ref h), (1, .int a1)]) hx hb dX2_seatAs_107 hl (k := 3) rfl (by rw [ex5_52]; rfl) (by decide) rfl (fun ls hl => ?_)
                      refine lv_goto (tgt := 66) hx hb dX2_seatAs_110 (by decide) ?_
                      exact ih _ _ hf _ _ Y _ (lv_sub hl [2, 3, 1, 0] rfl)
                    replace hf := hj
                    clear hj
                    refine lv_if_eq (tgt := 103) hx hb dX2_seatAs_83 (by decide) (fun c_46 => ?_) (fun c_46 => ?_)
                    · rw [if_pos c_46] at hf
                      refine lv_iconst (v := (0 : Int32)) hx hb dX2_seatAs_103 (by decide) ?_
                      cases hf
                      exact J104_59 _ _ Y _ (lv_sub hl [0, 1, 3] rfl)
                    · rw [if_neg c_46] at hf
                      refine lv_aload_n hx hb dX2_seatAs_86 rfl (lv_at hl 0 rfl) ?_
                      refine lv_iload hx hb dX2_seatAs_87 (lv_at hl 3 rfl) ?_
                      refine lv_iload_n hx hb dX2_seatAs_89 rfl (lv_at hl 1 rfl) ?_
                      obtain ⟨r_47, hq_48, hf⟩ := bd1_s hf
                      refine mcI (av := [.int x5_42, .int a1]) (rest := [.int x4_41]) 2 X Y (tX2_fits l N G x5_42 a1 r_47 hq_48) (lw_V q1333 q1335 qs49 q70 q1336) ydX2_fits ⟨rfl, rfl, by decide, by decide⟩ rfl hl.1 rfl (Nat.le_of_ble_eq_true rfl) ⟨Nat.zero_le _, Nat.zero_le _⟩ dX2_seatAs_90 (fun H locs Y => ?_)
                      refine lv_if_eq (tgt := 103) hx hb dX2_seatAs_93 (by decide) (fun c_49 => ?_) (fun c_49 => ?_)
                      · rw [if_pos c_49] at hf
                        refine lv_iconst (v := (0 : Int32)) hx hb dX2_seatAs_103 (by decide) ?_
                        cases hf
                        exact J104_59 _ _ Y _ (lv_sub hl [0, 1, 3] rfl)
                      · rw [if_neg c_49] at hf
                        refine lv_iconst (v := (1 : Int32)) hx hb dX2_seatAs_96 (by decide) ?_
                        refine lv_iload hx hb dX2_seatAs_97 (lv_at hl 3 rfl) ?_
                        refine lv_ishl hx hb dX2_seatAs_99 ?_
                        refine lv_goto (tgt := 104) hx hb dX2_seatAs_100 (by decide) ?_
                        cases hf
                        exact J104_59 _ _ Y _ (lv_sub hl [0, 1, 3] rfl)
              exact L66_58 N _ _ hL _ _ Y _ (lv_sub hl [3, 4, 1, 0] rfl)
            · rw [if_pos c_40] at hf
              refine lv_bipush (v := (-4 : Int32)) hx hb dX2_seatAs_57 (by decide) ?_
              cases hf
              exact m_iret X Y dX2_seatAs_59
    · rw [if_pos c_6] at hf
      refine lv_bipush (v := (-3 : Int32)) hx hb dX2_seatAs_20 (by decide) ?_
      cases hf
      exact m_iret X Y dX2_seatAs_22
  · rw [if_pos c_3] at hf
    refine lv_bipush (v := (-2 : Int32)) hx hb dX2_seatAs_8 (by decide) ?_
    cases hf
    exact m_iret X Y dX2_seatAs_10

def fX2_remembers_L11 (N : Nat) : Nat → Int32 → GS → Option GS
  | 0, _, _ => none
  | n_ + 1, x1_2, G_3 =>
    if (140 : Int32) ≤ x1_2 then (
     some G_3
    ) else (
     gd (inb (x1_2 + (20 : Int32)) 160) <|
     nm (G_3 10 ((x1_2 + (20 : Int32))).toNatClampNeg : Int32) fun v_6 =>
     gd (inb x1_2 160) <|
     nm (gu G_3 10 (x1_2).toNatClampNeg v_6 : GS) fun G_8 =>
     nm ((x1_2 + (1 : Int32)) : Int32) fun x1_9 =>
     fX2_remembers_L11 N n_ x1_9 G_8
    )
def fX2_remembers_L51 (N : Nat) : Nat → Int32 → GS → Option GS
  | 0, _, _ => none
  | n_ + 1, x1_13, G_14 =>
    if (20 : Int32) ≤ x1_13 then (
     some G_14
    ) else (
     gd (inb x1_13 20) <|
     nm (G_14 8 (x1_13).toNatClampNeg : Int32) fun v_17 =>
     gd (inb (((20 : Int32) * (G_14 0 9)) + x1_13) 160) <|
     nm (gu G_14 10 ((((20 : Int32) * (G_14 0 9)) + x1_13)).toNatClampNeg v_17 : GS) fun G_19 =>
     nm ((x1_13 + (1 : Int32)) : Int32) fun x1_20 =>
     fX2_remembers_L51 N n_ x1_20 G_19
    )
def fX2_remembers (N : Nat) (G : GS) : Option GS :=
  bd1 (
   if (G 0 9) = (8 : Int32) then (
    bd1 (fX2_remembers_L11 N N (0 : Int32) G) fun G_10 =>
    nm (gu G_10 0 9 ((G_10 0 9) - (1 : Int32)) : GS) fun G_11 =>
    some G_11
   ) else (
    some G
   )
  ) fun G_12 =>
  bd1 (fX2_remembers_L51 N N (0 : Int32) G_12) fun G_21 =>
  nm (gu G_21 0 9 ((G_21 0 9) + (1 : Int32)) : GS) fun G_22 =>
  some G_22
theorem ydX2_remembers : yX2_remembers.cls = RX2 ∧ yX2_remembers.cls ≠ "java/lang/invoke/MethodHandle" ∧ yX2_remembers.cls ≠ "java/lang/invoke/VarHandle" ∧ (parseMethodDescriptor yX2_remembers.desc).map (fun d => d.parameters.length) = some 0 := by decide +kernel
set_option maxHeartbeats 4000000 in
theorem tX2_remembers (l : Launch) (N : Nat) (G : GS) (G' : GS) (hf : fX2_remembers N G = some G') : mMet l yX2_remembers cX2_remembers 2 none (mR 0) [] G (none) G' := by
  unfold fX2_remembers at hf
  refine mMet_of (by decide +kernel) rfl (Nat.le_of_ble_eq_true rfl) (fun {p e s m args below meth c ls D cA h ad A} X Y hl => ?_)
  have hx := X.1.1
  have hb := X.1.2.1
  have hl : lv_has ls 2 [(0, .ref h)] := hl
  refine lv_aload_n hx hb dX2_remembers_0 rfl (lv_at hl 0 rfl) ?_
  refine mg (v := .int (G 0 9)) X Y 9 (by decide) q1114 rfl rfl dX2_remembers_1 ?_
  refine lv_bipush (v := (8 : Int32)) hx hb dX2_remembers_4 (by decide) ?_
  obtain ⟨G_12, hj, hf⟩ := bd1_s hf
  have J49_23 : ∀ (H : Heap) (locs : List Loc), WX D A s (mW h ad cA G_12) H locs → ∀ ls : Array Slot, lv_has ls 2 [(0, .ref h)] → W p l e (mR 0) s m args below meth c H locs 0 0 (MQ below (mQ D cA h ad A (none) G') args s 0 0 A) (F0 m 49 ls []) := by
    clear hj
    intro H locs Y ls hl
    refine lv_iconst (v := (0 : Int32)) hx hb dX2_remembers_49 (by decide) ?_
    refine lv_istore_n (lv' := [(1, .int (0 : Int32)), (0, .ref h)]) hx hb dX2_remembers_50 rfl hl (by decide) rfl (fun ls hl => ?_)
    obtain ⟨G_21, hL, hf⟩ := bd1_s hf
    have E51_24 : ∀ (H : Heap) (locs : List Loc), WX D A s (mW h ad cA G_21) H locs → ∀ ls : Array Slot, lv_has ls 2 [(0, .ref h)] → W p l e (mR 0) s m args below meth c H locs 0 0 (MQ below (mQ D cA h ad A (none) G') args s 0 0 A) (F0 m 83 ls []) := by
      clear hL
      intro H locs Y ls hl
      refine lv_aload_n hx hb dX2_remembers_83 rfl (lv_at hl 0 rfl) ?_
      refine lv_dup hx hb dX2_remembers_84 rfl ?_
      refine mg (v := .int (G_21 0 9)) X Y 9 (by decide) q1114 rfl rfl dX2_remembers_85 ?_
      refine lv_iconst (v := (1 : Int32)) hx hb dX2_remembers_88 (by decide) ?_
      refine lv_iadd hx hb dX2_remembers_89 ?_
      obtain ⟨G_22, eG_22, hf⟩ := nm_s hf
      refine mp X Y 9 (by decide) q1114 ⟨rfl, rfl⟩ rfl mz0_9 eG_22 dX2_remembers_90 (fun H locs Y => ?_)
      cases hf
      exact m_vret X Y dX2_remembers_93
    clear hf
    have L51_24 : ∀ (n_ : Nat) (x1_13 : Int32) (G_14 : GS), fX2_remembers_L51 N n_ x1_13 G_14 = some G_21 → ∀ (H : Heap) (locs : List Loc), WX D A s (mW h ad cA G_14) H locs → ∀ ls : Array Slot, lv_has ls 2 [(0, .ref h), (1, .int x1_13)] → W p l e (mR 0) s m args below meth c H locs 0 0 (MQ below (mQ D cA h ad A (none) G') args s 0 0 A) (F0 m 51 ls []) := by
      clear hL
      intro n_
      induction n_ with
      | zero =>
        intro x1_13 G_14 hf
        rw [fX2_remembers_L51.eq_1] at hf
        cases hf
      | succ n_ ih =>
        intro x1_13 G_14 hf
        intro H locs Y ls hl
        rw [fX2_remembers_L51.eq_2] at hf
        refine lv_iload_n hx hb dX2_remembers_51 rfl (lv_at hl 1 rfl) ?_
        refine lv_bipush (v := (20 : Int32)) hx hb dX2_remembers_52 (by decide) ?_
        refine lv_icmp_ge (tgt := 83) hx hb dX2_remembers_54 (by decide) (fun c_15 => ?_) (fun c_15 => ?_)
        · rw [if_pos c_15] at hf
          cases hf
          exact E51_24 _ _ Y _ (lv_sub hl [0] rfl)
        · rw [if_neg c_15] at hf
          refine lv_aload_n hx hb dX2_remembers_57 rfl (lv_at hl 0 rfl) ?_
          refine mg (v := .ref (ad 10)) X Y 10 (by decide) q1115 rfl rfl dX2_remembers_58 ?_
          refine lv_bipush (v := (20 : Int32)) hx hb dX2_remembers_61 (by decide) ?_
          refine lv_aload_n hx hb dX2_remembers_63 rfl (lv_at hl 0 rfl) ?_
          refine mg (v := .int (G_14 0 9)) X Y 9 (by decide) q1114 rfl rfl dX2_remembers_64 ?_
          refine lv_imul hx hb dX2_remembers_67 ?_
          refine lv_iload_n hx hb dX2_remembers_68 rfl (lv_at hl 1 rfl) ?_
          refine lv_iadd hx hb dX2_remembers_69 ?_
          refine lv_aload_n hx hb dX2_remembers_70 rfl (lv_at hl 0 rfl) ?_
          refine mg (v := .ref (ad 8)) X Y 8 (by decide) q1113 rfl rfl dX2_remembers_71 ?_
          refine lv_iload_n hx hb dX2_remembers_74 rfl (lv_at hl 1 rfl) ?_
          obtain ⟨b_16, hf⟩ := gd_s hf
          obtain ⟨v_17, ev_17, hf⟩ := nm_s hf
          refine ml (n := 20) X Y 8 4 rfl b_16 ev_17 dX2_remembers_75 ?_
          obtain ⟨b_18, hf⟩ := gd_s hf
          obtain ⟨G_19, eG_19, hf⟩ := nm_s hf
          refine ms (n := 160) X Y 10 5 rfl mz10 b_18 eG_19 dX2_remembers_76 (fun H locs Y => ?_)
          obtain ⟨x1_20, ex1_20, hf⟩ := nm_s hf
          refine lv_iinc (v := x1_20) (lv' := [(1, .int x1_20), (0, .ref h)]) hx hb dX2_remembers_77 hl (k := 1) rfl (by rw [ex1_20]; rfl) (by decide) rfl (fun ls hl => ?_)
          refine lv_goto (tgt := 51) hx hb dX2_remembers_80 (by decide) ?_
          exact ih _ _ hf _ _ Y _ (lv_sub hl [1, 0] rfl)
    exact L51_24 N _ _ hL _ _ Y _ (lv_sub hl [1, 0] rfl)
  replace hf := hj
  clear hj
  refine lv_icmp_ne (tgt := 49) hx hb dX2_remembers_6 (by decide) (fun c_1 => ?_) (fun c_1 => ?_)
  · rw [if_neg c_1] at hf
    cases hf
    exact J49_23 _ _ Y _ (lv_sub hl [0] rfl)
  · rw [if_pos c_1] at hf
    refine lv_iconst (v := (0 : Int32)) hx hb dX2_remembers_9 (by decide) ?_
    refine lv_istore_n (lv' := [(1, .int (0 : Int32)), (0, .ref h)]) hx hb dX2_remembers_10 rfl hl (by decide) rfl (fun ls hl => ?_)
    obtain ⟨G_10, hL, hf⟩ := bd1_s hf
    have E11_25 : ∀ (H : Heap) (locs : List Loc), WX D A s (mW h ad cA G_10) H locs → ∀ ls : Array Slot, lv_has ls 2 [(0, .ref h)] → W p l e (mR 0) s m args below meth c H locs 0 0 (MQ below (mQ D cA h ad A (none) G') args s 0 0 A) (F0 m 39 ls []) := by
      clear hL
      intro H locs Y ls hl
      refine lv_aload_n hx hb dX2_remembers_39 rfl (lv_at hl 0 rfl) ?_
      refine lv_dup hx hb dX2_remembers_40 rfl ?_
      refine mg (v := .int (G_10 0 9)) X Y 9 (by decide) q1114 rfl rfl dX2_remembers_41 ?_
      refine lv_iconst (v := (1 : Int32)) hx hb dX2_remembers_44 (by decide) ?_
      refine lv_isub hx hb dX2_remembers_45 ?_
      obtain ⟨G_11, eG_11, hf⟩ := nm_s hf
      refine mp X Y 9 (by decide) q1114 ⟨rfl, rfl⟩ rfl mz0_9 eG_11 dX2_remembers_46 (fun H locs Y => ?_)
      cases hf
      exact J49_23 _ _ Y _ (lv_sub hl [0] rfl)
    clear hf
    have L11_25 : ∀ (n_ : Nat) (x1_2 : Int32) (G_3 : GS), fX2_remembers_L11 N n_ x1_2 G_3 = some G_10 → ∀ (H : Heap) (locs : List Loc), WX D A s (mW h ad cA G_3) H locs → ∀ ls : Array Slot, lv_has ls 2 [(0, .ref h), (1, .int x1_2)] → W p l e (mR 0) s m args below meth c H locs 0 0 (MQ below (mQ D cA h ad A (none) G') args s 0 0 A) (F0 m 11 ls []) := by
      clear hL
      intro n_
      induction n_ with
      | zero =>
        intro x1_2 G_3 hf
        rw [fX2_remembers_L11.eq_1] at hf
        cases hf
      | succ n_ ih =>
        intro x1_2 G_3 hf
        intro H locs Y ls hl
        rw [fX2_remembers_L11.eq_2] at hf
        refine lv_iload_n hx hb dX2_remembers_11 rfl (lv_at hl 1 rfl) ?_
        refine lv_sipush (v := (140 : Int32)) hx hb dX2_remembers_12 (by decide) ?_
        refine lv_icmp_ge (tgt := 39) hx hb dX2_remembers_15 (by decide) (fun c_4 => ?_) (fun c_4 => ?_)
        · rw [if_pos c_4] at hf
          cases hf
          exact E11_25 _ _ Y _ (lv_sub hl [0] rfl)
        · rw [if_neg c_4] at hf
          refine lv_aload_n hx hb dX2_remembers_18 rfl (lv_at hl 0 rfl) ?_
          refine mg (v := .ref (ad 10)) X Y 10 (by decide) q1115 rfl rfl dX2_remembers_19 ?_
          refine lv_iload_n hx hb dX2_remembers_22 rfl (lv_at hl 1 rfl) ?_
          refine lv_aload_n hx hb dX2_remembers_23 rfl (lv_at hl 0 rfl) ?_
          refine mg (v := .ref (ad 10)) X Y 10 (by decide) q1115 rfl rfl dX2_remembers_24 ?_
          refine lv_iload_n hx hb dX2_remembers_27 rfl (lv_at hl 1 rfl) ?_
          refine lv_bipush (v := (20 : Int32)) hx hb dX2_remembers_28 (by decide) ?_
          refine lv_iadd hx hb dX2_remembers_30 ?_
          obtain ⟨b_5, hf⟩ := gd_s hf
          obtain ⟨v_6, ev_6, hf⟩ := nm_s hf
          refine ml (n := 160) X Y 10 5 rfl b_5 ev_6 dX2_remembers_31 ?_
          obtain ⟨b_7, hf⟩ := gd_s hf
          obtain ⟨G_8, eG_8, hf⟩ := nm_s hf
          refine ms (n := 160) X Y 10 5 rfl mz10 b_7 eG_8 dX2_remembers_32 (fun H locs Y => ?_)
          obtain ⟨x1_9, ex1_9, hf⟩ := nm_s hf
          refine lv_iinc (v := x1_9) (lv' := [(1, .int x1_9), (0, .ref h)]) hx hb dX2_remembers_33 hl (k := 1) rfl (by rw [ex1_9]; rfl) (by decide) rfl (fun ls hl => ?_)
          refine lv_goto (tgt := 11) hx hb dX2_remembers_36 (by decide) ?_
          exact ih _ _ hf _ _ Y _ (lv_sub hl [1, 0] rfl)
    exact L11_25 N _ _ hL _ _ Y _ (lv_sub hl [1, 0] rfl)

def fX2_sitting_L4 (N : Nat) (G : GS) : Nat → Int32 → Int32 → Option Int32
  | 0, _, _ => none
  | n_ + 1, x1_1, x2_2 =>
    if (G 0 2) ≤ x2_2 then (
     some x1_1
    ) else (
     gd (inb ((14 : Int32) + x2_2) 20) <|
     nm (G 8 (((14 : Int32) + x2_2)).toNatClampNeg : Int32) fun v_5 =>
     bd1 (
      if v_5 = (-1 : Int32) then (
       some (0 : Int32)
      ) else (
       some ((1 : Int32) <<< (x2_2 &&& 31))
      )
     ) fun j_7 =>
     nm ((x1_1 ||| j_7) : Int32) fun x1_8 =>
     nm ((x2_2 + (1 : Int32)) : Int32) fun x2_9 =>
     fX2_sitting_L4 N G n_ x1_8 x2_9
    )
def fX2_sitting (N : Nat) (G : GS) : Option Int32 :=
  bd1 (fX2_sitting_L4 N G N (0 : Int32) (0 : Int32)) fun x1_10 =>
  some x1_10
theorem ydX2_sitting : yX2_sitting.cls = RX2 ∧ yX2_sitting.cls ≠ "java/lang/invoke/MethodHandle" ∧ yX2_sitting.cls ≠ "java/lang/invoke/VarHandle" ∧ (parseMethodDescriptor yX2_sitting.desc).map (fun d => d.parameters.length) = some 0 := by decide +kernel
set_option maxHeartbeats 4000000 in
theorem tX2_sitting (l : Launch) (N : Nat) (G : GS) (r : Int32) (hf : fX2_sitting N G = some r) : mMet l yX2_sitting cX2_sitting 3 (some .int) (mR 0) [] G (some (.int r)) G := by
  unfold fX2_sitting at hf
  refine mMet_of (by decide +kernel) rfl (Nat.le_of_ble_eq_true rfl) (fun {p e s m args below meth c ls D cA h ad A} X Y hl => ?_)
  have hx := X.1.1
  have hb := X.1.2.1
  have hl : lv_has ls 3 [(0, .ref h)] := hl
  refine lv_iconst (v := (0 : Int32)) hx hb dX2_sitting_0 (by decide) ?_
  refine lv_istore_n (lv' := [(1, .int (0 : Int32)), (0, .ref h)]) hx hb dX2_sitting_1 rfl hl (by decide) rfl (fun ls hl => ?_)
  refine lv_iconst (v := (0 : Int32)) hx hb dX2_sitting_2 (by decide) ?_
  refine lv_istore_n (lv' := [(2, .int (0 : Int32)), (1, .int (0 : Int32)), (0, .ref h)]) hx hb dX2_sitting_3 rfl hl (by decide) rfl (fun ls hl => ?_)
  obtain ⟨x1_10, hL, hf⟩ := bd1_s hf
  have E4_11 : ∀ (H : Heap) (locs : List Loc), WX D A s (mW h ad cA G) H locs → ∀ ls : Array Slot, lv_has ls 3 [(1, .int x1_10)] → W p l e (mR 0) s m args below meth c H locs 0 0 (MQ below (mQ D cA h ad A (some (.int r)) G) args s 0 0 A) (F0 m 41 ls []) := by
    clear hL
    intro H locs Y ls hl
    refine lv_iload_n hx hb dX2_sitting_41 rfl (lv_at hl 0 rfl) ?_
    cases hf
    exact m_iret X Y dX2_sitting_42
  clear hf
  have L4_11 : ∀ (n_ : Nat) (x1_1 : Int32) (x2_2 : Int32), fX2_sitting_L4 N G n_ x1_1 x2_2 = some x1_10 → ∀ (H : Heap) (locs : List Loc), WX D A s (mW h ad cA G) H locs → ∀ ls : Array Slot, lv_has ls 3 [(0, .ref h), (1, .int x1_1), (2, .int x2_2)] → W p l e (mR 0) s m args below meth c H locs 0 0 (MQ below (mQ D cA h ad A (some (.int r)) G) args s 0 0 A) (F0 m 4 ls []) := by
    clear hL
    intro n_
    induction n_ with
    | zero =>
      intro x1_1 x2_2 hf
      rw [fX2_sitting_L4.eq_1] at hf
      cases hf
    | succ n_ ih =>
      intro x1_1 x2_2 hf
      intro H locs Y ls hl
      rw [fX2_sitting_L4.eq_2] at hf
      refine lv_iload_n hx hb dX2_sitting_4 rfl (lv_at hl 2 rfl) ?_
      refine lv_aload_n hx hb dX2_sitting_5 rfl (lv_at hl 0 rfl) ?_
      refine mg (v := .int (G 0 2)) X Y 2 (by decide) q1107 rfl rfl dX2_sitting_6 ?_
      refine lv_icmp_ge (tgt := 41) hx hb dX2_sitting_9 (by decide) (fun c_3 => ?_) (fun c_3 => ?_)
      · rw [if_pos c_3] at hf
        cases hf
        exact E4_11 _ _ Y _ (lv_sub hl [1] rfl)
      · rw [if_neg c_3] at hf
        refine lv_iload_n hx hb dX2_sitting_12 rfl (lv_at hl 1 rfl) ?_
        refine lv_aload_n hx hb dX2_sitting_13 rfl (lv_at hl 0 rfl) ?_
        refine mg (v := .ref (ad 8)) X Y 8 (by decide) q1113 rfl rfl dX2_sitting_14 ?_
        refine lv_bipush (v := (14 : Int32)) hx hb dX2_sitting_17 (by decide) ?_
        refine lv_iload_n hx hb dX2_sitting_19 rfl (lv_at hl 2 rfl) ?_
        refine lv_iadd hx hb dX2_sitting_20 ?_
        obtain ⟨b_4, hf⟩ := gd_s hf
        obtain ⟨v_5, ev_5, hf⟩ := nm_s hf
        refine ml (n := 20) X Y 8 4 rfl b_4 ev_5 dX2_sitting_21 ?_
        refine lv_iconst (v := (-1 : Int32)) hx hb dX2_sitting_22 (by decide) ?_
        obtain ⟨j_7, hj, hf⟩ := bd1_s hf
        have J33_12 : ∀ (H : Heap) (locs : List Loc), WX D A s (mW h ad cA G) H locs → ∀ ls : Array Slot, lv_has ls 3 [(0, .ref h), (2, .int x2_2)] → W p l e (mR 0) s m args below meth c H locs 0 0 (MQ below (mQ D cA h ad A (some (.int r)) G) args s 0 0 A) (F0 m 33 ls [.int j_7, .int x1_1]) := by
          clear hj
          intro H locs Y ls hl
          refine lv_ior hx hb dX2_sitting_33 ?_
          obtain ⟨x1_8, ex1_8, hf⟩ := nm_s hf
          refine lv_topE ex1_8 ?_
          refine lv_istore_n (lv' := [(1, .int x1_8), (0, .ref h), (2, .int x2_2)]) hx hb dX2_sitting_34 rfl hl (by decide) rfl (fun ls hl => ?_)
          obtain ⟨x2_9, ex2_9, hf⟩ := nm_s hf
          refine lv_iinc (v := x2_9) (lv' := [(2, .int x2_9), (1, .int x1_8), (0, .ref h)]) hx hb dX2_sitting_35 hl (k := 2) rfl (by rw [ex2_9]; rfl) (by decide) rfl (fun ls hl => ?_)
          refine lv_goto (tgt := 4) hx hb dX2_sitting_38 (by decide) ?_
          exact ih _ _ hf _ _ Y _ (lv_sub hl [2, 1, 0] rfl)
        replace hf := hj
        clear hj
        refine lv_icmp_ne (tgt := 30) hx hb dX2_sitting_23 (by decide) (fun c_6 => ?_) (fun c_6 => ?_)
        · rw [if_neg c_6] at hf
          refine lv_iconst (v := (1 : Int32)) hx hb dX2_sitting_30 (by decide) ?_
          refine lv_iload_n hx hb dX2_sitting_31 rfl (lv_at hl 2 rfl) ?_
          refine lv_ishl hx hb dX2_sitting_32 ?_
          cases hf
          exact J33_12 _ _ Y _ (lv_sub hl [0, 2] rfl)
        · rw [if_pos c_6] at hf
          refine lv_iconst (v := (0 : Int32)) hx hb dX2_sitting_26 (by decide) ?_
          refine lv_goto (tgt := 33) hx hb dX2_sitting_27 (by decide) ?_
          cases hf
          exact J33_12 _ _ Y _ (lv_sub hl [0, 2] rfl)
  exact L4_11 N _ _ hL _ _ Y _ (lv_sub hl [2, 1, 0] rfl)

def fX2_bits_L4 (N : Nat) : Nat → Int32 → Int32 → Option Int32
  | 0, _, _ => none
  | n_ + 1, x1_1, x2_2 =>
    if x2_2 ≤ (0 : Int32) then (
     some x1_1
    ) else (
     nm ((x1_1 + (1 : Int32)) : Int32) fun x1_4 =>
     nm ((x2_2 &&& (x2_2 - (1 : Int32))) : Int32) fun x2_5 =>
     fX2_bits_L4 N n_ x1_4 x2_5
    )
def fX2_bits (N : Nat) (a1 : Int32) : Option Int32 :=
  bd1 (fX2_bits_L4 N N (0 : Int32) a1) fun x1_6 =>
  some x1_6
theorem ydX2_bits : yX2_bits.cls ≠ "java/lang/invoke/MethodHandle" ∧ yX2_bits.cls ≠ "java/lang/invoke/VarHandle" ∧ (parseMethodDescriptor yX2_bits.desc).map (fun d => d.parameters.length) = some 1 := by decide +kernel
set_option maxHeartbeats 4000000 in
theorem tX2_bits (l : Launch) (N : Nat) (a1 : Int32) (r : Int32) (hf : fX2_bits N a1 = some r) : sMet l yX2_bits cX2_bits 3 (some .int) (mR 0) [.int a1] (some (.int r)) := by
  unfold fX2_bits at hf
  refine sMet_of (by decide +kernel) (Nat.le_of_ble_eq_true rfl) (fun {p e s m args below meth c ls} B hS hl => ?_)
  have hx := B.1
  have hb := B.2.1
  have hl : lv_has ls 3 [(0, .int a1)] := hl
  refine lv_iconst (v := (0 : Int32)) hx hb dX2_bits_0 (by decide) ?_
  refine lv_istore_n (lv' := [(1, .int (0 : Int32)), (0, .int a1)]) hx hb dX2_bits_1 rfl hl (by decide) rfl (fun ls hl => ?_)
  refine lv_iload_n hx hb dX2_bits_2 rfl (lv_at hl 1 rfl) ?_
  refine lv_istore_n (lv' := [(2, .int a1), (1, .int (0 : Int32)), (0, .int a1)]) hx hb dX2_bits_3 rfl hl (by decide) rfl (fun ls hl => ?_)
  obtain ⟨x1_6, hL, hf⟩ := bd1_s hf
  have E4_7 : ∀ (H : Heap) (locs : List Loc), va_S (fun _ => False) s.heap H locs → ∀ ls : Array Slot, lv_has ls 3 [(1, .int x1_6)] → W p l e (mR 0) s m args below meth c H locs 0 0 (MQ below (fun _ st oc t => oc = .returned (some (.int r)) ∧ va_F (fun _ => False) st t) args s 0 0 (fun _ => False)) (F0 m 20 ls []) := by
    clear hL
    intro H locs hS ls hl
    refine lv_iload_n hx hb dX2_bits_20 rfl (lv_at hl 0 rfl) ?_
    cases hf
    exact s_iret B hS dX2_bits_21
  clear hf
  have L4_7 : ∀ (n_ : Nat) (x1_1 : Int32) (x2_2 : Int32), fX2_bits_L4 N n_ x1_1 x2_2 = some x1_6 → ∀ (H : Heap) (locs : List Loc), va_S (fun _ => False) s.heap H locs → ∀ ls : Array Slot, lv_has ls 3 [(1, .int x1_1), (2, .int x2_2)] → W p l e (mR 0) s m args below meth c H locs 0 0 (MQ below (fun _ st oc t => oc = .returned (some (.int r)) ∧ va_F (fun _ => False) st t) args s 0 0 (fun _ => False)) (F0 m 4 ls []) := by
    clear hL
    intro n_
    induction n_ with
    | zero =>
      intro x1_1 x2_2 hf
      rw [fX2_bits_L4.eq_1] at hf
      cases hf
    | succ n_ ih =>
      intro x1_1 x2_2 hf
      intro H locs hS ls hl
      rw [fX2_bits_L4.eq_2] at hf
      refine lv_iload_n hx hb dX2_bits_4 rfl (lv_at hl 1 rfl) ?_
      refine lv_if_le (tgt := 20) hx hb dX2_bits_5 (by decide) (fun c_3 => ?_) (fun c_3 => ?_)
      · rw [if_pos c_3] at hf
        cases hf
        exact E4_7 _ _ hS _ (lv_sub hl [0] rfl)
      · rw [if_neg c_3] at hf
        obtain ⟨x1_4, ex1_4, hf⟩ := nm_s hf
        refine lv_iinc (v := x1_4) (lv' := [(1, .int x1_4), (2, .int x2_2)]) hx hb dX2_bits_8 hl (k := 0) rfl (by rw [ex1_4]; rfl) (by decide) rfl (fun ls hl => ?_)
        refine lv_iload_n hx hb dX2_bits_11 rfl (lv_at hl 1 rfl) ?_
        refine lv_iload_n hx hb dX2_bits_12 rfl (lv_at hl 1 rfl) ?_
        refine lv_iconst (v := (1 : Int32)) hx hb dX2_bits_13 (by decide) ?_
        refine lv_isub hx hb dX2_bits_14 ?_
        refine lv_iand hx hb dX2_bits_15 ?_
        obtain ⟨x2_5, ex2_5, hf⟩ := nm_s hf
        refine lv_topE ex2_5 ?_
        refine lv_istore_n (lv' := [(2, .int x2_5), (1, .int x1_4)]) hx hb dX2_bits_16 rfl hl (by decide) rfl (fun ls hl => ?_)
        refine lv_goto (tgt := 4) hx hb dX2_bits_17 (by decide) ?_
        exact ih _ _ hf _ _ hS _ (lv_sub hl [1, 0] rfl)
  exact L4_7 N _ _ hL _ _ hS _ (lv_sub hl [1, 0] rfl)

def fX2_sit (N : Nat) (G : GS) (a1 : Int32) (a2 : Int32) : Option (Int32 × GS) :=
  bd1 (fX2_isKnight N G a1) fun r_1 =>
  if r_1 = (0 : Int32) then (
   some ((-2 : Int32), G)
  ) else (
   bd1 (fX2_isSeat N G a2) fun r_4 =>
   if r_4 = (0 : Int32) then (
    some ((-2 : Int32), G)
   ) else (
    bd1 (fX2_isThere N G a1) fun r_7 =>
    if r_7 = (0 : Int32) then (
     some ((-4 : Int32), G)
    ) else (
     gd (inb ((14 : Int32) + a1) 20) <|
     nm (G 8 (((14 : Int32) + a1)).toNatClampNeg : Int32) fun v_11 =>
     if v_11 = (-1 : Int32) then (
      bd1 (fX2_sitter N G a2) fun r_13 =>
      if r_13 = (-1 : Int32) then (
       bd1 (fX2_remembers N G) fun G_16 =>
       gd (inb ((14 : Int32) + a1) 20) <|
       nm (gu G_16 8 (((14 : Int32) + a1)).toNatClampNeg a2 : GS) fun G_19 =>
       bd1 (fX2_sitting N G_19) fun r_20 =>
       bd1 (fX2_bits N r_20) fun r_22 =>
       some (r_22, G_19)
      ) else (
       some ((-4 : Int32), G)
      )
     ) else (
      some ((-4 : Int32), G)
     )
    )
   )
  )
theorem ydX2_sit : yX2_sit.cls = RX2 ∧ yX2_sit.cls ≠ "java/lang/invoke/MethodHandle" ∧ yX2_sit.cls ≠ "java/lang/invoke/VarHandle" ∧ (parseMethodDescriptor yX2_sit.desc).map (fun d => d.parameters.length) = some 2 := by decide +kernel
set_option maxHeartbeats 4000000 in
theorem tX2_sit (l : Launch) (N : Nat) (G : GS) (a1 : Int32) (a2 : Int32) (r : Int32) (G' : GS) (hf : fX2_sit N G a1 a2 = some (r, G')) : mMet l yX2_sit cX2_sit 3 (some .int) (mR 3) [.int a1, .int a2] G (some (.int r)) G' := by
  unfold fX2_sit at hf
  refine mMet_of (by decide +kernel) rfl (Nat.le_of_ble_eq_true rfl) (fun {p e s m args below meth c ls D cA h ad A} X Y hl => ?_)
  have hx := X.1.1
  have hb := X.1.2.1
  have hl : lv_has ls 3 [(0, .ref h), (1, .int a1), (2, .int a2)] := hl
  refine lv_aload_n hx hb dX2_sit_0 rfl (lv_at hl 0 rfl) ?_
  refine lv_iload_n hx hb dX2_sit_1 rfl (lv_at hl 1 rfl) ?_
  obtain ⟨r_1, hq_2, hf⟩ := bd1_s hf
  refine mcI (av := [.int a1]) (rest := []) 1 X Y (tX2_isKnight l N G a1 r_1 hq_2) (lw_V q1322 q1324 qs48 q70 q1325) ydX2_isKnight ⟨rfl, rfl, by decide, by decide⟩ rfl hl.1 rfl (Nat.le_of_ble_eq_true rfl) ⟨Nat.zero_le _, Nat.zero_le _⟩ dX2_sit_2 (fun H locs Y => ?_)
  refine lv_if_eq (tgt := 16) hx hb dX2_sit_5 (by decide) (fun c_3 => ?_) (fun c_3 => ?_)
  · rw [if_pos c_3] at hf
    refine lv_bipush (v := (-2 : Int32)) hx hb dX2_sit_16 (by decide) ?_
    cases hf
    exact m_iret X Y dX2_sit_18
  · rw [if_neg c_3] at hf
    refine lv_aload_n hx hb dX2_sit_8 rfl (lv_at hl 0 rfl) ?_
    refine lv_iload_n hx hb dX2_sit_9 rfl (lv_at hl 2 rfl) ?_
    obtain ⟨r_4, hq_5, hf⟩ := bd1_s hf
    refine mcI (av := [.int a2]) (rest := []) 1 X Y (tX2_isSeat l N G a2 r_4 hq_5) (lw_V q1306 q1308 qs45 q70 q1309) ydX2_isSeat ⟨rfl, rfl, by decide, by decide⟩ rfl hl.1 rfl (Nat.le_of_ble_eq_true rfl) ⟨Nat.zero_le _, Nat.zero_le _⟩ dX2_sit_10 (fun H locs Y => ?_)
    refine lv_if_ne (tgt := 19) hx hb dX2_sit_13 (by decide) (fun c_6 => ?_) (fun c_6 => ?_)
    · rw [if_neg c_6] at hf
      refine lv_aload_n hx hb dX2_sit_19 rfl (lv_at hl 0 rfl) ?_
      refine lv_iload_n hx hb dX2_sit_20 rfl (lv_at hl 1 rfl) ?_
      obtain ⟨r_7, hq_8, hf⟩ := bd1_s hf
      refine mcI (av := [.int a1]) (rest := []) 1 X Y (tX2_isThere l N G a1 r_7 hq_8) (lw_V q1345 q1347 qs51 q70 q1348) ydX2_isThere ⟨rfl, rfl, by decide, by decide⟩ rfl hl.1 rfl (Nat.le_of_ble_eq_true rfl) ⟨Nat.zero_le _, Nat.zero_le _⟩ dX2_sit_21 (fun H locs Y => ?_)
      refine lv_if_eq (tgt := 49) hx hb dX2_sit_24 (by decide) (fun c_9 => ?_) (fun c_9 => ?_)
      · rw [if_pos c_9] at hf
        refine lv_bipush (v := (-4 : Int32)) hx hb dX2_sit_49 (by decide) ?_
        cases hf
        exact m_iret X Y dX2_sit_51
      · rw [if_neg c_9] at hf
        refine lv_aload_n hx hb dX2_sit_27 rfl (lv_at hl 0 rfl) ?_
        refine mg (v := .ref (ad 8)) X Y 8 (by decide) q1113 rfl rfl dX2_sit_28 ?_
        refine lv_bipush (v := (14 : Int32)) hx hb dX2_sit_31 (by decide) ?_
        refine lv_iload_n hx hb dX2_sit_33 rfl (lv_at hl 1 rfl) ?_
        refine lv_iadd hx hb dX2_sit_34 ?_
        obtain ⟨b_10, hf⟩ := gd_s hf
        obtain ⟨v_11, ev_11, hf⟩ := nm_s hf
        refine ml (n := 20) X Y 8 4 rfl b_10 ev_11 dX2_sit_35 ?_
        refine lv_iconst (v := (-1 : Int32)) hx hb dX2_sit_36 (by decide) ?_
        refine lv_icmp_ne (tgt := 49) hx hb dX2_sit_37 (by decide) (fun c_12 => ?_) (fun c_12 => ?_)
        · rw [if_neg c_12] at hf
          refine lv_bipush (v := (-4 : Int32)) hx hb dX2_sit_49 (by decide) ?_
          cases hf
          exact m_iret X Y dX2_sit_51
        · rw [if_pos c_12] at hf
          refine lv_aload_n hx hb dX2_sit_40 rfl (lv_at hl 0 rfl) ?_
          refine lv_iload_n hx hb dX2_sit_41 rfl (lv_at hl 2 rfl) ?_
          obtain ⟨r_13, hq_14, hf⟩ := bd1_s hf
          refine mcI (av := [.int a2]) (rest := []) 1 X Y (tX2_sitter l N G a2 r_13 hq_14) (lw_V q1310 q1312 qs46 q70 q1313) ydX2_sitter ⟨rfl, rfl, by decide, by decide⟩ rfl hl.1 rfl (Nat.le_of_ble_eq_true rfl) ⟨Nat.zero_le _, Nat.zero_le _⟩ dX2_sit_42 (fun H locs Y => ?_)
          refine lv_iconst (v := (-1 : Int32)) hx hb dX2_sit_45 (by decide) ?_
          refine lv_icmp_eq (tgt := 52) hx hb dX2_sit_46 (by decide) (fun c_15 => ?_) (fun c_15 => ?_)
          · rw [if_pos c_15] at hf
            refine lv_aload_n hx hb dX2_sit_52 rfl (lv_at hl 0 rfl) ?_
            obtain ⟨G_16, hq_17, hf⟩ := bd1_s hf
            refine mcV (av := []) (rest := []) 0 X Y (tX2_remembers l N G G_16 hq_17) (lw_V q1353 q1355 qs52 q70 q1356) ydX2_remembers ⟨rfl, rfl, by decide, by decide⟩ rfl hl.1 rfl (Nat.le_of_ble_eq_true rfl) ⟨Nat.zero_le _, Nat.zero_le _⟩ dX2_sit_53 (fun H locs Y => ?_)
            refine lv_aload_n hx hb dX2_sit_56 rfl (lv_at hl 0 rfl) ?_
            refine mg (v := .ref (ad 8)) X Y 8 (by decide) q1113 rfl rfl dX2_sit_57 ?_
            refine lv_bipush (v := (14 : Int32)) hx hb dX2_sit_60 (by decide) ?_
            refine lv_iload_n hx hb dX2_sit_62 rfl (lv_at hl 1 rfl) ?_
            refine lv_iadd hx hb dX2_sit_63 ?_
            refine lv_iload_n hx hb dX2_sit_64 rfl (lv_at hl 2 rfl) ?_
            obtain ⟨b_18, hf⟩ := gd_s hf
            obtain ⟨G_19, eG_19, hf⟩ := nm_s hf
            refine ms (n := 20) X Y 8 4 rfl mz8 b_18 eG_19 dX2_sit_65 (fun H locs Y => ?_)
            refine lv_aload_n hx hb dX2_sit_66 rfl (lv_at hl 0 rfl) ?_
            obtain ⟨r_20, hq_21, hf⟩ := bd1_s hf
            refine mcI (av := []) (rest := []) 0 X Y (tX2_sitting l N G_19 r_20 hq_21) (lw_V q1357 q1359 qs53 q70 q1360) ydX2_sitting ⟨rfl, rfl, by decide, by decide⟩ rfl hl.1 rfl (Nat.le_of_ble_eq_true rfl) ⟨Nat.zero_le _, Nat.zero_le _⟩ dX2_sit_67 (fun H locs Y => ?_)
            obtain ⟨r_22, hq_23, hf⟩ := bd1_s hf
            refine w_callSI (av := [.int r_20]) (rest := []) 1 X Y (tX2_bits l N r_20 r_22 hq_23) (lw_S q1361 q1362 q70 q1363) ydX2_bits ⟨rfl, rfl, by decide, by decide⟩ rfl hl.1 rfl (Nat.le_of_ble_eq_true rfl) ⟨Nat.zero_le _, Nat.zero_le _⟩ dX2_sit_70 (fun H locs Y => ?_)
            cases hf
            exact m_iret X Y dX2_sit_73
          · rw [if_neg c_15] at hf
            refine lv_bipush (v := (-4 : Int32)) hx hb dX2_sit_49 (by decide) ?_
            cases hf
            exact m_iret X Y dX2_sit_51
    · rw [if_pos c_6] at hf
      refine lv_bipush (v := (-2 : Int32)) hx hb dX2_sit_16 (by decide) ?_
      cases hf
      exact m_iret X Y dX2_sit_18

def fX2_allRise_L2 (N : Nat) : Nat → Int32 → GS → Option GS
  | 0, _, _ => none
  | n_ + 1, x1_1, G_2 =>
    if (6 : Int32) ≤ x1_1 then (
     some G_2
    ) else (
     gd (inb ((14 : Int32) + x1_1) 20) <|
     nm (gu G_2 8 (((14 : Int32) + x1_1)).toNatClampNeg (-1 : Int32) : GS) fun G_5 =>
     nm ((x1_1 + (1 : Int32)) : Int32) fun x1_6 =>
     fX2_allRise_L2 N n_ x1_6 G_5
    )
def fX2_allRise (N : Nat) (G : GS) : Option GS :=
  bd1 (fX2_allRise_L2 N N (0 : Int32) G) fun G_7 =>
  some G_7
theorem ydX2_allRise : yX2_allRise.cls = RX2 ∧ yX2_allRise.cls ≠ "java/lang/invoke/MethodHandle" ∧ yX2_allRise.cls ≠ "java/lang/invoke/VarHandle" ∧ (parseMethodDescriptor yX2_allRise.desc).map (fun d => d.parameters.length) = some 0 := by decide +kernel
set_option maxHeartbeats 4000000 in
theorem tX2_allRise (l : Launch) (N : Nat) (G : GS) (G' : GS) (hf : fX2_allRise N G = some G') : mMet l yX2_allRise cX2_allRise 2 none (mR 0) [] G (none) G' := by
  unfold fX2_allRise at hf
  refine mMet_of (by decide +kernel) rfl (Nat.le_of_ble_eq_true rfl) (fun {p e s m args below meth c ls D cA h ad A} X Y hl => ?_)
  have hx := X.1.1
  have hb := X.1.2.1
  have hl : lv_has ls 2 [(0, .ref h)] := hl
  refine lv_iconst (v := (0 : Int32)) hx hb dX2_allRise_0 (by decide) ?_
  refine lv_istore_n (lv' := [(1, .int (0 : Int32)), (0, .ref h)]) hx hb dX2_allRise_1 rfl hl (by decide) rfl (fun ls hl => ?_)
  obtain ⟨G_7, hL, hf⟩ := bd1_s hf
  have E2_8 : ∀ (H : Heap) (locs : List Loc), WX D A s (mW h ad cA G_7) H locs → ∀ ls : Array Slot, lv_has ls 2 [] → W p l e (mR 0) s m args below meth c H locs 0 0 (MQ below (mQ D cA h ad A (none) G') args s 0 0 A) (F0 m 24 ls []) := by
    clear hL
    intro H locs Y ls hl
    cases hf
    exact m_vret X Y dX2_allRise_24
  clear hf
  have L2_8 : ∀ (n_ : Nat) (x1_1 : Int32) (G_2 : GS), fX2_allRise_L2 N n_ x1_1 G_2 = some G_7 → ∀ (H : Heap) (locs : List Loc), WX D A s (mW h ad cA G_2) H locs → ∀ ls : Array Slot, lv_has ls 2 [(0, .ref h), (1, .int x1_1)] → W p l e (mR 0) s m args below meth c H locs 0 0 (MQ below (mQ D cA h ad A (none) G') args s 0 0 A) (F0 m 2 ls []) := by
    clear hL
    intro n_
    induction n_ with
    | zero =>
      intro x1_1 G_2 hf
      rw [fX2_allRise_L2.eq_1] at hf
      cases hf
    | succ n_ ih =>
      intro x1_1 G_2 hf
      intro H locs Y ls hl
      rw [fX2_allRise_L2.eq_2] at hf
      refine lv_iload_n hx hb dX2_allRise_2 rfl (lv_at hl 1 rfl) ?_
      refine lv_bipush (v := (6 : Int32)) hx hb dX2_allRise_3 (by decide) ?_
      refine lv_icmp_ge (tgt := 24) hx hb dX2_allRise_5 (by decide) (fun c_3 => ?_) (fun c_3 => ?_)
      · rw [if_pos c_3] at hf
        cases hf
        exact E2_8 _ _ Y _ (lv_sub hl [] rfl)
      · rw [if_neg c_3] at hf
        refine lv_aload_n hx hb dX2_allRise_8 rfl (lv_at hl 0 rfl) ?_
        refine mg (v := .ref (ad 8)) X Y 8 (by decide) q1113 rfl rfl dX2_allRise_9 ?_
        refine lv_bipush (v := (14 : Int32)) hx hb dX2_allRise_12 (by decide) ?_
        refine lv_iload_n hx hb dX2_allRise_14 rfl (lv_at hl 1 rfl) ?_
        refine lv_iadd hx hb dX2_allRise_15 ?_
        refine lv_iconst (v := (-1 : Int32)) hx hb dX2_allRise_16 (by decide) ?_
        obtain ⟨b_4, hf⟩ := gd_s hf
        obtain ⟨G_5, eG_5, hf⟩ := nm_s hf
        refine ms (n := 20) X Y 8 4 rfl mz8 b_4 eG_5 dX2_allRise_17 (fun H locs Y => ?_)
        obtain ⟨x1_6, ex1_6, hf⟩ := nm_s hf
        refine lv_iinc (v := x1_6) (lv' := [(1, .int x1_6), (0, .ref h)]) hx hb dX2_allRise_18 hl (k := 1) rfl (by rw [ex1_6]; rfl) (by decide) rfl (fun ls hl => ?_)
        refine lv_goto (tgt := 2) hx hb dX2_allRise_21 (by decide) ?_
        exact ih _ _ hf _ _ Y _ (lv_sub hl [1, 0] rfl)
  exact L2_8 N _ _ hL _ _ Y _ (lv_sub hl [1, 0] rfl)

def fX2_rise (N : Nat) (G : GS) : Option (Int32 × GS) :=
  bd1 (fX2_remembers N G) fun G_1 =>
  bd1 (fX2_sitting N G_1) fun r_3 =>
  bd1 (fX2_bits N r_3) fun r_5 =>
  bd1 (fX2_allRise N G_1) fun G_7 =>
  some (r_5, G_7)
theorem ydX2_rise : yX2_rise.cls = RX2 ∧ yX2_rise.cls ≠ "java/lang/invoke/MethodHandle" ∧ yX2_rise.cls ≠ "java/lang/invoke/VarHandle" ∧ (parseMethodDescriptor yX2_rise.desc).map (fun d => d.parameters.length) = some 0 := by decide +kernel
set_option maxHeartbeats 4000000 in
theorem tX2_rise (l : Launch) (N : Nat) (G : GS) (r : Int32) (G' : GS) (hf : fX2_rise N G = some (r, G')) : mMet l yX2_rise cX2_rise 2 (some .int) (mR 1) [] G (some (.int r)) G' := by
  unfold fX2_rise at hf
  refine mMet_of (by decide +kernel) rfl (Nat.le_of_ble_eq_true rfl) (fun {p e s m args below meth c ls D cA h ad A} X Y hl => ?_)
  have hx := X.1.1
  have hb := X.1.2.1
  have hl : lv_has ls 2 [(0, .ref h)] := hl
  refine lv_aload_n hx hb dX2_rise_0 rfl (lv_at hl 0 rfl) ?_
  obtain ⟨G_1, hq_2, hf⟩ := bd1_s hf
  refine mcV (av := []) (rest := []) 0 X Y (tX2_remembers l N G G_1 hq_2) (lw_V q1353 q1355 qs52 q70 q1356) ydX2_remembers ⟨rfl, rfl, by decide, by decide⟩ rfl hl.1 rfl (Nat.le_of_ble_eq_true rfl) ⟨Nat.zero_le _, Nat.zero_le _⟩ dX2_rise_1 (fun H locs Y => ?_)
  refine lv_aload_n hx hb dX2_rise_4 rfl (lv_at hl 0 rfl) ?_
  obtain ⟨r_3, hq_4, hf⟩ := bd1_s hf
  refine mcI (av := []) (rest := []) 0 X Y (tX2_sitting l N G_1 r_3 hq_4) (lw_V q1357 q1359 qs53 q70 q1360) ydX2_sitting ⟨rfl, rfl, by decide, by decide⟩ rfl hl.1 rfl (Nat.le_of_ble_eq_true rfl) ⟨Nat.zero_le _, Nat.zero_le _⟩ dX2_rise_5 (fun H locs Y => ?_)
  obtain ⟨r_5, hq_6, hf⟩ := bd1_s hf
  refine w_callSI (av := [.int r_3]) (rest := []) 1 X Y (tX2_bits l N r_3 r_5 hq_6) (lw_S q1361 q1362 q70 q1363) ydX2_bits ⟨rfl, rfl, by decide, by decide⟩ rfl hl.1 rfl (Nat.le_of_ble_eq_true rfl) ⟨Nat.zero_le _, Nat.zero_le _⟩ dX2_rise_8 (fun H locs Y => ?_)
  refine lv_istore_n (lv' := [(1, .int r_5), (0, .ref h)]) hx hb dX2_rise_11 rfl hl (by decide) rfl (fun ls hl => ?_)
  refine lv_aload_n hx hb dX2_rise_12 rfl (lv_at hl 1 rfl) ?_
  obtain ⟨G_7, hq_8, hf⟩ := bd1_s hf
  refine mcV (av := []) (rest := []) 0 X Y (tX2_allRise l N G_1 G_7 hq_8) (lw_V q1368 q1370 qs54 q70 q1371) ydX2_allRise ⟨rfl, rfl, by decide, by decide⟩ rfl hl.1 rfl (Nat.le_of_ble_eq_true rfl) ⟨Nat.zero_le _, Nat.zero_le _⟩ dX2_rise_13 (fun H locs Y => ?_)
  refine lv_iload_n hx hb dX2_rise_16 rfl (lv_at hl 0 rfl) ?_
  cases hf
  exact m_iret X Y dX2_rise_17

def fX2_tell (N : Nat) (G : GS) (a1 : Int32) (a2 : Int32) : Option (Int32 × GS) :=
  bd1 (fX2_isKnight N G a1) fun r_1 =>
  if r_1 = (0 : Int32) then (
   some ((-2 : Int32), G)
  ) else (
   bd1 (fX2_in N a2 (0 : Int32) (3 : Int32)) fun r_4 =>
   if r_4 = (0 : Int32) then (
    some ((-3 : Int32), G)
   ) else (
    bd1 (fX2_isThere N G a1) fun r_7 =>
    if r_7 = (0 : Int32) then (
     some ((-4 : Int32), G)
    ) else (
     bd1 (fX2_remembers N G) fun G_10 =>
     gd (inb ((8 : Int32) + a1) 20) <|
     nm (G_10 8 (((8 : Int32) + a1)).toNatClampNeg : Int32) fun v_13 =>
     gd (inb ((8 : Int32) + a1) 20) <|
     nm (gu G_10 8 (((8 : Int32) + a1)).toNatClampNeg (v_13 ||| ((1 : Int32) <<< (a2 &&& 31))) : GS) fun G_15 =>
     gd (inb ((8 : Int32) + a1) 20) <|
     nm (G_15 8 (((8 : Int32) + a1)).toNatClampNeg : Int32) fun v_17 =>
     some (v_17, G_15)
    )
   )
  )
theorem ydX2_tell : yX2_tell.cls = RX2 ∧ yX2_tell.cls ≠ "java/lang/invoke/MethodHandle" ∧ yX2_tell.cls ≠ "java/lang/invoke/VarHandle" ∧ (parseMethodDescriptor yX2_tell.desc).map (fun d => d.parameters.length) = some 2 := by decide +kernel
set_option maxHeartbeats 4000000 in
theorem tX2_tell (l : Launch) (N : Nat) (G : GS) (a1 : Int32) (a2 : Int32) (r : Int32) (G' : GS) (hf : fX2_tell N G a1 a2 = some (r, G')) : mMet l yX2_tell cX2_tell 3 (some .int) (mR 3) [.int a1, .int a2] G (some (.int r)) G' := by
  unfold fX2_tell at hf
  refine mMet_of (by decide +kernel) rfl (Nat.le_of_ble_eq_true rfl) (fun {p e s m args below meth c ls D cA h ad A} X Y hl => ?_)
  have hx := X.1.1
  have hb := X.1.2.1
  have hl : lv_has ls 3 [(0, .ref h), (1, .int a1), (2, .int a2)] := hl
  refine lv_aload_n hx hb dX2_tell_0 rfl (lv_at hl 0 rfl) ?_
  refine lv_iload_n hx hb dX2_tell_1 rfl (lv_at hl 1 rfl) ?_
  obtain ⟨r_1, hq_2, hf⟩ := bd1_s hf
  refine mcI (av := [.int a1]) (rest := []) 1 X Y (tX2_isKnight l N G a1 r_1 hq_2) (lw_V q1322 q1324 qs48 q70 q1325) ydX2_isKnight ⟨rfl, rfl, by decide, by decide⟩ rfl hl.1 rfl (Nat.le_of_ble_eq_true rfl) ⟨Nat.zero_le _, Nat.zero_le _⟩ dX2_tell_2 (fun H locs Y => ?_)
  refine lv_if_ne (tgt := 11) hx hb dX2_tell_5 (by decide) (fun c_3 => ?_) (fun c_3 => ?_)
  · rw [if_neg c_3] at hf
    refine lv_iload_n hx hb dX2_tell_11 rfl (lv_at hl 2 rfl) ?_
    refine lv_iconst (v := (0 : Int32)) hx hb dX2_tell_12 (by decide) ?_
    refine lv_iconst (v := (3 : Int32)) hx hb dX2_tell_13 (by decide) ?_
    obtain ⟨r_4, hq_5, hf⟩ := bd1_s hf
    refine w_callSI (av := [.int a2, .int (0 : Int32), .int (3 : Int32)]) (rest := []) 3 X Y (tX2_in l N a2 (0 : Int32) (3 : Int32) r_4 hq_5) (lw_S q1225 q1226 q70 q1227) ydX2_in ⟨rfl, rfl, by decide, by decide⟩ rfl hl.1 rfl (Nat.le_of_ble_eq_true rfl) ⟨Nat.zero_le _, Nat.zero_le _⟩ dX2_tell_14 (fun H locs Y => ?_)
    refine lv_if_ne (tgt := 23) hx hb dX2_tell_17 (by decide) (fun c_6 => ?_) (fun c_6 => ?_)
    · rw [if_neg c_6] at hf
      refine lv_aload_n hx hb dX2_tell_23 rfl (lv_at hl 0 rfl) ?_
      refine lv_iload_n hx hb dX2_tell_24 rfl (lv_at hl 1 rfl) ?_
      obtain ⟨r_7, hq_8, hf⟩ := bd1_s hf
      refine mcI (av := [.int a1]) (rest := []) 1 X Y (tX2_isThere l N G a1 r_7 hq_8) (lw_V q1345 q1347 qs51 q70 q1348) ydX2_isThere ⟨rfl, rfl, by decide, by decide⟩ rfl hl.1 rfl (Nat.le_of_ble_eq_true rfl) ⟨Nat.zero_le _, Nat.zero_le _⟩ dX2_tell_25 (fun H locs Y => ?_)
      refine lv_if_ne (tgt := 34) hx hb dX2_tell_28 (by decide) (fun c_9 => ?_) (fun c_9 => ?_)
      · rw [if_neg c_9] at hf
        refine lv_aload_n hx hb dX2_tell_34 rfl (lv_at hl 0 rfl) ?_
        obtain ⟨G_10, hq_11, hf⟩ := bd1_s hf
        refine mcV (av := []) (rest := []) 0 X Y (tX2_remembers l N G G_10 hq_11) (lw_V q1353 q1355 qs52 q70 q1356) ydX2_remembers ⟨rfl, rfl, by decide, by decide⟩ rfl hl.1 rfl (Nat.le_of_ble_eq_true rfl) ⟨Nat.zero_le _, Nat.zero_le _⟩ dX2_tell_35 (fun H locs Y => ?_)
        refine lv_aload_n hx hb dX2_tell_38 rfl (lv_at hl 0 rfl) ?_
        refine mg (v := .ref (ad 8)) X Y 8 (by decide) q1113 rfl rfl dX2_tell_39 ?_
        refine lv_bipush (v := (8 : Int32)) hx hb dX2_tell_42 (by decide) ?_
        refine lv_iload_n hx hb dX2_tell_44 rfl (lv_at hl 1 rfl) ?_
        refine lv_iadd hx hb dX2_tell_45 ?_
        refine lv_dup2_11 hx hb dX2_tell_46 rfl rfl ?_
        obtain ⟨b_12, hf⟩ := gd_s hf
        obtain ⟨v_13, ev_13, hf⟩ := nm_s hf
        refine ml (n := 20) X Y 8 4 rfl b_12 ev_13 dX2_tell_47 ?_
        refine lv_iconst (v := (1 : Int32)) hx hb dX2_tell_48 (by decide) ?_
        refine lv_iload_n hx hb dX2_tell_49 rfl (lv_at hl 2 rfl) ?_
        refine lv_ishl hx hb dX2_tell_50 ?_
        refine lv_ior hx hb dX2_tell_51 ?_
        obtain ⟨b_14, hf⟩ := gd_s hf
        obtain ⟨G_15, eG_15, hf⟩ := nm_s hf
        refine ms (n := 20) X Y 8 4 rfl mz8 b_14 eG_15 dX2_tell_52 (fun H locs Y => ?_)
        refine lv_aload_n hx hb dX2_tell_53 rfl (lv_at hl 0 rfl) ?_
        refine mg (v := .ref (ad 8)) X Y 8 (by decide) q1113 rfl rfl dX2_tell_54 ?_
        refine lv_bipush (v := (8 : Int32)) hx hb dX2_tell_57 (by decide) ?_
        refine lv_iload_n hx hb dX2_tell_59 rfl (lv_at hl 1 rfl) ?_
        refine lv_iadd hx hb dX2_tell_60 ?_
        obtain ⟨b_16, hf⟩ := gd_s hf
        obtain ⟨v_17, ev_17, hf⟩ := nm_s hf
        refine ml (n := 20) X Y 8 4 rfl b_16 ev_17 dX2_tell_61 ?_
        cases hf
        exact m_iret X Y dX2_tell_62
      · rw [if_pos c_9] at hf
        refine lv_bipush (v := (-4 : Int32)) hx hb dX2_tell_31 (by decide) ?_
        cases hf
        exact m_iret X Y dX2_tell_33
    · rw [if_pos c_6] at hf
      refine lv_bipush (v := (-3 : Int32)) hx hb dX2_tell_20 (by decide) ?_
      cases hf
      exact m_iret X Y dX2_tell_22
  · rw [if_pos c_3] at hf
    refine lv_bipush (v := (-2 : Int32)) hx hb dX2_tell_8 (by decide) ?_
    cases hf
    exact m_iret X Y dX2_tell_10

def fX2_isWrong (N : Nat) (G : GS) (a1 : Int32) (a2 : Int32) : Option Int32 :=
  bd1 (fX2_fits N G a1 a2) fun r_1 =>
  if r_1 = (0 : Int32) then (
   some (1 : Int32)
  ) else (
   bd1 (fX2_perilOn N G) fun r_4 =>
   if a2 = r_4 then (
    if a1 = (G 0 7) then (
     some (0 : Int32)
    ) else (
     gd (inb ((3 : Int32) * a1) 18) <|
     nm (G 3 (((3 : Int32) * a1)).toNatClampNeg : Int32) fun v_9 =>
     if v_9 = (1 : Int32) then (
      some (0 : Int32)
     ) else (
      some (1 : Int32)
     )
    )
   ) else (
    some (0 : Int32)
   )
  )
theorem ydX2_isWrong : yX2_isWrong.cls = RX2 ∧ yX2_isWrong.cls ≠ "java/lang/invoke/MethodHandle" ∧ yX2_isWrong.cls ≠ "java/lang/invoke/VarHandle" ∧ (parseMethodDescriptor yX2_isWrong.desc).map (fun d => d.parameters.length) = some 2 := by decide +kernel
set_option maxHeartbeats 4000000 in
theorem tX2_isWrong (l : Launch) (N : Nat) (G : GS) (a1 : Int32) (a2 : Int32) (r : Int32) (hf : fX2_isWrong N G a1 a2 = some r) : mMet l yX2_isWrong cX2_isWrong 3 (some .boolean) (mR 2) [.int a1, .int a2] G (some (.int r)) G := by
  unfold fX2_isWrong at hf
  refine mMet_of (by decide +kernel) rfl (Nat.le_of_ble_eq_true rfl) (fun {p e s m args below meth c ls D cA h ad A} X Y hl => ?_)
  have hx := X.1.1
  have hb := X.1.2.1
  have hl : lv_has ls 3 [(0, .ref h), (1, .int a1), (2, .int a2)] := hl
  refine lv_aload_n hx hb dX2_isWrong_0 rfl (lv_at hl 0 rfl) ?_
  refine lv_iload_n hx hb dX2_isWrong_1 rfl (lv_at hl 1 rfl) ?_
  refine lv_iload_n hx hb dX2_isWrong_2 rfl (lv_at hl 2 rfl) ?_
  obtain ⟨r_1, hq_2, hf⟩ := bd1_s hf
  refine mcI (av := [.int a1, .int a2]) (rest := []) 2 X Y (tX2_fits l N G a1 a2 r_1 hq_2) (lw_V q1333 q1335 qs49 q70 q1336) ydX2_fits ⟨rfl, rfl, by decide, by decide⟩ rfl hl.1 rfl (Nat.le_of_ble_eq_true rfl) ⟨Nat.zero_le _, Nat.zero_le _⟩ dX2_isWrong_3 (fun H locs Y => ?_)
  refine lv_if_eq (tgt := 37) hx hb dX2_isWrong_6 (by decide) (fun c_3 => ?_) (fun c_3 => ?_)
  · rw [if_pos c_3] at hf
    refine lv_iconst (v := (1 : Int32)) hx hb dX2_isWrong_37 (by decide) ?_
    refine lv_goto (tgt := 42) hx hb dX2_isWrong_38 (by decide) ?_
    cases hf
    exact m_zret X Y (by decide) dX2_isWrong_42
  · rw [if_neg c_3] at hf
    refine lv_iload_n hx hb dX2_isWrong_9 rfl (lv_at hl 2 rfl) ?_
    refine lv_aload_n hx hb dX2_isWrong_10 rfl (lv_at hl 0 rfl) ?_
    obtain ⟨r_4, hq_5, hf⟩ := bd1_s hf
    refine mcI (av := []) (rest := [.int a2]) 0 X Y (tX2_perilOn l N G r_4 hq_5) (lw_V q1314 q1316 qs47 q70 q1317) ydX2_perilOn ⟨rfl, rfl, by decide, by decide⟩ rfl hl.1 rfl (Nat.le_of_ble_eq_true rfl) ⟨Nat.zero_le _, Nat.zero_le _⟩ dX2_isWrong_11 (fun H locs Y => ?_)
    refine lv_icmp_ne (tgt := 41) hx hb dX2_isWrong_14 (by decide) (fun c_6 => ?_) (fun c_6 => ?_)
    · rw [if_neg c_6] at hf
      refine lv_iconst (v := (0 : Int32)) hx hb dX2_isWrong_41 (by decide) ?_
      cases hf
      exact m_zret X Y (by decide) dX2_isWrong_42
    · rw [if_pos c_6] at hf
      refine lv_iload_n hx hb dX2_isWrong_17 rfl (lv_at hl 1 rfl) ?_
      refine lv_aload_n hx hb dX2_isWrong_18 rfl (lv_at hl 0 rfl) ?_
      refine mg (v := .int (G 0 7)) X Y 7 (by decide) q1112 rfl rfl dX2_isWrong_19 ?_
      refine lv_icmp_eq (tgt := 41) hx hb dX2_isWrong_22 (by decide) (fun c_7 => ?_) (fun c_7 => ?_)
      · rw [if_pos c_7] at hf
        refine lv_iconst (v := (0 : Int32)) hx hb dX2_isWrong_41 (by decide) ?_
        cases hf
        exact m_zret X Y (by decide) dX2_isWrong_42
      · rw [if_neg c_7] at hf
        refine lv_aload_n hx hb dX2_isWrong_25 rfl (lv_at hl 0 rfl) ?_
        refine mg (v := .ref (ad 3)) X Y 3 (by decide) q1108 rfl rfl dX2_isWrong_26 ?_
        refine lv_iconst (v := (3 : Int32)) hx hb dX2_isWrong_29 (by decide) ?_
        refine lv_iload_n hx hb dX2_isWrong_30 rfl (lv_at hl 1 rfl) ?_
        refine lv_imul hx hb dX2_isWrong_31 ?_
        obtain ⟨b_8, hf⟩ := gd_s hf
        obtain ⟨v_9, ev_9, hf⟩ := nm_s hf
        refine ml (n := 18) X Y 3 2 rfl b_8 ev_9 dX2_isWrong_32 ?_
        refine lv_iconst (v := (1 : Int32)) hx hb dX2_isWrong_33 (by decide) ?_
        refine lv_icmp_eq (tgt := 41) hx hb dX2_isWrong_34 (by decide) (fun c_10 => ?_) (fun c_10 => ?_)
        · rw [if_pos c_10] at hf
          refine lv_iconst (v := (0 : Int32)) hx hb dX2_isWrong_41 (by decide) ?_
          cases hf
          exact m_zret X Y (by decide) dX2_isWrong_42
        · rw [if_neg c_10] at hf
          refine lv_iconst (v := (1 : Int32)) hx hb dX2_isWrong_37 (by decide) ?_
          refine lv_goto (tgt := 42) hx hb dX2_isWrong_38 (by decide) ?_
          cases hf
          exact m_zret X Y (by decide) dX2_isWrong_42

def fX2_wrongs_L4 (N : Nat) (G : GS) : Nat → Int32 → Int32 → Option Int32
  | 0, _, _ => none
  | n_ + 1, x1_1, x2_2 =>
    if (G 0 2) ≤ x2_2 then (
     some x1_1
    ) else (
     gd (inb ((14 : Int32) + x2_2) 20) <|
     nm (G 8 (((14 : Int32) + x2_2)).toNatClampNeg : Int32) fun v_5 =>
     bd1 (
      if v_5 = (-1 : Int32) then (
       some (0 : Int32)
      ) else (
       gd (inb ((14 : Int32) + x2_2) 20) <|
       nm (G 8 (((14 : Int32) + x2_2)).toNatClampNeg : Int32) fun v_8 =>
       bd1 (fX2_isWrong N G x2_2 v_8) fun r_9 =>
       if r_9 = (0 : Int32) then (
        some (0 : Int32)
       ) else (
        some ((1 : Int32) <<< (x2_2 &&& 31))
       )
      )
     ) fun j_12 =>
     nm ((x1_1 ||| j_12) : Int32) fun x1_13 =>
     nm ((x2_2 + (1 : Int32)) : Int32) fun x2_14 =>
     fX2_wrongs_L4 N G n_ x1_13 x2_14
    )
def fX2_wrongs (N : Nat) (G : GS) : Option Int32 :=
  bd1 (fX2_wrongs_L4 N G N (0 : Int32) (0 : Int32)) fun x1_15 =>
  some x1_15
theorem ydX2_wrongs : yX2_wrongs.cls = RX2 ∧ yX2_wrongs.cls ≠ "java/lang/invoke/MethodHandle" ∧ yX2_wrongs.cls ≠ "java/lang/invoke/VarHandle" ∧ (parseMethodDescriptor yX2_wrongs.desc).map (fun d => d.parameters.length) = some 0 := by decide +kernel
set_option maxHeartbeats 4000000 in
theorem tX2_wrongs (l : Launch) (N : Nat) (G : GS) (r : Int32) (hf : fX2_wrongs N G = some r) : mMet l yX2_wrongs cX2_wrongs 3 (some .int) (mR 3) [] G (some (.int r)) G := by
  unfold fX2_wrongs at hf
  refine mMet_of (by decide +kernel) rfl (Nat.le_of_ble_eq_true rfl) (fun {p e s m args below meth c ls D cA h ad A} X Y hl => ?_)
  have hx := X.1.1
  have hb := X.1.2.1
  have hl : lv_has ls 3 [(0, .ref h)] := hl
  refine lv_iconst (v := (0 : Int32)) hx hb dX2_wrongs_0 (by decide) ?_
  refine lv_istore_n (lv' := [(1, .int (0 : Int32)), (0, .ref h)]) hx hb dX2_wrongs_1 rfl hl (by decide) rfl (fun ls hl => ?_)
  refine lv_iconst (v := (0 : Int32)) hx hb dX2_wrongs_2 (by decide) ?_
  refine lv_istore_n (lv' := [(2, .int (0 : Int32)), (1, .int (0 : Int32)), (0, .ref h)]) hx hb dX2_wrongs_3 rfl hl (by decide) rfl (fun ls hl => ?_)
  obtain ⟨x1_15, hL, hf⟩ := bd1_s hf
  have E4_16 : ∀ (H : Heap) (locs : List Loc), WX D A s (mW h ad cA G) H locs → ∀ ls : Array Slot, lv_has ls 3 [(1, .int x1_15)] → W p l e (mR 3) s m args below meth c H locs 0 0 (MQ below (mQ D cA h ad A (some (.int r)) G) args s 0 0 A) (F0 m 58 ls []) := by
    clear hL
    intro H locs Y ls hl
    refine lv_iload_n hx hb dX2_wrongs_58 rfl (lv_at hl 0 rfl) ?_
    cases hf
    exact m_iret X Y dX2_wrongs_59
  clear hf
  have L4_16 : ∀ (n_ : Nat) (x1_1 : Int32) (x2_2 : Int32), fX2_wrongs_L4 N G n_ x1_1 x2_2 = some x1_15 → ∀ (H : Heap) (locs : List Loc), WX D A s (mW h ad cA G) H locs → ∀ ls : Array Slot, lv_has ls 3 [(0, .ref h), (1, .int x1_1), (2, .int x2_2)] → W p l e (mR 3) s m args below meth c H locs 0 0 (MQ below (mQ D cA h ad A (some (.int r)) G) args s 0 0 A) (F0 m 4 ls []) := by
    clear hL
    intro n_
    induction n_ with
    | zero =>
      intro x1_1 x2_2 hf
      rw [fX2_wrongs_L4.eq_1] at hf
      cases hf
    | succ n_ ih =>
      intro x1_1 x2_2 hf
      intro H locs Y ls hl
      rw [fX2_wrongs_L4.eq_2] at hf
      refine lv_iload_n hx hb dX2_wrongs_4 rfl (lv_at hl 2 rfl) ?_
      refine lv_aload_n hx hb dX2_wrongs_5 rfl (lv_at hl 0 rfl) ?_
      refine mg (v := .int (G 0 2)) X Y 2 (by decide) q1107 rfl rfl dX2_wrongs_6 ?_
      refine lv_icmp_ge (tgt := 58) hx hb dX2_wrongs_9 (by decide) (fun c_3 => ?_) (fun c_3 => ?_)
      · rw [if_pos c_3] at hf
        cases hf
        exact E4_16 _ _ Y _ (lv_sub hl [1] rfl)
      · rw [if_neg c_3] at hf
        refine lv_iload_n hx hb dX2_wrongs_12 rfl (lv_at hl 1 rfl) ?_
        refine lv_aload_n hx hb dX2_wrongs_13 rfl (lv_at hl 0 rfl) ?_
        refine mg (v := .ref (ad 8)) X Y 8 (by decide) q1113 rfl rfl dX2_wrongs_14 ?_
        refine lv_bipush (v := (14 : Int32)) hx hb dX2_wrongs_17 (by decide) ?_
        refine lv_iload_n hx hb dX2_wrongs_19 rfl (lv_at hl 2 rfl) ?_
        refine lv_iadd hx hb dX2_wrongs_20 ?_
        obtain ⟨b_4, hf⟩ := gd_s hf
        obtain ⟨v_5, ev_5, hf⟩ := nm_s hf
        refine ml (n := 20) X Y 8 4 rfl b_4 ev_5 dX2_wrongs_21 ?_
        refine lv_iconst (v := (-1 : Int32)) hx hb dX2_wrongs_22 (by decide) ?_
        obtain ⟨j_12, hj, hf⟩ := bd1_s hf
        have J50_17 : ∀ (H : Heap) (locs : List Loc), WX D A s (mW h ad cA G) H locs → ∀ ls : Array Slot, lv_has ls 3 [(0, .ref h), (2, .int x2_2)] → W p l e (mR 3) s m args below meth c H locs 0 0 (MQ below (mQ D cA h ad A (some (.int r)) G) args s 0 0 A) (F0 m 50 ls [.int j_12, .int x1_1]) := by
          clear hj
          intro H locs Y ls hl
          refine lv_ior hx hb dX2_wrongs_50 ?_
          obtain ⟨x1_13, ex1_13, hf⟩ := nm_s hf
          refine lv_topE ex1_13 ?_
          refine lv_istore_n (lv' := [(1, .int x1_13), (0, .ref h), (2, .int x2_2)]) hx hb dX2_wrongs_51 rfl hl (by decide) rfl (fun ls hl => ?_)
          obtain ⟨x2_14, ex2_14, hf⟩ := nm_s hf
          refine lv_iinc (v := x2_14) (lv' := [(2, .int x2_14), (1, .int x1_13), (0, .ref h)]) hx hb dX2_wrongs_52 hl (k := 2) rfl (by rw [ex2_14]; rfl) (by decide) rfl (fun ls hl => ?_)
          refine lv_goto (tgt := 4) hx hb dX2_wrongs_55 (by decide) ?_
          exact ih _ _ hf _ _ Y _ (lv_sub hl [2, 1, 0] rfl)
        replace hf := hj
        clear hj
        refine lv_icmp_eq (tgt := 49) hx hb dX2_wrongs_23 (by decide) (fun c_6 => ?_) (fun c_6 => ?_)
        · rw [if_pos c_6] at hf
          refine lv_iconst (v := (0 : Int32)) hx hb dX2_wrongs_49 (by decide) ?_
          cases hf
          exact J50_17 _ _ Y _ (lv_sub hl [0, 2] rfl)
        · rw [if_neg c_6] at hf
          refine lv_aload_n hx hb dX2_wrongs_26 rfl (lv_at hl 0 rfl) ?_
          refine lv_iload_n hx hb dX2_wrongs_27 rfl (lv_at hl 2 rfl) ?_
          refine lv_aload_n hx hb dX2_wrongs_28 rfl (lv_at hl 0 rfl) ?_
          refine mg (v := .ref (ad 8)) X Y 8 (by decide) q1113 rfl rfl dX2_wrongs_29 ?_
          refine lv_bipush (v := (14 : Int32)) hx hb dX2_wrongs_32 (by decide) ?_
          refine lv_iload_n hx hb dX2_wrongs_34 rfl (lv_at hl 2 rfl) ?_
          refine lv_iadd hx hb dX2_wrongs_35 ?_
          obtain ⟨b_7, hf⟩ := gd_s hf
          obtain ⟨v_8, ev_8, hf⟩ := nm_s hf
          refine ml (n := 20) X Y 8 4 rfl b_7 ev_8 dX2_wrongs_36 ?_
          obtain ⟨r_9, hq_10, hf⟩ := bd1_s hf
          refine mcI (av := [.int x2_2, .int v_8]) (rest := [.int x1_1]) 2 X Y (tX2_isWrong l N G x2_2 v_8 r_9 hq_10) (lw_V q1384 q1386 qs56 q70 q1387) ydX2_isWrong ⟨rfl, rfl, by decide, by decide⟩ rfl hl.1 rfl (Nat.le_of_ble_eq_true rfl) ⟨Nat.zero_le _, Nat.zero_le _⟩ dX2_wrongs_37 (fun H locs Y => ?_)
          refine lv_if_eq (tgt := 49) hx hb dX2_wrongs_40 (by decide) (fun c_11 => ?_) (fun c_11 => ?_)
          · rw [if_pos c_11] at hf
            refine lv_iconst (v := (0 : Int32)) hx hb dX2_wrongs_49 (by decide) ?_
            cases hf
            exact J50_17 _ _ Y _ (lv_sub hl [0, 2] rfl)
          · rw [if_neg c_11] at hf
            refine lv_iconst (v := (1 : Int32)) hx hb dX2_wrongs_43 (by decide) ?_
            refine lv_iload_n hx hb dX2_wrongs_44 rfl (lv_at hl 2 rfl) ?_
            refine lv_ishl hx hb dX2_wrongs_45 ?_
            refine lv_goto (tgt := 50) hx hb dX2_wrongs_46 (by decide) ?_
            cases hf
            exact J50_17 _ _ Y _ (lv_sub hl [0, 2] rfl)
  exact L4_16 N _ _ hL _ _ Y _ (lv_sub hl [2, 1, 0] rfl)

def fX2_beside (N : Nat) (G : GS) (a1 : Int32) (a2 : Int32) : Option Int32 :=
  gd (¬ (G 0 0) = (0 : Int32)) <|
  some (((a1 + a2) + (G 0 0)) - ((a1 + a2) + (G 0 0)) / (G 0 0) * (G 0 0))
theorem ydX2_beside : yX2_beside.cls = RX2 ∧ yX2_beside.cls ≠ "java/lang/invoke/MethodHandle" ∧ yX2_beside.cls ≠ "java/lang/invoke/VarHandle" ∧ (parseMethodDescriptor yX2_beside.desc).map (fun d => d.parameters.length) = some 2 := by decide +kernel
set_option maxHeartbeats 4000000 in
theorem tX2_beside (l : Launch) (N : Nat) (G : GS) (a1 : Int32) (a2 : Int32) (r : Int32) (hf : fX2_beside N G a1 a2 = some r) : mMet l yX2_beside cX2_beside 3 (some .int) (mR 0) [.int a1, .int a2] G (some (.int r)) G := by
  unfold fX2_beside at hf
  refine mMet_of (by decide +kernel) rfl (Nat.le_of_ble_eq_true rfl) (fun {p e s m args below meth c ls D cA h ad A} X Y hl => ?_)
  have hx := X.1.1
  have hb := X.1.2.1
  have hl : lv_has ls 3 [(0, .ref h), (1, .int a1), (2, .int a2)] := hl
  refine lv_iload_n hx hb dX2_beside_0 rfl (lv_at hl 1 rfl) ?_
  refine lv_iload_n hx hb dX2_beside_1 rfl (lv_at hl 2 rfl) ?_
  refine lv_iadd hx hb dX2_beside_2 ?_
  refine lv_aload_n hx hb dX2_beside_3 rfl (lv_at hl 0 rfl) ?_
  refine mg (v := .int (G 0 0)) X Y 0 (by decide) q1105 rfl rfl dX2_beside_4 ?_
  refine lv_iadd hx hb dX2_beside_7 ?_
  refine lv_aload_n hx hb dX2_beside_8 rfl (lv_at hl 0 rfl) ?_
  refine mg (v := .int (G 0 0)) X Y 0 (by decide) q1105 rfl rfl dX2_beside_9 ?_
  obtain ⟨b_1, hf⟩ := gd_s hf
  refine lv_irem hx hb dX2_beside_12 b_1 ?_
  cases hf
  exact m_iret X Y dX2_beside_13

def fX2_areEnemies (N : Nat) (G : GS) (a1 : Int32) (a2 : Int32) : Option Int32 :=
  if a2 = (-1 : Int32) then (
   some (0 : Int32)
  ) else (
   gd (inb a1 6) <|
   nm (G 4 (a1).toNatClampNeg : Int32) fun v_3 =>
   bd1 (fX2_has N v_3 a2) fun r_4 =>
   if r_4 = (0 : Int32) then (
    some (0 : Int32)
   ) else (
    some (1 : Int32)
   )
  )
theorem ydX2_areEnemies : yX2_areEnemies.cls = RX2 ∧ yX2_areEnemies.cls ≠ "java/lang/invoke/MethodHandle" ∧ yX2_areEnemies.cls ≠ "java/lang/invoke/VarHandle" ∧ (parseMethodDescriptor yX2_areEnemies.desc).map (fun d => d.parameters.length) = some 2 := by decide +kernel
set_option maxHeartbeats 4000000 in
theorem tX2_areEnemies (l : Launch) (N : Nat) (G : GS) (a1 : Int32) (a2 : Int32) (r : Int32) (hf : fX2_areEnemies N G a1 a2 = some r) : mMet l yX2_areEnemies cX2_areEnemies 3 (some .boolean) (mR 1) [.int a1, .int a2] G (some (.int r)) G := by
  unfold fX2_areEnemies at hf
  refine mMet_of (by decide +kernel) rfl (Nat.le_of_ble_eq_true rfl) (fun {p e s m args below meth c ls D cA h ad A} X Y hl => ?_)
  have hx := X.1.1
  have hb := X.1.2.1
  have hl : lv_has ls 3 [(0, .ref h), (1, .int a1), (2, .int a2)] := hl
  refine lv_iload_n hx hb dX2_areEnemies_0 rfl (lv_at hl 2 rfl) ?_
  refine lv_iconst (v := (-1 : Int32)) hx hb dX2_areEnemies_1 (by decide) ?_
  refine lv_icmp_eq (tgt := 22) hx hb dX2_areEnemies_2 (by decide) (fun c_1 => ?_) (fun c_1 => ?_)
  · rw [if_pos c_1] at hf
    refine lv_iconst (v := (0 : Int32)) hx hb dX2_areEnemies_22 (by decide) ?_
    cases hf
    exact m_zret X Y (by decide) dX2_areEnemies_23
  · rw [if_neg c_1] at hf
    refine lv_aload_n hx hb dX2_areEnemies_5 rfl (lv_at hl 0 rfl) ?_
    refine mg (v := .ref (ad 4)) X Y 4 (by decide) q1109 rfl rfl dX2_areEnemies_6 ?_
    refine lv_iload_n hx hb dX2_areEnemies_9 rfl (lv_at hl 1 rfl) ?_
    obtain ⟨b_2, hf⟩ := gd_s hf
    obtain ⟨v_3, ev_3, hf⟩ := nm_s hf
    refine ml (n := 6) X Y 4 3 rfl b_2 ev_3 dX2_areEnemies_10 ?_
    refine lv_iload_n hx hb dX2_areEnemies_11 rfl (lv_at hl 2 rfl) ?_
    obtain ⟨r_4, hq_5, hf⟩ := bd1_s hf
    refine w_callSI (av := [.int v_3, .int a2]) (rest := []) 2 X Y (tX2_has l N v_3 a2 r_4 hq_5) (lw_S q1326 q1327 q70 q1328) ydX2_has ⟨rfl, rfl, by decide, by decide⟩ rfl hl.1 rfl (Nat.le_of_ble_eq_true rfl) ⟨Nat.zero_le _, Nat.zero_le _⟩ dX2_areEnemies_12 (fun H locs Y => ?_)
    refine lv_if_eq (tgt := 22) hx hb dX2_areEnemies_15 (by decide) (fun c_6 => ?_) (fun c_6 => ?_)
    · rw [if_pos c_6] at hf
      refine lv_iconst (v := (0 : Int32)) hx hb dX2_areEnemies_22 (by decide) ?_
      cases hf
      exact m_zret X Y (by decide) dX2_areEnemies_23
    · rw [if_neg c_6] at hf
      refine lv_iconst (v := (1 : Int32)) hx hb dX2_areEnemies_18 (by decide) ?_
      refine lv_goto (tgt := 23) hx hb dX2_areEnemies_19 (by decide) ?_
      cases hf
      exact m_zret X Y (by decide) dX2_areEnemies_23

def fX2_feast_L38 (N : Nat) : Nat → Int32 → Int32 → GS → Option (Int32 × GS)
  | 0, _, _, _ => none
  | n_ + 1, x2_11, x3_12, G_13 =>
    if (G_13 0 2) ≤ x3_12 then (
     some (x2_11, G_13)
    ) else (
     gd (inb ((14 : Int32) + x3_12) 20) <|
     nm (G_13 8 (((14 : Int32) + x3_12)).toNatClampNeg : Int32) fun v_16 =>
     bd1 (
      if v_16 = (-1 : Int32) then (
       some (-1 : Int32)
      ) else (
       bd1 (fX2_beside N G_13 v_16 (1 : Int32)) fun r_18 =>
       bd1 (fX2_sitter N G_13 r_18) fun r_20 =>
       some r_20
      )
     ) fun j_22 =>
     gd (inb ((8 : Int32) + x3_12) 20) <|
     nm (G_13 8 (((8 : Int32) + x3_12)).toNatClampNeg : Int32) fun v_24 =>
     bd1 (
      if j_22 = (-1 : Int32) then (
       some (0 : Int32)
      ) else (
       gd (inb ((8 : Int32) + j_22) 20) <|
       nm (G_13 8 (((8 : Int32) + j_22)).toNatClampNeg : Int32) fun v_27 =>
       some v_27
      )
     ) fun j_28 =>
     gd (inb x3_12 6) <|
     nm (gu G_13 31 (x3_12).toNatClampNeg (v_24 ||| j_28) : GS) fun G_30 =>
     bd1 (
      if v_16 = (-1 : Int32) then (
       some (0 : Int32)
      ) else (
       bd1 (fX2_areEnemies N G_30 x3_12 j_22) fun r_32 =>
       if r_32 = (0 : Int32) then (
        bd1 (fX2_beside N G_30 v_16 (-1 : Int32)) fun r_35 =>
        bd1 (fX2_sitter N G_30 r_35) fun r_37 =>
        bd1 (fX2_areEnemies N G_30 x3_12 r_37) fun r_39 =>
        if r_39 = (0 : Int32) then (
         some ((1 : Int32) <<< (x3_12 &&& 31))
        ) else (
         some (0 : Int32)
        )
       ) else (
        some (0 : Int32)
       )
      )
     ) fun j_42 =>
     nm ((x2_11 ||| j_42) : Int32) fun x2_43 =>
     nm ((x3_12 + (1 : Int32)) : Int32) fun x3_44 =>
     fX2_feast_L38 N n_ x2_43 x3_44 G_30
    )
def fX2_feast_L169 (N : Nat) (r_9 : Int32) (x2_45 : Int32) : Nat → Int32 → GS → Option GS
  | 0, _, _ => none
  | n_ + 1, x3_47, G_48 =>
    if (G_48 0 2) ≤ x3_47 then (
     some G_48
    ) else (
     gd (inb ((14 : Int32) + x3_47) 20) <|
     nm (G_48 8 (((14 : Int32) + x3_47)).toNatClampNeg : Int32) fun v_51 =>
     bd1 (
      if v_51 = (-1 : Int32) then (
       some (0 : Int32)
      ) else (
       bd1 (fX2_has N r_9 x3_47) fun r_53 =>
       if r_53 = (0 : Int32) then (
        some (1 : Int32)
       ) else (
        some (0 : Int32)
       )
      )
     ) fun j_56 =>
     gd (inb ((2 : Int32) + x3_47) 20) <|
     nm (G_48 8 (((2 : Int32) + x3_47)).toNatClampNeg : Int32) fun v_58 =>
     bd1 (fX2_has N x2_45 x3_47) fun r_59 =>
     bd1 (
      if r_59 = (0 : Int32) then (
       some (-1 : Int32)
      ) else (
       some (1 : Int32)
      )
     ) fun j_62 =>
     nm ((v_58 + j_62) : Int32) fun x5_63 =>
     bd1 (
      if j_56 = (0 : Int32) then (
       gd (inb ((2 : Int32) + x3_47) 20) <|
       nm (G_48 8 (((2 : Int32) + x3_47)).toNatClampNeg : Int32) fun v_68 =>
       some v_68
      ) else (
       if (0 : Int32) ≤ x5_63 then (
        if x5_63 ≤ (9 : Int32) then (
         some x5_63
        ) else (
         some (9 : Int32)
        )
       ) else (
        some (0 : Int32)
       )
      )
     ) fun j_69 =>
     gd (inb ((2 : Int32) + x3_47) 20) <|
     nm (gu G_48 8 (((2 : Int32) + x3_47)).toNatClampNeg j_69 : GS) fun G_71 =>
     gd (inb x3_47 6) <|
     nm (G_71 31 (x3_47).toNatClampNeg : Int32) fun v_73 =>
     gd (inb ((8 : Int32) + x3_47) 20) <|
     nm (gu G_71 8 (((8 : Int32) + x3_47)).toNatClampNeg v_73 : GS) fun G_75 =>
     nm ((x3_47 + (1 : Int32)) : Int32) fun x3_76 =>
     fX2_feast_L169 N r_9 x2_45 n_ x3_76 G_75
    )
def fX2_feast (N : Nat) (G : GS) : Option (Int32 × GS) :=
  bd1 (fX2_sitting N G) fun r_1 =>
  if r_1 = (0 : Int32) then (
   some ((-4 : Int32), G)
  ) else (
   gd (inb (0 : Int32) 20) <|
   nm (G 8 ((0 : Int32)).toNatClampNeg : Int32) fun v_5 =>
   if v_5 = (999 : Int32) then (
    some ((-5 : Int32), G)
   ) else (
    bd1 (fX2_remembers N G) fun G_7 =>
    bd1 (fX2_wrongs N G_7) fun r_9 =>
    bd2 (fX2_feast_L38 N N (0 : Int32) (0 : Int32) G_7) fun x2_45 G_46 =>
    bd1 (fX2_feast_L169 N r_9 x2_45 N (0 : Int32) G_46) fun G_77 =>
    gd (inb (1 : Int32) 20) <|
    nm (G_77 8 ((1 : Int32)).toNatClampNeg : Int32) fun v_79 =>
    gd (inb (1 : Int32) 20) <|
    nm (gu G_77 8 ((1 : Int32)).toNatClampNeg (v_79 &&& (r_9 ^^^ (-1 : Int32))) : GS) fun G_81 =>
    bd1 (fX2_allRise N G_81) fun G_82 =>
    gd (inb (0 : Int32) 20) <|
    nm (G_82 8 ((0 : Int32)).toNatClampNeg : Int32) fun v_85 =>
    gd (inb (0 : Int32) 20) <|
    nm (gu G_82 8 ((0 : Int32)).toNatClampNeg (v_85 + (1 : Int32)) : GS) fun G_87 =>
    some (r_9, G_87)
   )
  )
theorem ydX2_feast : yX2_feast.cls = RX2 ∧ yX2_feast.cls ≠ "java/lang/invoke/MethodHandle" ∧ yX2_feast.cls ≠ "java/lang/invoke/VarHandle" ∧ (parseMethodDescriptor yX2_feast.desc).map (fun d => d.parameters.length) = some 0 := by decide +kernel
set_option maxHeartbeats 4000000 in
theorem tX2_feast (l : Launch) (N : Nat) (G : GS) (r : Int32) (G' : GS) (hf : fX2_feast N G = some (r, G')) : mMet l yX2_feast cX2_feast 6 (some .int) (mR 4) [] G (some (.int r)) G' := by
  unfold fX2_feast at hf
  refine mMet_of (by decide +kernel) rfl (Nat.le_of_ble_eq_true rfl) (fun {p e s m args below meth c ls D cA h ad A} X Y hl => ?_)
  have hx := X.1.1
  have hb := X.1.2.1
  have hl : lv_has ls 6 [(0, .ref h)] := hl
  refine lv_aload_n hx hb dX2_feast_0 rfl (lv_at hl 0 rfl) ?_
  obtain ⟨r_1, hq_2, hf⟩ := bd1_s hf
  refine mcI (av := []) (rest := []) 0 X Y (tX2_sitting l N G r_1 hq_2) (lw_V q1357 q1359 qs53 q70 q1360) ydX2_sitting ⟨rfl, rfl, by decide, by decide⟩ rfl hl.1 rfl (Nat.le_of_ble_eq_true rfl) ⟨Nat.zero_le _, Nat.zero_le _⟩ dX2_feast_1 (fun H locs Y => ?_)
  refine lv_if_ne (tgt := 10) hx hb dX2_feast_4 (by decide) (fun c_3 => ?_) (fun c_3 => ?_)
  · rw [if_neg c_3] at hf
    refine lv_aload_n hx hb dX2_feast_10 rfl (lv_at hl 0 rfl) ?_
    refine mg (v := .ref (ad 8)) X Y 8 (by decide) q1113 rfl rfl dX2_feast_11 ?_
    refine lv_iconst (v := (0 : Int32)) hx hb dX2_feast_14 (by decide) ?_
    obtain ⟨b_4, hf⟩ := gd_s hf
    obtain ⟨v_5, ev_5, hf⟩ := nm_s hf
    refine ml (n := 20) X Y 8 4 rfl b_4 ev_5 dX2_feast_15 ?_
    refine lv_sipush (v := (999 : Int32)) hx hb dX2_feast_16 (by decide) ?_
    refine lv_icmp_ne (tgt := 25) hx hb dX2_feast_19 (by decide) (fun c_6 => ?_) (fun c_6 => ?_)
    · rw [if_neg c_6] at hf
      refine lv_aload_n hx hb dX2_feast_25 rfl (lv_at hl 0 rfl) ?_
      obtain ⟨G_7, hq_8, hf⟩ := bd1_s hf
      refine mcV (av := []) (rest := []) 0 X Y (tX2_remembers l N G G_7 hq_8) (lw_V q1353 q1355 qs52 q70 q1356) ydX2_remembers ⟨rfl, rfl, by decide, by decide⟩ rfl hl.1 rfl (Nat.le_of_ble_eq_true rfl) ⟨Nat.zero_le _, Nat.zero_le _⟩ dX2_feast_26 (fun H locs Y => ?_)
      refine lv_aload_n hx hb dX2_feast_29 rfl (lv_at hl 0 rfl) ?_
      obtain ⟨r_9, hq_10, hf⟩ := bd1_s hf
      refine mcI (av := []) (rest := []) 0 X Y (tX2_wrongs l N G_7 r_9 hq_10) (lw_V q1380 q1382 qs55 q70 q1383) ydX2_wrongs ⟨rfl, rfl, by decide, by decide⟩ rfl hl.1 rfl (Nat.le_of_ble_eq_true rfl) ⟨Nat.zero_le _, Nat.zero_le _⟩ dX2_feast_30 (fun H locs Y => ?_)
      refine lv_istore_n (lv' := [(1, .int r_9), (0, .ref h)]) hx hb dX2_feast_33 rfl hl (by decide) rfl (fun ls hl => ?_)
      refine lv_iconst (v := (0 : Int32)) hx hb dX2_feast_34 (by decide) ?_
      refine lv_istore_n (lv' := [(2, .int (0 : Int32)), (1, .int r_9), (0, .ref h)]) hx hb dX2_feast_35 rfl hl (by decide) rfl (fun ls hl => ?_)
      refine lv_iconst (v := (0 : Int32)) hx hb dX2_feast_36 (by decide) ?_
      refine lv_istore_n (lv' := [(3, .int (0 : Int32)), (2, .int (0 : Int32)), (1, .int r_9), (0, .ref h)]) hx hb dX2_feast_37 rfl hl (by decide) rfl (fun ls hl => ?_)
      obtain ⟨x2_45, G_46, hL, hf⟩ := bd2_s hf
      have E38_88 : ∀ (H : Heap) (locs : List Loc), WX D A s (mW h ad cA G_46) H locs → ∀ ls : Array Slot, lv_has ls 6 [(0, .ref h), (1, .int r_9), (2, .int x2_45)] → W p l e (mR 4) s m args below meth c H locs 0 0 (MQ below (mQ D cA h ad A (some (.int r)) G') args s 0 0 A) (F0 m 167 ls []) := by
        clear hL
        intro H locs Y ls hl
        refine lv_iconst (v := (0 : Int32)) hx hb dX2_feast_167 (by decide) ?_
        refine lv_istore_n (lv' := [(3, .int (0 : Int32)), (0, .ref h), (1, .int r_9), (2, .int x2_45)]) hx hb dX2_feast_168 rfl hl (by decide) rfl (fun ls hl => ?_)
        obtain ⟨G_77, hL, hf⟩ := bd1_s hf
        have E169_89 : ∀ (H : Heap) (locs : List Loc), WX D A s (mW h ad cA G_77) H locs → ∀ ls : Array Slot, lv_has ls 6 [(0, .ref h), (1, .int r_9)] → W p l e (mR 4) s m args below meth c H locs 0 0 (MQ below (mQ D cA h ad A (some (.int r)) G') args s 0 0 A) (F0 m 297 ls []) := by
          clear hL
          intro H locs Y ls hl
          refine lv_aload_n hx hb dX2_feast_297 rfl (lv_at hl 0 rfl) ?_
          refine mg (v := .ref (ad 8)) X Y 8 (by decide) q1113 rfl rfl dX2_feast_298 ?_
          refine lv_iconst (v := (1 : Int32)) hx hb dX2_feast_301 (by decide) ?_
          refine lv_dup2_11 hx hb dX2_feast_302 rfl rfl ?_
          obtain ⟨b_78, hf⟩ := gd_s hf
          obtain ⟨v_79, ev_79, hf⟩ := nm_s hf
          refine ml (n := 20) X Y 8 4 rfl b_78 ev_79 dX2_feast_303 ?_
          refine lv_iload_n hx hb dX2_feast_304 rfl (lv_at hl 1 rfl) ?_
          refine lv_iconst (v := (-1 : Int32)) hx hb dX2_feast_305 (by decide) ?_
          refine lv_ixor hx hb dX2_feast_306 ?_
          refine lv_iand hx hb dX2_feast_307 ?_
          obtain ⟨b_80, hf⟩ := gd_s hf
          obtain ⟨G_81, eG_81, hf⟩ := nm_s hf
          refine ms (n := 20) X Y 8 4 rfl mz8 b_80 eG_81 dX2_feast_308 (fun H locs Y => ?_)
          refine lv_aload_n hx hb dX2_feast_309 rfl (lv_at hl 0 rfl) ?_
          obtain ⟨G_82, hq_83, hf⟩ := bd1_s hf
          refine mcV (av := []) (rest := []) 0 X Y (tX2_allRise l N G_81 G_82 hq_83) (lw_V q1368 q1370 qs54 q70 q1371) ydX2_allRise ⟨rfl, rfl, by decide, by decide⟩ rfl hl.1 rfl (Nat.le_of_ble_eq_true rfl) ⟨Nat.zero_le _, Nat.zero_le _⟩ dX2_feast_310 (fun H locs Y => ?_)
          refine lv_aload_n hx hb dX2_feast_313 rfl (lv_at hl 0 rfl) ?_
          refine mg (v := .ref (ad 8)) X Y 8 (by decide) q1113 rfl rfl dX2_feast_314 ?_
          refine lv_iconst (v := (0 : Int32)) hx hb dX2_feast_317 (by decide) ?_
          refine lv_dup2_11 hx hb dX2_feast_318 rfl rfl ?_
          obtain ⟨b_84, hf⟩ := gd_s hf
          obtain ⟨v_85, ev_85, hf⟩ := nm_s hf
          refine ml (n := 20) X Y 8 4 rfl b_84 ev_85 dX2_feast_319 ?_
          refine lv_iconst (v := (1 : Int32)) hx hb dX2_feast_320 (by decide) ?_
          refine lv_iadd hx hb dX2_feast_321 ?_
          obtain ⟨b_86, hf⟩ := gd_s hf
          obtain ⟨G_87, eG_87, hf⟩ := nm_s hf
          refine ms (n := 20) X Y 8 4 rfl mz8 b_86 eG_87 dX2_feast_322 (fun H locs Y => ?_)
          refine lv_iload_n hx hb dX2_feast_323 rfl (lv_at hl 1 rfl) ?_
          cases hf
          exact m_iret X Y dX2_feast_324
        clear hf
        have L169_89 : ∀ (n_ : Nat) (x3_47 : Int32) (G_48 : GS), fX2_feast_L169 N r_9 x2_45 n_ x3_47 G_48 = some G_77 → ∀ (H : Heap) (locs : List Loc), WX D A s (mW h ad cA G_48) H locs → ∀ ls : Array Slot, lv_has ls 6 [(0, .ref h), (1, .int r_9), (2, .int x2_45), (3, .int x3_47)] → W p l e (mR 4) s m args below meth c H locs 0 0 (MQ below (mQ D cA h ad A (some (.int r)) G') args s 0 0 A) (F0 m 169 ls []) := by
          clear hL
          intro n_
          induction n_ with
          | zero =>
            intro x3_47 G_48 hf
            rw [fX2_feast_L169.eq_1] at hf
            cases hf
          | succ n_ ih =>
            intro x3_47 G_48 hf
            intro H locs Y ls hl
            rw [fX2_feast_L169.eq_2] at hf
            refine lv_iload_n hx hb dX2_feast_169 rfl (lv_at hl 3 rfl) ?_
            refine lv_aload_n hx hb dX2_feast_170 rfl (lv_at hl 0 rfl) ?_
            refine mg (v := .int (G_48 0 2)) X Y 2 (by decide) q1107 rfl rfl dX2_feast_171 ?_
            refine lv_icmp_ge (tgt := 297) hx hb dX2_feast_174 (by decide) (fun c_49 => ?_) (fun c_49 => ?_)
            · rw [if_pos c_49] at hf
              cases hf
              exact E169_89 _ _ Y _ (lv_sub hl [0, 1] rfl)
            · rw [if_neg c_49] at hf
              refine lv_aload_n hx hb dX2_feast_177 rfl (lv_at hl 0 rfl) ?_
              refine mg (v := .ref (ad 8)) X Y 8 (by decide) q1113 rfl rfl dX2_feast_178 ?_
              refine lv_bipush (v := (14 : Int32)) hx hb dX2_feast_181 (by decide) ?_
              refine lv_iload_n hx hb dX2_feast_183 rfl (lv_at hl 3 rfl) ?_
              refine lv_iadd hx hb dX2_feast_184 ?_
              obtain ⟨b_50, hf⟩ := gd_s hf
              obtain ⟨v_51, ev_51, hf⟩ := nm_s hf
              refine ml (n := 20) X Y 8 4 rfl b_50 ev_51 dX2_feast_185 ?_
              refine lv_iconst (v := (-1 : Int32)) hx hb dX2_feast_186 (by decide) ?_
              obtain ⟨j_56, hj, hf⟩ := bd1_s hf
              have J203_90 : ∀ (H : Heap) (locs : List Loc), WX D A s (mW h ad cA G_48) H locs → ∀ ls : Array Slot, lv_has ls 6 [(0, .ref h), (1, .int r_9), (2, .int x2_45), (3, .int x3_47)] → W p l e (mR 4) s m args below meth c H locs 0 0 (MQ below (mQ D cA h ad A (some (.int r)) G') args s 0 0 A) (F0 m 203 ls [.int j_56]) := by
                clear hj
                intro H locs Y ls hl
                refine lv_istore (lv' := [(4, .int j_56), (0, .ref h), (1, .int r_9), (2, .int x2_45), (3, .int x3_47)]) hx hb dX2_feast_203 hl (by decide) rfl (fun ls hl => ?_)
                refine lv_aload_n hx hb dX2_feast_205 rfl (lv_at hl 1 rfl) ?_
                refine mg (v := .ref (ad 8)) X Y 8 (by decide) q1113 rfl rfl dX2_feast_206 ?_
                refine lv_iconst (v := (2 : Int32)) hx hb dX2_feast_209 (by decide) ?_
                refine lv_iload_n hx hb dX2_feast_210 rfl (lv_at hl 4 rfl) ?_
                refine lv_iadd hx hb dX2_feast_211 ?_
                obtain ⟨b_57, hf⟩ := gd_s hf
                obtain ⟨v_58, ev_58, hf⟩ := nm_s hf
                refine ml (n := 20) X Y 8 4 rfl b_57 ev_58 dX2_feast_212 ?_
                refine lv_iload_n hx hb dX2_feast_213 rfl (lv_at hl 3 rfl) ?_
                refine lv_iload_n hx hb dX2_feast_214 rfl (lv_at hl 4 rfl) ?_
                obtain ⟨r_59, hq_60, hf⟩ := bd1_s hf
                refine w_callSI (av := [.int x2_45, .int x3_47]) (rest := [.int v_58]) 2 X Y (tX2_has l N x2_45 x3_47 r_59 hq_60) (lw_S q1326 q1327 q70 q1328) ydX2_has ⟨rfl, rfl, by decide, by decide⟩ rfl hl.1 rfl (Nat.le_of_ble_eq_true rfl) ⟨Nat.zero_le _, Nat.zero_le _⟩ dX2_feast_215 (fun H locs Y => ?_)
                obtain ⟨j_62, hj, hf⟩ := bd1_s hf
                have J226_91 : ∀ (H : Heap) (locs : List Loc), WX D A s (mW h ad cA G_48) H locs → ∀ ls : Array Slot, lv_has ls 6 [(0, .ref h), (1, .int r_9), (2, .int x2_45), (3, .int x3_47), (4, .int j_56)] → W p l e (mR 4) s m args below meth c H locs 0 0 (MQ below (mQ D cA h ad A (some (.int r)) G') args s 0 0 A) (F0 m 226 ls [.int j_62, .int v_58]) := by
                  clear hj
                  intro H locs Y ls hl
                  refine lv_iadd hx hb dX2_feast_226 ?_
                  obtain ⟨x5_63, ex5_63, hf⟩ := nm_s hf
                  refine lv_topE ex5_63 ?_
                  refine lv_istore (lv' := [(5, .int x5_63), (0, .ref h), (1, .int r_9), (2, .int x2_45), (3, .int x3_47), (4, .int j_56)]) hx hb dX2_feast_227 hl (by decide) rfl (fun ls hl => ?_)
                  refine lv_aload_n hx hb dX2_feast_229 rfl (lv_at hl 1 rfl) ?_
                  refine mg (v := .ref (ad 8)) X Y 8 (by decide) q1113 rfl rfl dX2_feast_230 ?_
                  refine lv_iconst (v := (2 : Int32)) hx hb dX2_feast_233 (by decide) ?_
                  refine lv_iload_n hx hb dX2_feast_234 rfl (lv_at hl 4 rfl) ?_
                  refine lv_iadd hx hb dX2_feast_235 ?_
                  refine lv_iload hx hb dX2_feast_236 (lv_at hl 5 rfl) ?_
                  obtain ⟨j_69, hj, hf⟩ := bd1_s hf
                  have J275_92 : ∀ (H : Heap) (locs : List Loc), WX D A s (mW h ad cA G_48) H locs → ∀ ls : Array Slot, lv_has ls 6 [(0, .ref h), (1, .int r_9), (2, .int x2_45), (3, .int x3_47)] → W p l e (mR 4) s m args below meth c H locs 0 0 (MQ below (mQ D cA h ad A (some (.int r)) G') args s 0 0 A) (F0 m 275 ls [.int j_69, .int ((2 : Int32) + x3_47), .ref (ad 8)]) := by
                    clear hj
                    intro H locs Y ls hl
                    obtain ⟨b_70, hf⟩ := gd_s hf
                    obtain ⟨G_71, eG_71, hf⟩ := nm_s hf
                    refine ms (n := 20) X Y 8 4 rfl mz8 b_70 eG_71 dX2_feast_275 (fun H locs Y => ?_)
                    refine lv_aload_n hx hb dX2_feast_276 rfl (lv_at hl 0 rfl) ?_
                    refine mg (v := .ref (ad 8)) X Y 8 (by decide) q1113 rfl rfl dX2_feast_277 ?_
                    refine lv_bipush (v := (8 : Int32)) hx hb dX2_feast_280 (by decide) ?_
                    refine lv_iload_n hx hb dX2_feast_282 rfl (lv_at hl 3 rfl) ?_
                    refine lv_iadd hx hb dX2_feast_283 ?_
                    refine lv_aload_n hx hb dX2_feast_284 rfl (lv_at hl 0 rfl) ?_
                    refine mg (v := .ref (ad 31)) X Y 31 (by decide) q1136 rfl rfl dX2_feast_285 ?_
                    refine lv_iload_n hx hb dX2_feast_288 rfl (lv_at hl 3 rfl) ?_
                    obtain ⟨b_72, hf⟩ := gd_s hf
                    obtain ⟨v_73, ev_73, hf⟩ := nm_s hf
                    refine ml (n := 6) X Y 31 13 rfl b_72 ev_73 dX2_feast_289 ?_
                    obtain ⟨b_74, hf⟩ := gd_s hf
                    obtain ⟨G_75, eG_75, hf⟩ := nm_s hf
                    refine ms (n := 20) X Y 8 4 rfl mz8 b_74 eG_75 dX2_feast_290 (fun H locs Y => ?_)
                    obtain ⟨x3_76, ex3_76, hf⟩ := nm_s hf
                    refine lv_iinc (v := x3_76) (lv' := [(3, .int x3_76), (0, .ref h), (1, .int r_9), (2, .int x2_45)]) hx hb dX2_feast_291 hl (k := 3) rfl (by rw [ex3_76]; rfl) (by decide) rfl (fun ls hl => ?_)
                    refine lv_goto (tgt := 169) hx hb dX2_feast_294 (by decide) ?_
                    exact ih _ _ hf _ _ Y _ (lv_sub hl [1, 2, 3, 0] rfl)
                  replace hf := hj
                  clear hj
                  refine lv_if_ne (tgt := 252) hx hb dX2_feast_238 (by decide) (fun c_64 => ?_) (fun c_64 => ?_)
                  · rw [if_neg c_64] at hf
                    refine lv_iload hx hb dX2_feast_252 (lv_at hl 0 rfl) ?_
                    refine lv_if_ge (tgt := 261) hx hb dX2_feast_254 (by decide) (fun c_65 => ?_) (fun c_65 => ?_)
                    · rw [if_pos c_65] at hf
                      refine lv_iload hx hb dX2_feast_261 (lv_at hl 0 rfl) ?_
                      refine lv_bipush (v := (9 : Int32)) hx hb dX2_feast_263 (by decide) ?_
                      refine lv_icmp_le (tgt := 273) hx hb dX2_feast_265 (by decide) (fun c_66 => ?_) (fun c_66 => ?_)
                      · rw [if_pos c_66] at hf
                        refine lv_iload hx hb dX2_feast_273 (lv_at hl 0 rfl) ?_
                        cases hf
                        exact J275_92 _ _ Y _ (lv_sub hl [1, 2, 3, 4] rfl)
                      · rw [if_neg c_66] at hf
                        refine lv_bipush (v := (9 : Int32)) hx hb dX2_feast_268 (by decide) ?_
                        refine lv_goto (tgt := 275) hx hb dX2_feast_270 (by decide) ?_
                        cases hf
                        exact J275_92 _ _ Y _ (lv_sub hl [1, 2, 3, 4] rfl)
                    · rw [if_neg c_65] at hf
                      refine lv_iconst (v := (0 : Int32)) hx hb dX2_feast_257 (by decide) ?_
                      refine lv_goto (tgt := 275) hx hb dX2_feast_258 (by decide) ?_
                      cases hf
                      exact J275_92 _ _ Y _ (lv_sub hl [1, 2, 3, 4] rfl)
                  · rw [if_pos c_64] at hf
                    refine lv_aload_n hx hb dX2_feast_241 rfl (lv_at hl 1 rfl) ?_
                    refine mg (v := .ref (ad 8)) X Y 8 (by decide) q1113 rfl rfl dX2_feast_242 ?_
                    refine lv_iconst (v := (2 : Int32)) hx hb dX2_feast_245 (by decide) ?_
                    refine lv_iload_n hx hb dX2_feast_246 rfl (lv_at hl 4 rfl) ?_
                    refine lv_iadd hx hb dX2_feast_247 ?_
                    obtain ⟨b_67, hf⟩ := gd_s hf
                    obtain ⟨v_68, ev_68, hf⟩ := nm_s hf
                    refine ml (n := 20) X Y 8 4 rfl b_67 ev_68 dX2_feast_248 ?_
                    refine lv_goto (tgt := 275) hx hb dX2_feast_249 (by decide) ?_
                    cases hf
                    exact J275_92 _ _ Y _ (lv_sub hl [1, 2, 3, 4] rfl)
                replace hf := hj
                clear hj
                refine lv_if_eq (tgt := 225) hx hb dX2_feast_218 (by decide) (fun c_61 => ?_) (fun c_61 => ?_)
                · rw [if_pos c_61] at hf
                  refine lv_iconst (v := (-1 : Int32)) hx hb dX2_feast_225 (by decide) ?_
                  cases hf
                  exact J226_91 _ _ Y _ (lv_sub hl [1, 2, 3, 4, 0] rfl)
                · rw [if_neg c_61] at hf
                  refine lv_iconst (v := (1 : Int32)) hx hb dX2_feast_221 (by decide) ?_
                  refine lv_goto (tgt := 226) hx hb dX2_feast_222 (by decide) ?_
                  cases hf
                  exact J226_91 _ _ Y _ (lv_sub hl [1, 2, 3, 4, 0] rfl)
              replace hf := hj
              clear hj
              refine lv_icmp_eq (tgt := 202) hx hb dX2_feast_187 (by decide) (fun c_52 => ?_) (fun c_52 => ?_)
              · rw [if_pos c_52] at hf
                refine lv_iconst (v := (0 : Int32)) hx hb dX2_feast_202 (by decide) ?_
                cases hf
                exact J203_90 _ _ Y _ (lv_sub hl [0, 1, 2, 3] rfl)
              · rw [if_neg c_52] at hf
                refine lv_iload_n hx hb dX2_feast_190 rfl (lv_at hl 1 rfl) ?_
                refine lv_iload_n hx hb dX2_feast_191 rfl (lv_at hl 3 rfl) ?_
                obtain ⟨r_53, hq_54, hf⟩ := bd1_s hf
                refine w_callSI (av := [.int r_9, .int x3_47]) (rest := []) 2 X Y (tX2_has l N r_9 x3_47 r_53 hq_54) (lw_S q1326 q1327 q70 q1328) ydX2_has ⟨rfl, rfl, by decide, by decide⟩ rfl hl.1 rfl (Nat.le_of_ble_eq_true rfl) ⟨Nat.zero_le _, Nat.zero_le _⟩ dX2_feast_192 (fun H locs Y => ?_)
                refine lv_if_ne (tgt := 202) hx hb dX2_feast_195 (by decide) (fun c_55 => ?_) (fun c_55 => ?_)
                · rw [if_neg c_55] at hf
                  refine lv_iconst (v := (0 : Int32)) hx hb dX2_feast_202 (by decide) ?_
                  cases hf
                  exact J203_90 _ _ Y _ (lv_sub hl [0, 1, 2, 3] rfl)
                · rw [if_pos c_55] at hf
                  refine lv_iconst (v := (1 : Int32)) hx hb dX2_feast_198 (by decide) ?_
                  refine lv_goto (tgt := 203) hx hb dX2_feast_199 (by decide) ?_
                  cases hf
                  exact J203_90 _ _ Y _ (lv_sub hl [0, 1, 2, 3] rfl)
        exact L169_89 N _ _ hL _ _ Y _ (lv_sub hl [1, 2, 3, 0] rfl)
      clear hf
      have L38_88 : ∀ (n_ : Nat) (x2_11 : Int32) (x3_12 : Int32) (G_13 : GS), fX2_feast_L38 N n_ x2_11 x3_12 G_13 = some (x2_45, G_46) → ∀ (H : Heap) (locs : List Loc), WX D A s (mW h ad cA G_13) H locs → ∀ ls : Array Slot, lv_has ls 6 [(0, .ref h), (1, .int r_9), (2, .int x2_11), (3, .int x3_12)] → W p l e (mR 4) s m args below meth c H locs 0 0 (MQ below (mQ D cA h ad A (some (.int r)) G') args s 0 0 A) (F0 m 38 ls []) := by
        clear hL
        intro n_
        induction n_ with
        | zero =>
          intro x2_11 x3_12 G_13 hf
          rw [fX2_feast_L38.eq_1] at hf
          cases hf
        | succ n_ ih =>
          intro x2_11 x3_12 G_13 hf
          intro H locs Y ls hl
          rw [fX2_feast_L38.eq_2] at hf
          refine lv_iload_n hx hb dX2_feast_38 rfl (lv_at hl 3 rfl) ?_
          refine lv_aload_n hx hb dX2_feast_39 rfl (lv_at hl 0 rfl) ?_
          refine mg (v := .int (G_13 0 2)) X Y 2 (by decide) q1107 rfl rfl dX2_feast_40 ?_
          refine lv_icmp_ge (tgt := 167) hx hb dX2_feast_43 (by decide) (fun c_14 => ?_) (fun c_14 => ?_)
          · rw [if_pos c_14] at hf
            cases hf
            exact E38_88 _ _ Y _ (lv_sub hl [0, 1, 2] rfl)
          · rw [if_neg c_14] at hf
            refine lv_aload_n hx hb dX2_feast_46 rfl (lv_at hl 0 rfl) ?_
            refine mg (v := .ref (ad 8)) X Y 8 (by decide) q1113 rfl rfl dX2_feast_47 ?_
            refine lv_bipush (v := (14 : Int32)) hx hb dX2_feast_50 (by decide) ?_
            refine lv_iload_n hx hb dX2_feast_52 rfl (lv_at hl 3 rfl) ?_
            refine lv_iadd hx hb dX2_feast_53 ?_
            obtain ⟨b_15, hf⟩ := gd_s hf
            obtain ⟨v_16, ev_16, hf⟩ := nm_s hf
            refine ml (n := 20) X Y 8 4 rfl b_15 ev_16 dX2_feast_54 ?_
            refine lv_istore (lv' := [(4, .int v_16), (0, .ref h), (1, .int r_9), (2, .int x2_11), (3, .int x3_12)]) hx hb dX2_feast_55 hl (by decide) rfl (fun ls hl => ?_)
            refine lv_iload hx hb dX2_feast_57 (lv_at hl 0 rfl) ?_
            refine lv_iconst (v := (-1 : Int32)) hx hb dX2_feast_59 (by decide) ?_
            obtain ⟨j_22, hj, hf⟩ := bd1_s hf
            have J78_93 : ∀ (H : Heap) (locs : List Loc), WX D A s (mW h ad cA G_13) H locs → ∀ ls : Array Slot, lv_has ls 6 [(0, .ref h), (1, .int r_9), (2, .int x2_11), (3, .int x3_12), (4, .int v_16)] → W p l e (mR 4) s m args below meth c H locs 0 0 (MQ below (mQ D cA h ad A (some (.int r)) G') args s 0 0 A) (F0 m 78 ls [.int j_22]) := by
              clear hj
              intro H locs Y ls hl
              refine lv_istore (lv' := [(5, .int j_22), (0, .ref h), (1, .int r_9), (2, .int x2_11), (3, .int x3_12), (4, .int v_16)]) hx hb dX2_feast_78 hl (by decide) rfl (fun ls hl => ?_)
              refine lv_aload_n hx hb dX2_feast_80 rfl (lv_at hl 1 rfl) ?_
              refine mg (v := .ref (ad 31)) X Y 31 (by decide) q1136 rfl rfl dX2_feast_81 ?_
              refine lv_iload_n hx hb dX2_feast_84 rfl (lv_at hl 4 rfl) ?_
              refine lv_aload_n hx hb dX2_feast_85 rfl (lv_at hl 1 rfl) ?_
              refine mg (v := .ref (ad 8)) X Y 8 (by decide) q1113 rfl rfl dX2_feast_86 ?_
              refine lv_bipush (v := (8 : Int32)) hx hb dX2_feast_89 (by decide) ?_
              refine lv_iload_n hx hb dX2_feast_91 rfl (lv_at hl 4 rfl) ?_
              refine lv_iadd hx hb dX2_feast_92 ?_
              obtain ⟨b_23, hf⟩ := gd_s hf
              obtain ⟨v_24, ev_24, hf⟩ := nm_s hf
              refine ml (n := 20) X Y 8 4 rfl b_23 ev_24 dX2_feast_93 ?_
              refine lv_iload hx hb dX2_feast_94 (lv_at hl 0 rfl) ?_
              refine lv_iconst (v := (-1 : Int32)) hx hb dX2_feast_96 (by decide) ?_
              obtain ⟨j_28, hj, hf⟩ := bd1_s hf
              have J114_94 : ∀ (H : Heap) (locs : List Loc), WX D A s (mW h ad cA G_13) H locs → ∀ ls : Array Slot, lv_has ls 6 [(0, .ref h), (1, .int r_9), (2, .int x2_11), (3, .int x3_12), (4, .int v_16), (5, .int j_22)] → W p l e (mR 4) s m args below meth c H locs 0 0 (MQ below (mQ D cA h ad A (some (.int r)) G') args s 0 0 A) (F0 m 114 ls [.int j_28, .int v_24, .int x3_12, .ref (ad 31)]) := by
                clear hj
                intro H locs Y ls hl
                refine lv_ior hx hb dX2_feast_114 ?_
                obtain ⟨b_29, hf⟩ := gd_s hf
                obtain ⟨G_30, eG_30, hf⟩ := nm_s hf
                refine ms (n := 6) X Y 31 13 rfl mz31 b_29 eG_30 dX2_feast_115 (fun H locs Y => ?_)
                refine lv_iload_n hx hb dX2_feast_116 rfl (lv_at hl 2 rfl) ?_
                refine lv_iload hx hb dX2_feast_117 (lv_at hl 4 rfl) ?_
                refine lv_iconst (v := (-1 : Int32)) hx hb dX2_feast_119 (by decide) ?_
                obtain ⟨j_42, hj, hf⟩ := bd1_s hf
                have J159_95 : ∀ (H : Heap) (locs : List Loc), WX D A s (mW h ad cA G_30) H locs → ∀ ls : Array Slot, lv_has ls 6 [(0, .ref h), (1, .int r_9), (3, .int x3_12)] → W p l e (mR 4) s m args below meth c H locs 0 0 (MQ below (mQ D cA h ad A (some (.int r)) G') args s 0 0 A) (F0 m 159 ls [.int j_42, .int x2_11]) := by
                  clear hj
                  intro H locs Y ls hl
                  refine lv_ior hx hb dX2_feast_159 ?_
                  obtain ⟨x2_43, ex2_43, hf⟩ := nm_s hf
                  refine lv_topE ex2_43 ?_
                  refine lv_istore_n (lv' := [(2, .int x2_43), (0, .ref h), (1, .int r_9), (3, .int x3_12)]) hx hb dX2_feast_160 rfl hl (by decide) rfl (fun ls hl => ?_)
                  obtain ⟨x3_44, ex3_44, hf⟩ := nm_s hf
                  refine lv_iinc (v := x3_44) (lv' := [(3, .int x3_44), (2, .int x2_43), (0, .ref h), (1, .int r_9)]) hx hb dX2_feast_161 hl (k := 3) rfl (by rw [ex3_44]; rfl) (by decide) rfl (fun ls hl => ?_)
                  refine lv_goto (tgt := 38) hx hb dX2_feast_164 (by decide) ?_
                  exact ih _ _ _ hf _ _ Y _ (lv_sub hl [2, 3, 1, 0] rfl)
                replace hf := hj
                clear hj
                refine lv_icmp_eq (tgt := 158) hx hb dX2_feast_120 (by decide) (fun c_31 => ?_) (fun c_31 => ?_)
                · rw [if_pos c_31] at hf
                  refine lv_iconst (v := (0 : Int32)) hx hb dX2_feast_158 (by decide) ?_
                  cases hf
                  exact J159_95 _ _ Y _ (lv_sub hl [0, 1, 3] rfl)
                · rw [if_neg c_31] at hf
                  refine lv_aload_n hx hb dX2_feast_123 rfl (lv_at hl 0 rfl) ?_
                  refine lv_iload_n hx hb dX2_feast_124 rfl (lv_at hl 3 rfl) ?_
                  refine lv_iload hx hb dX2_feast_125 (lv_at hl 5 rfl) ?_
                  obtain ⟨r_32, hq_33, hf⟩ := bd1_s hf
                  refine mcI (av := [.int x3_12, .int j_22]) (rest := [.int x2_11]) 2 X Y (tX2_areEnemies l N G_30 x3_12 j_22 r_32 hq_33) (lw_V q1392 q1394 qs58 q70 q1395) ydX2_areEnemies ⟨rfl, rfl, by decide, by decide⟩ rfl hl.1 rfl (Nat.le_of_ble_eq_true rfl) ⟨Nat.zero_le _, Nat.zero_le _⟩ dX2_feast_127 (fun H locs Y => ?_)
                  refine lv_if_ne (tgt := 158) hx hb dX2_feast_130 (by decide) (fun c_34 => ?_) (fun c_34 => ?_)
                  · rw [if_neg c_34] at hf
                    refine lv_iconst (v := (0 : Int32)) hx hb dX2_feast_158 (by decide) ?_
                    cases hf
                    exact J159_95 _ _ Y _ (lv_sub hl [0, 1, 3] rfl)
                  · rw [if_pos c_34] at hf
                    refine lv_aload_n hx hb dX2_feast_133 rfl (lv_at hl 0 rfl) ?_
                    refine lv_iload_n hx hb dX2_feast_134 rfl (lv_at hl 3 rfl) ?_
                    refine lv_aload_n hx hb dX2_feast_135 rfl (lv_at hl 0 rfl) ?_
                    refine lv_aload_n hx hb dX2_feast_136 rfl (lv_at hl 0 rfl) ?_
                    refine lv_iload hx hb dX2_feast_137 (lv_at hl 4 rfl) ?_
                    refine lv_iconst (v := (-1 : Int32)) hx hb dX2_feast_139 (by decide) ?_
                    obtain ⟨r_35, hq_36, hf⟩ := bd1_s hf
                    refine mcI (av := [.int v_16, .int (-1 : Int32)]) (rest := [.ref h, .int x3_12, .ref h, .int x2_11]) 2 X Y (tX2_beside l N G_30 v_16 (-1 : Int32) r_35 hq_36) (lw_V q1388 q1390 qs57 q70 q1391) ydX2_beside ⟨rfl, rfl, by decide, by decide⟩ rfl hl.1 rfl (Nat.le_of_ble_eq_true rfl) ⟨Nat.zero_le _, Nat.zero_le _⟩ dX2_feast_140 (fun H locs Y => ?_)
                    obtain ⟨r_37, hq_38, hf⟩ := bd1_s hf
                    refine mcI (av := [.int r_35]) (rest := [.int x3_12, .ref h, .int x2_11]) 1 X Y (tX2_sitter l N G_30 r_35 r_37 hq_38) (lw_V q1310 q1312 qs46 q70 q1313) ydX2_sitter ⟨rfl, rfl, by decide, by decide⟩ rfl hl.1 rfl (Nat.le_of_ble_eq_true rfl) ⟨Nat.zero_le _, Nat.zero_le _⟩ dX2_feast_143 (fun H locs Y => ?_)
                    obtain ⟨r_39, hq_40, hf⟩ := bd1_s hf
                    refine mcI (av := [.int x3_12, .int r_37]) (rest := [.int x2_11]) 2 X Y (tX2_areEnemies l N G_30 x3_12 r_37 r_39 hq_40) (lw_V q1392 q1394 qs58 q70 q1395) ydX2_areEnemies ⟨rfl, rfl, by decide, by decide⟩ rfl hl.1 rfl (Nat.le_of_ble_eq_true rfl) ⟨Nat.zero_le _, Nat.zero_le _⟩ dX2_feast_146 (fun H locs Y => ?_)
                    refine lv_if_ne (tgt := 158) hx hb dX2_feast_149 (by decide) (fun c_41 => ?_) (fun c_41 => ?_)
                    · rw [if_neg c_41] at hf
                      refine lv_iconst (v := (0 : Int32)) hx hb dX2_feast_158 (by decide) ?_
                      cases hf
                      exact J159_95 _ _ Y _ (lv_sub hl [0, 1, 3] rfl)
                    · rw [if_pos c_41] at hf
                      refine lv_iconst (v := (1 : Int32)) hx hb dX2_feast_152 (by decide) ?_
                      refine lv_iload_n hx hb dX2_feast_153 rfl (lv_at hl 3 rfl) ?_
                      refine lv_ishl hx hb dX2_feast_154 ?_
                      refine lv_goto (tgt := 159) hx hb dX2_feast_155 (by decide) ?_
                      cases hf
                      exact J159_95 _ _ Y _ (lv_sub hl [0, 1, 3] rfl)
              replace hf := hj
              clear hj
              refine lv_icmp_ne (tgt := 104) hx hb dX2_feast_97 (by decide) (fun c_25 => ?_) (fun c_25 => ?_)
              · rw [if_neg c_25] at hf
                refine lv_aload_n hx hb dX2_feast_104 rfl (lv_at hl 1 rfl) ?_
                refine mg (v := .ref (ad 8)) X Y 8 (by decide) q1113 rfl rfl dX2_feast_105 ?_
                refine lv_bipush (v := (8 : Int32)) hx hb dX2_feast_108 (by decide) ?_
                refine lv_iload hx hb dX2_feast_110 (lv_at hl 0 rfl) ?_
                refine lv_iadd hx hb dX2_feast_112 ?_
                obtain ⟨b_26, hf⟩ := gd_s hf
                obtain ⟨v_27, ev_27, hf⟩ := nm_s hf
                refine ml (n := 20) X Y 8 4 rfl b_26 ev_27 dX2_feast_113 ?_
                cases hf
                exact J114_94 _ _ Y _ (lv_sub hl [1, 2, 3, 4, 5, 0] rfl)
              · rw [if_pos c_25] at hf
                refine lv_iconst (v := (0 : Int32)) hx hb dX2_feast_100 (by decide) ?_
                refine lv_goto (tgt := 114) hx hb dX2_feast_101 (by decide) ?_
                cases hf
                exact J114_94 _ _ Y _ (lv_sub hl [1, 2, 3, 4, 5, 0] rfl)
            replace hf := hj
            clear hj
            refine lv_icmp_ne (tgt := 67) hx hb dX2_feast_60 (by decide) (fun c_17 => ?_) (fun c_17 => ?_)
            · rw [if_neg c_17] at hf
              refine lv_aload_n hx hb dX2_feast_67 rfl (lv_at hl 1 rfl) ?_
              refine lv_aload_n hx hb dX2_feast_68 rfl (lv_at hl 1 rfl) ?_
              refine lv_iload hx hb dX2_feast_69 (lv_at hl 0 rfl) ?_
              refine lv_iconst (v := (1 : Int32)) hx hb dX2_feast_71 (by decide) ?_
              obtain ⟨r_18, hq_19, hf⟩ := bd1_s hf
              refine mcI (av := [.int v_16, .int (1 : Int32)]) (rest := [.ref h]) 2 X Y (tX2_beside l N G_13 v_16 (1 : Int32) r_18 hq_19) (lw_V q1388 q1390 qs57 q70 q1391) ydX2_beside ⟨rfl, rfl, by decide, by decide⟩ rfl hl.1 rfl (Nat.le_of_ble_eq_true rfl) ⟨Nat.zero_le _, Nat.zero_le _⟩ dX2_feast_72 (fun H locs Y => ?_)
              obtain ⟨r_20, hq_21, hf⟩ := bd1_s hf
              refine mcI (av := [.int r_18]) (rest := []) 1 X Y (tX2_sitter l N G_13 r_18 r_20 hq_21) (lw_V q1310 q1312 qs46 q70 q1313) ydX2_sitter ⟨rfl, rfl, by decide, by decide⟩ rfl hl.1 rfl (Nat.le_of_ble_eq_true rfl) ⟨Nat.zero_le _, Nat.zero_le _⟩ dX2_feast_75 (fun H locs Y => ?_)
              cases hf
              exact J78_93 _ _ Y _ (lv_sub hl [1, 2, 3, 4, 0] rfl)
            · rw [if_pos c_17] at hf
              refine lv_iconst (v := (-1 : Int32)) hx hb dX2_feast_63 (by decide) ?_
              refine lv_goto (tgt := 78) hx hb dX2_feast_64 (by decide) ?_
              cases hf
              exact J78_93 _ _ Y _ (lv_sub hl [1, 2, 3, 4, 0] rfl)
      exact L38_88 N _ _ _ hL _ _ Y _ (lv_sub hl [3, 2, 1, 0] rfl)
    · rw [if_pos c_6] at hf
      refine lv_bipush (v := (-5 : Int32)) hx hb dX2_feast_22 (by decide) ?_
      cases hf
      exact m_iret X Y dX2_feast_24
  · rw [if_pos c_3] at hf
    refine lv_bipush (v := (-4 : Int32)) hx hb dX2_feast_7 (by decide) ?_
    cases hf
    exact m_iret X Y dX2_feast_9

def fX2_undo_L22 (N : Nat) : Nat → Int32 → GS → Option GS
  | 0, _, _ => none
  | n_ + 1, x1_3, G_4 =>
    if (20 : Int32) ≤ x1_3 then (
     some G_4
    ) else (
     gd (inb (((20 : Int32) * (G_4 0 9)) + x1_3) 160) <|
     nm (G_4 10 ((((20 : Int32) * (G_4 0 9)) + x1_3)).toNatClampNeg : Int32) fun v_7 =>
     gd (inb x1_3 20) <|
     nm (gu G_4 8 (x1_3).toNatClampNeg v_7 : GS) fun G_9 =>
     nm ((x1_3 + (1 : Int32)) : Int32) fun x1_10 =>
     fX2_undo_L22 N n_ x1_10 G_9
    )
def fX2_undo (N : Nat) (G : GS) : Option (Int32 × GS) :=
  if (G 0 9) = (0 : Int32) then (
   some ((-4 : Int32), G)
  ) else (
   nm (gu G 0 9 ((G 0 9) - (1 : Int32)) : GS) fun G_2 =>
   bd1 (fX2_undo_L22 N N (0 : Int32) G_2) fun G_11 =>
   some ((G_11 0 9), G_11)
  )
theorem ydX2_undo : yX2_undo.cls = RX2 ∧ yX2_undo.cls ≠ "java/lang/invoke/MethodHandle" ∧ yX2_undo.cls ≠ "java/lang/invoke/VarHandle" ∧ (parseMethodDescriptor yX2_undo.desc).map (fun d => d.parameters.length) = some 0 := by decide +kernel
set_option maxHeartbeats 4000000 in
theorem tX2_undo (l : Launch) (N : Nat) (G : GS) (r : Int32) (G' : GS) (hf : fX2_undo N G = some (r, G')) : mMet l yX2_undo cX2_undo 2 (some .int) (mR 0) [] G (some (.int r)) G' := by
  unfold fX2_undo at hf
  refine mMet_of (by decide +kernel) rfl (Nat.le_of_ble_eq_true rfl) (fun {p e s m args below meth c ls D cA h ad A} X Y hl => ?_)
  have hx := X.1.1
  have hb := X.1.2.1
  have hl : lv_has ls 2 [(0, .ref h)] := hl
  refine lv_aload_n hx hb dX2_undo_0 rfl (lv_at hl 0 rfl) ?_
  refine mg (v := .int (G 0 9)) X Y 9 (by decide) q1114 rfl rfl dX2_undo_1 ?_
  refine lv_if_ne (tgt := 10) hx hb dX2_undo_4 (by decide) (fun c_1 => ?_) (fun c_1 => ?_)
  · rw [if_neg c_1] at hf
    refine lv_aload_n hx hb dX2_undo_10 rfl (lv_at hl 0 rfl) ?_
    refine lv_dup hx hb dX2_undo_11 rfl ?_
    refine mg (v := .int (G 0 9)) X Y 9 (by decide) q1114 rfl rfl dX2_undo_12 ?_
    refine lv_iconst (v := (1 : Int32)) hx hb dX2_undo_15 (by decide) ?_
    refine lv_isub hx hb dX2_undo_16 ?_
    obtain ⟨G_2, eG_2, hf⟩ := nm_s hf
    refine mp X Y 9 (by decide) q1114 ⟨rfl, rfl⟩ rfl mz0_9 eG_2 dX2_undo_17 (fun H locs Y => ?_)
    refine lv_iconst (v := (0 : Int32)) hx hb dX2_undo_20 (by decide) ?_
    refine lv_istore_n (lv' := [(1, .int (0 : Int32)), (0, .ref h)]) hx hb dX2_undo_21 rfl hl (by decide) rfl (fun ls hl => ?_)
    obtain ⟨G_11, hL, hf⟩ := bd1_s hf
    have E22_12 : ∀ (H : Heap) (locs : List Loc), WX D A s (mW h ad cA G_11) H locs → ∀ ls : Array Slot, lv_has ls 2 [(0, .ref h)] → W p l e (mR 0) s m args below meth c H locs 0 0 (MQ below (mQ D cA h ad A (some (.int r)) G') args s 0 0 A) (F0 m 54 ls []) := by
      clear hL
      intro H locs Y ls hl
      refine lv_aload_n hx hb dX2_undo_54 rfl (lv_at hl 0 rfl) ?_
      refine mg (v := .int (G_11 0 9)) X Y 9 (by decide) q1114 rfl rfl dX2_undo_55 ?_
      cases hf
      exact m_iret X Y dX2_undo_58
    clear hf
    have L22_12 : ∀ (n_ : Nat) (x1_3 : Int32) (G_4 : GS), fX2_undo_L22 N n_ x1_3 G_4 = some G_11 → ∀ (H : Heap) (locs : List Loc), WX D A s (mW h ad cA G_4) H locs → ∀ ls : Array Slot, lv_has ls 2 [(0, .ref h), (1, .int x1_3)] → W p l e (mR 0) s m args below meth c H locs 0 0 (MQ below (mQ D cA h ad A (some (.int r)) G') args s 0 0 A) (F0 m 22 ls []) := by
      clear hL
      intro n_
      induction n_ with
      | zero =>
        intro x1_3 G_4 hf
        rw [fX2_undo_L22.eq_1] at hf
        cases hf
      | succ n_ ih =>
        intro x1_3 G_4 hf
        intro H locs Y ls hl
        rw [fX2_undo_L22.eq_2] at hf
        refine lv_iload_n hx hb dX2_undo_22 rfl (lv_at hl 1 rfl) ?_
        refine lv_bipush (v := (20 : Int32)) hx hb dX2_undo_23 (by decide) ?_
        refine lv_icmp_ge (tgt := 54) hx hb dX2_undo_25 (by decide) (fun c_5 => ?_) (fun c_5 => ?_)
        · rw [if_pos c_5] at hf
          cases hf
          exact E22_12 _ _ Y _ (lv_sub hl [0] rfl)
        · rw [if_neg c_5] at hf
          refine lv_aload_n hx hb dX2_undo_28 rfl (lv_at hl 0 rfl) ?_
          refine mg (v := .ref (ad 8)) X Y 8 (by decide) q1113 rfl rfl dX2_undo_29 ?_
          refine lv_iload_n hx hb dX2_undo_32 rfl (lv_at hl 1 rfl) ?_
          refine lv_aload_n hx hb dX2_undo_33 rfl (lv_at hl 0 rfl) ?_
          refine mg (v := .ref (ad 10)) X Y 10 (by decide) q1115 rfl rfl dX2_undo_34 ?_
          refine lv_bipush (v := (20 : Int32)) hx hb dX2_undo_37 (by decide) ?_
          refine lv_aload_n hx hb dX2_undo_39 rfl (lv_at hl 0 rfl) ?_
          refine mg (v := .int (G_4 0 9)) X Y 9 (by decide) q1114 rfl rfl dX2_undo_40 ?_
          refine lv_imul hx hb dX2_undo_43 ?_
          refine lv_iload_n hx hb dX2_undo_44 rfl (lv_at hl 1 rfl) ?_
          refine lv_iadd hx hb dX2_undo_45 ?_
          obtain ⟨b_6, hf⟩ := gd_s hf
          obtain ⟨v_7, ev_7, hf⟩ := nm_s hf
          refine ml (n := 160) X Y 10 5 rfl b_6 ev_7 dX2_undo_46 ?_
          obtain ⟨b_8, hf⟩ := gd_s hf
          obtain ⟨G_9, eG_9, hf⟩ := nm_s hf
          refine ms (n := 20) X Y 8 4 rfl mz8 b_8 eG_9 dX2_undo_47 (fun H locs Y => ?_)
          obtain ⟨x1_10, ex1_10, hf⟩ := nm_s hf
          refine lv_iinc (v := x1_10) (lv' := [(1, .int x1_10), (0, .ref h)]) hx hb dX2_undo_48 hl (k := 1) rfl (by rw [ex1_10]; rfl) (by decide) rfl (fun ls hl => ?_)
          refine lv_goto (tgt := 22) hx hb dX2_undo_51 (by decide) ?_
          exact ih _ _ hf _ _ Y _ (lv_sub hl [1, 0] rfl)
    exact L22_12 N _ _ hL _ _ Y _ (lv_sub hl [1, 0] rfl)
  · rw [if_pos c_1] at hf
    refine lv_bipush (v := (-4 : Int32)) hx hb dX2_undo_7 (by decide) ?_
    cases hf
    exact m_iret X Y dX2_undo_9

def fX2_keep_L14 (N : Nat) (a1 : Int32) : Nat → Int32 → GS → Option GS
  | 0, _, _ => none
  | n_ + 1, x2_4, G_5 =>
    if (20 : Int32) ≤ x2_4 then (
     some G_5
    ) else (
     gd (inb x2_4 20) <|
     nm (G_5 8 (x2_4).toNatClampNeg : Int32) fun v_8 =>
     gd (inb (((20 : Int32) * a1) + x2_4) 40) <|
     nm (gu G_5 11 ((((20 : Int32) * a1) + x2_4)).toNatClampNeg v_8 : GS) fun G_10 =>
     nm ((x2_4 + (1 : Int32)) : Int32) fun x2_11 =>
     fX2_keep_L14 N a1 n_ x2_11 G_10
    )
def fX2_keep (N : Nat) (G : GS) (a1 : Int32) : Option (Int32 × GS) :=
  bd1 (fX2_in N a1 (0 : Int32) (1 : Int32)) fun r_1 =>
  if r_1 = (0 : Int32) then (
   some ((-2 : Int32), G)
  ) else (
   bd1 (fX2_keep_L14 N a1 N (0 : Int32) G) fun G_12 =>
   gd (inb a1 2) <|
   nm (gu G_12 12 (a1).toNatClampNeg (1 : Int32) : GS) fun G_14 =>
   gd (inb (0 : Int32) 20) <|
   nm (G_14 8 ((0 : Int32)).toNatClampNeg : Int32) fun v_16 =>
   some (v_16, G_14)
  )
theorem ydX2_keep : yX2_keep.cls = RX2 ∧ yX2_keep.cls ≠ "java/lang/invoke/MethodHandle" ∧ yX2_keep.cls ≠ "java/lang/invoke/VarHandle" ∧ (parseMethodDescriptor yX2_keep.desc).map (fun d => d.parameters.length) = some 1 := by decide +kernel
set_option maxHeartbeats 4000000 in
theorem tX2_keep (l : Launch) (N : Nat) (G : GS) (a1 : Int32) (r : Int32) (G' : GS) (hf : fX2_keep N G a1 = some (r, G')) : mMet l yX2_keep cX2_keep 3 (some .int) (mR 1) [.int a1] G (some (.int r)) G' := by
  unfold fX2_keep at hf
  refine mMet_of (by decide +kernel) rfl (Nat.le_of_ble_eq_true rfl) (fun {p e s m args below meth c ls D cA h ad A} X Y hl => ?_)
  have hx := X.1.1
  have hb := X.1.2.1
  have hl : lv_has ls 3 [(0, .ref h), (1, .int a1)] := hl
  refine lv_iload_n hx hb dX2_keep_0 rfl (lv_at hl 1 rfl) ?_
  refine lv_iconst (v := (0 : Int32)) hx hb dX2_keep_1 (by decide) ?_
  refine lv_iconst (v := (1 : Int32)) hx hb dX2_keep_2 (by decide) ?_
  obtain ⟨r_1, hq_2, hf⟩ := bd1_s hf
  refine w_callSI (av := [.int a1, .int (0 : Int32), .int (1 : Int32)]) (rest := []) 3 X Y (tX2_in l N a1 (0 : Int32) (1 : Int32) r_1 hq_2) (lw_S q1225 q1226 q70 q1227) ydX2_in ⟨rfl, rfl, by decide, by decide⟩ rfl hl.1 rfl (Nat.le_of_ble_eq_true rfl) ⟨Nat.zero_le _, Nat.zero_le _⟩ dX2_keep_3 (fun H locs Y => ?_)
  refine lv_if_ne (tgt := 12) hx hb dX2_keep_6 (by decide) (fun c_3 => ?_) (fun c_3 => ?_)
  · rw [if_neg c_3] at hf
    refine lv_iconst (v := (0 : Int32)) hx hb dX2_keep_12 (by decide) ?_
    refine lv_istore_n (lv' := [(2, .int (0 : Int32)), (0, .ref h), (1, .int a1)]) hx hb dX2_keep_13 rfl hl (by decide) rfl (fun ls hl => ?_)
    obtain ⟨G_12, hL, hf⟩ := bd1_s hf
    have E14_17 : ∀ (H : Heap) (locs : List Loc), WX D A s (mW h ad cA G_12) H locs → ∀ ls : Array Slot, lv_has ls 3 [(0, .ref h), (1, .int a1)] → W p l e (mR 1) s m args below meth c H locs 0 0 (MQ below (mQ D cA h ad A (some (.int r)) G') args s 0 0 A) (F0 m 43 ls []) := by
      clear hL
      intro H locs Y ls hl
      refine lv_aload_n hx hb dX2_keep_43 rfl (lv_at hl 0 rfl) ?_
      refine mg (v := .ref (ad 12)) X Y 12 (by decide) q1117 rfl rfl dX2_keep_44 ?_
      refine lv_iload_n hx hb dX2_keep_47 rfl (lv_at hl 1 rfl) ?_
      refine lv_iconst (v := (1 : Int32)) hx hb dX2_keep_48 (by decide) ?_
      obtain ⟨b_13, hf⟩ := gd_s hf
      obtain ⟨G_14, eG_14, hf⟩ := nm_s hf
      refine msZ (n := 2) X Y 12 7 rfl mz12 b_13 (by decide) eG_14 dX2_keep_49 (fun H locs Y => ?_)
      refine lv_aload_n hx hb dX2_keep_50 rfl (lv_at hl 0 rfl) ?_
      refine mg (v := .ref (ad 8)) X Y 8 (by decide) q1113 rfl rfl dX2_keep_51 ?_
      refine lv_iconst (v := (0 : Int32)) hx hb dX2_keep_54 (by decide) ?_
      obtain ⟨b_15, hf⟩ := gd_s hf
      obtain ⟨v_16, ev_16, hf⟩ := nm_s hf
      refine ml (n := 20) X Y 8 4 rfl b_15 ev_16 dX2_keep_55 ?_
      cases hf
      exact m_iret X Y dX2_keep_56
    clear hf
    have L14_17 : ∀ (n_ : Nat) (x2_4 : Int32) (G_5 : GS), fX2_keep_L14 N a1 n_ x2_4 G_5 = some G_12 → ∀ (H : Heap) (locs : List Loc), WX D A s (mW h ad cA G_5) H locs → ∀ ls : Array Slot, lv_has ls 3 [(0, .ref h), (1, .int a1), (2, .int x2_4)] → W p l e (mR 1) s m args below meth c H locs 0 0 (MQ below (mQ D cA h ad A (some (.int r)) G') args s 0 0 A) (F0 m 14 ls []) := by
      clear hL
      intro n_
      induction n_ with
      | zero =>
        intro x2_4 G_5 hf
        rw [fX2_keep_L14.eq_1] at hf
        cases hf
      | succ n_ ih =>
        intro x2_4 G_5 hf
        intro H locs Y ls hl
        rw [fX2_keep_L14.eq_2] at hf
        refine lv_iload_n hx hb dX2_keep_14 rfl (lv_at hl 2 rfl) ?_
        refine lv_bipush (v := (20 : Int32)) hx hb dX2_keep_15 (by decide) ?_
        refine lv_icmp_ge (tgt := 43) hx hb dX2_keep_17 (by decide) (fun c_6 => ?_) (fun c_6 => ?_)
        · rw [if_pos c_6] at hf
          cases hf
          exact E14_17 _ _ Y _ (lv_sub hl [0, 1] rfl)
        · rw [if_neg c_6] at hf
          refine lv_aload_n hx hb dX2_keep_20 rfl (lv_at hl 0 rfl) ?_
          refine mg (v := .ref (ad 11)) X Y 11 (by decide) q1116 rfl rfl dX2_keep_21 ?_
          refine lv_bipush (v := (20 : Int32)) hx hb dX2_keep_24 (by decide) ?_
          refine lv_iload_n hx hb dX2_keep_26 rfl (lv_at hl 1 rfl) ?_
          refine lv_imul hx hb dX2_keep_27 ?_
          refine lv_iload_n hx hb dX2_keep_28 rfl (lv_at hl 2 rfl) ?_
          refine lv_iadd hx hb dX2_keep_29 ?_
          refine lv_aload_n hx hb dX2_keep_30 rfl (lv_at hl 0 rfl) ?_
          refine mg (v := .ref (ad 8)) X Y 8 (by decide) q1113 rfl rfl dX2_keep_31 ?_
          refine lv_iload_n hx hb dX2_keep_34 rfl (lv_at hl 2 rfl) ?_
          obtain ⟨b_7, hf⟩ := gd_s hf
          obtain ⟨v_8, ev_8, hf⟩ := nm_s hf
          refine ml (n := 20) X Y 8 4 rfl b_7 ev_8 dX2_keep_35 ?_
          obtain ⟨b_9, hf⟩ := gd_s hf
          obtain ⟨G_10, eG_10, hf⟩ := nm_s hf
          refine ms (n := 40) X Y 11 6 rfl mz11 b_9 eG_10 dX2_keep_36 (fun H locs Y => ?_)
          obtain ⟨x2_11, ex2_11, hf⟩ := nm_s hf
          refine lv_iinc (v := x2_11) (lv' := [(2, .int x2_11), (0, .ref h), (1, .int a1)]) hx hb dX2_keep_37 hl (k := 2) rfl (by rw [ex2_11]; rfl) (by decide) rfl (fun ls hl => ?_)
          refine lv_goto (tgt := 14) hx hb dX2_keep_40 (by decide) ?_
          exact ih _ _ hf _ _ Y _ (lv_sub hl [1, 2, 0] rfl)
    exact L14_17 N _ _ hL _ _ Y _ (lv_sub hl [1, 2, 0] rfl)
  · rw [if_pos c_3] at hf
    refine lv_bipush (v := (-2 : Int32)) hx hb dX2_keep_9 (by decide) ?_
    cases hf
    exact m_iret X Y dX2_keep_11

def fX2_back_L26 (N : Nat) (a1 : Int32) : Nat → Int32 → GS → Option GS
  | 0, _, _ => none
  | n_ + 1, x2_7, G_8 =>
    if (20 : Int32) ≤ x2_7 then (
     some G_8
    ) else (
     gd (inb (((20 : Int32) * a1) + x2_7) 40) <|
     nm (G_8 11 ((((20 : Int32) * a1) + x2_7)).toNatClampNeg : Int32) fun v_11 =>
     gd (inb x2_7 20) <|
     nm (gu G_8 8 (x2_7).toNatClampNeg v_11 : GS) fun G_13 =>
     nm ((x2_7 + (1 : Int32)) : Int32) fun x2_14 =>
     fX2_back_L26 N a1 n_ x2_14 G_13
    )
def fX2_back (N : Nat) (G : GS) (a1 : Int32) : Option (Int32 × GS) :=
  bd1 (fX2_in N a1 (0 : Int32) (1 : Int32)) fun r_1 =>
  if r_1 = (0 : Int32) then (
   some ((-2 : Int32), G)
  ) else (
   gd (inb a1 2) <|
   nm (G 12 (a1).toNatClampNeg : Int32) fun v_5 =>
   if v_5 = (0 : Int32) then (
    some ((-4 : Int32), G)
   ) else (
    bd1 (fX2_back_L26 N a1 N (0 : Int32) G) fun G_15 =>
    nm (gu G_15 0 9 (0 : Int32) : GS) fun G_16 =>
    gd (inb (0 : Int32) 20) <|
    nm (G_16 8 ((0 : Int32)).toNatClampNeg : Int32) fun v_18 =>
    some (v_18, G_16)
   )
  )
theorem ydX2_back : yX2_back.cls = RX2 ∧ yX2_back.cls ≠ "java/lang/invoke/MethodHandle" ∧ yX2_back.cls ≠ "java/lang/invoke/VarHandle" ∧ (parseMethodDescriptor yX2_back.desc).map (fun d => d.parameters.length) = some 1 := by decide +kernel
set_option maxHeartbeats 4000000 in
theorem tX2_back (l : Launch) (N : Nat) (G : GS) (a1 : Int32) (r : Int32) (G' : GS) (hf : fX2_back N G a1 = some (r, G')) : mMet l yX2_back cX2_back 3 (some .int) (mR 1) [.int a1] G (some (.int r)) G' := by
  unfold fX2_back at hf
  refine mMet_of (by decide +kernel) rfl (Nat.le_of_ble_eq_true rfl) (fun {p e s m args below meth c ls D cA h ad A} X Y hl => ?_)
  have hx := X.1.1
  have hb := X.1.2.1
  have hl : lv_has ls 3 [(0, .ref h), (1, .int a1)] := hl
  refine lv_iload_n hx hb dX2_back_0 rfl (lv_at hl 1 rfl) ?_
  refine lv_iconst (v := (0 : Int32)) hx hb dX2_back_1 (by decide) ?_
  refine lv_iconst (v := (1 : Int32)) hx hb dX2_back_2 (by decide) ?_
  obtain ⟨r_1, hq_2, hf⟩ := bd1_s hf
  refine w_callSI (av := [.int a1, .int (0 : Int32), .int (1 : Int32)]) (rest := []) 3 X Y (tX2_in l N a1 (0 : Int32) (1 : Int32) r_1 hq_2) (lw_S q1225 q1226 q70 q1227) ydX2_in ⟨rfl, rfl, by decide, by decide⟩ rfl hl.1 rfl (Nat.le_of_ble_eq_true rfl) ⟨Nat.zero_le _, Nat.zero_le _⟩ dX2_back_3 (fun H locs Y => ?_)
  refine lv_if_ne (tgt := 12) hx hb dX2_back_6 (by decide) (fun c_3 => ?_) (fun c_3 => ?_)
  · rw [if_neg c_3] at hf
    refine lv_aload_n hx hb dX2_back_12 rfl (lv_at hl 0 rfl) ?_
    refine mg (v := .ref (ad 12)) X Y 12 (by decide) q1117 rfl rfl dX2_back_13 ?_
    refine lv_iload_n hx hb dX2_back_16 rfl (lv_at hl 1 rfl) ?_
    obtain ⟨b_4, hf⟩ := gd_s hf
    obtain ⟨v_5, ev_5, hf⟩ := nm_s hf
    refine mlZ (n := 2) X Y 12 7 rfl b_4 ev_5 dX2_back_17 ?_
    refine lv_if_ne (tgt := 24) hx hb dX2_back_18 (by decide) (fun c_6 => ?_) (fun c_6 => ?_)
    · rw [if_neg c_6] at hf
      refine lv_iconst (v := (0 : Int32)) hx hb dX2_back_24 (by decide) ?_
      refine lv_istore_n (lv' := [(2, .int (0 : Int32)), (0, .ref h), (1, .int a1)]) hx hb dX2_back_25 rfl hl (by decide) rfl (fun ls hl => ?_)
      obtain ⟨G_15, hL, hf⟩ := bd1_s hf
      have E26_19 : ∀ (H : Heap) (locs : List Loc), WX D A s (mW h ad cA G_15) H locs → ∀ ls : Array Slot, lv_has ls 3 [(0, .ref h)] → W p l e (mR 1) s m args below meth c H locs 0 0 (MQ below (mQ D cA h ad A (some (.int r)) G') args s 0 0 A) (F0 m 55 ls []) := by
        clear hL
        intro H locs Y ls hl
        refine lv_aload_n hx hb dX2_back_55 rfl (lv_at hl 0 rfl) ?_
        refine lv_iconst (v := (0 : Int32)) hx hb dX2_back_56 (by decide) ?_
        obtain ⟨G_16, eG_16, hf⟩ := nm_s hf
        refine mp X Y 9 (by decide) q1114 ⟨rfl, rfl⟩ rfl mz0_9 eG_16 dX2_back_57 (fun H locs Y => ?_)
        refine lv_aload_n hx hb dX2_back_60 rfl (lv_at hl 0 rfl) ?_
        refine mg (v := .ref (ad 8)) X Y 8 (by decide) q1113 rfl rfl dX2_back_61 ?_
        refine lv_iconst (v := (0 : Int32)) hx hb dX2_back_64 (by decide) ?_
        obtain ⟨b_17, hf⟩ := gd_s hf
        obtain ⟨v_18, ev_18, hf⟩ := nm_s hf
        refine ml (n := 20) X Y 8 4 rfl b_17 ev_18 dX2_back_65 ?_
        cases hf
        exact m_iret X Y dX2_back_66
      clear hf
      have L26_19 : ∀ (n_ : Nat) (x2_7 : Int32) (G_8 : GS), fX2_back_L26 N a1 n_ x2_7 G_8 = some G_15 → ∀ (H : Heap) (locs : List Loc), WX D A s (mW h ad cA G_8) H locs → ∀ ls : Array Slot, lv_has ls 3 [(0, .ref h), (1, .int a1), (2, .int x2_7)] → W p l e (mR 1) s m args below meth c H locs 0 0 (MQ below (mQ D cA h ad A (some (.int r)) G') args s 0 0 A) (F0 m 26 ls []) := by
        clear hL
        intro n_
        induction n_ with
        | zero =>
          intro x2_7 G_8 hf
          rw [fX2_back_L26.eq_1] at hf
          cases hf
        | succ n_ ih =>
          intro x2_7 G_8 hf
          intro H locs Y ls hl
          rw [fX2_back_L26.eq_2] at hf
          refine lv_iload_n hx hb dX2_back_26 rfl (lv_at hl 2 rfl) ?_
          refine lv_bipush (v := (20 : Int32)) hx hb dX2_back_27 (by decide) ?_
          refine lv_icmp_ge (tgt := 55) hx hb dX2_back_29 (by decide) (fun c_9 => ?_) (fun c_9 => ?_)
          · rw [if_pos c_9] at hf
            cases hf
            exact E26_19 _ _ Y _ (lv_sub hl [0] rfl)
          · rw [if_neg c_9] at hf
            refine lv_aload_n hx hb dX2_back_32 rfl (lv_at hl 0 rfl) ?_
            refine mg (v := .ref (ad 8)) X Y 8 (by decide) q1113 rfl rfl dX2_back_33 ?_
            refine lv_iload_n hx hb dX2_back_36 rfl (lv_at hl 2 rfl) ?_
            refine lv_aload_n hx hb dX2_back_37 rfl (lv_at hl 0 rfl) ?_
            refine mg (v := .ref (ad 11)) X Y 11 (by decide) q1116 rfl rfl dX2_back_38 ?_
            refine lv_bipush (v := (20 : Int32)) hx hb dX2_back_41 (by decide) ?_
            refine lv_iload_n hx hb dX2_back_43 rfl (lv_at hl 1 rfl) ?_
            refine lv_imul hx hb dX2_back_44 ?_
            refine lv_iload_n hx hb dX2_back_45 rfl (lv_at hl 2 rfl) ?_
            refine lv_iadd hx hb dX2_back_46 ?_
            obtain ⟨b_10, hf⟩ := gd_s hf
            obtain ⟨v_11, ev_11, hf⟩ := nm_s hf
            refine ml (n := 40) X Y 11 6 rfl b_10 ev_11 dX2_back_47 ?_
            obtain ⟨b_12, hf⟩ := gd_s hf
            obtain ⟨G_13, eG_13, hf⟩ := nm_s hf
            refine ms (n := 20) X Y 8 4 rfl mz8 b_12 eG_13 dX2_back_48 (fun H locs Y => ?_)
            obtain ⟨x2_14, ex2_14, hf⟩ := nm_s hf
            refine lv_iinc (v := x2_14) (lv' := [(2, .int x2_14), (0, .ref h), (1, .int a1)]) hx hb dX2_back_49 hl (k := 2) rfl (by rw [ex2_14]; rfl) (by decide) rfl (fun ls hl => ?_)
            refine lv_goto (tgt := 26) hx hb dX2_back_52 (by decide) ?_
            exact ih _ _ hf _ _ Y _ (lv_sub hl [1, 2, 0] rfl)
      exact L26_19 N _ _ hL _ _ Y _ (lv_sub hl [1, 2, 0] rfl)
    · rw [if_pos c_6] at hf
      refine lv_bipush (v := (-4 : Int32)) hx hb dX2_back_21 (by decide) ?_
      cases hf
      exact m_iret X Y dX2_back_23
  · rw [if_pos c_3] at hf
    refine lv_bipush (v := (-2 : Int32)) hx hb dX2_back_9 (by decide) ?_
    cases hf
    exact m_iret X Y dX2_back_11

def fX2_nextThere_L4 (N : Nat) (G : GS) (a2 : Int32) : Nat → Int32 → Option Int32
  | 0, _ => none
  | n_ + 1, x3_2 =>
    bd1 (fX2_in N x3_2 (0 : Int32) ((G 0 2) - (1 : Int32))) fun r_3 =>
    if r_3 = (0 : Int32) then (
     some x3_2
    ) else (
     gd (inb (1 : Int32) 20) <|
     nm (G 8 ((1 : Int32)).toNatClampNeg : Int32) fun v_7 =>
     bd1 (fX2_has N v_7 x3_2) fun r_8 =>
     if r_8 = (0 : Int32) then (
      nm ((x3_2 + a2) : Int32) fun x3_11 =>
      fX2_nextThere_L4 N G a2 n_ x3_11
     ) else (
      some x3_2
     )
    )
def fX2_nextThere (N : Nat) (G : GS) (a1 : Int32) (a2 : Int32) : Option Int32 :=
  nm ((a1 + a2) : Int32) fun x3_1 =>
  bd1 (fX2_nextThere_L4 N G a2 N x3_1) fun x3_12 =>
  some x3_12
theorem ydX2_nextThere : yX2_nextThere.cls = RX2 ∧ yX2_nextThere.cls ≠ "java/lang/invoke/MethodHandle" ∧ yX2_nextThere.cls ≠ "java/lang/invoke/VarHandle" ∧ (parseMethodDescriptor yX2_nextThere.desc).map (fun d => d.parameters.length) = some 2 := by decide +kernel
set_option maxHeartbeats 4000000 in
theorem tX2_nextThere (l : Launch) (N : Nat) (G : GS) (a1 : Int32) (a2 : Int32) (r : Int32) (hf : fX2_nextThere N G a1 a2 = some r) : mMet l yX2_nextThere cX2_nextThere 4 (some .int) (mR 1) [.int a1, .int a2] G (some (.int r)) G := by
  unfold fX2_nextThere at hf
  refine mMet_of (by decide +kernel) rfl (Nat.le_of_ble_eq_true rfl) (fun {p e s m args below meth c ls D cA h ad A} X Y hl => ?_)
  have hx := X.1.1
  have hb := X.1.2.1
  have hl : lv_has ls 4 [(0, .ref h), (1, .int a1), (2, .int a2)] := hl
  refine lv_iload_n hx hb dX2_nextThere_0 rfl (lv_at hl 1 rfl) ?_
  refine lv_iload_n hx hb dX2_nextThere_1 rfl (lv_at hl 2 rfl) ?_
  refine lv_iadd hx hb dX2_nextThere_2 ?_
  obtain ⟨x3_1, ex3_1, hf⟩ := nm_s hf
  refine lv_topE ex3_1 ?_
  refine lv_istore_n (lv' := [(3, .int x3_1), (0, .ref h), (1, .int a1), (2, .int a2)]) hx hb dX2_nextThere_3 rfl hl (by decide) rfl (fun ls hl => ?_)
  obtain ⟨x3_12, hL, hf⟩ := bd1_s hf
  have E4_13 : ∀ (H : Heap) (locs : List Loc), WX D A s (mW h ad cA G) H locs → ∀ ls : Array Slot, lv_has ls 4 [(3, .int x3_12)] → W p l e (mR 1) s m args below meth c H locs 0 0 (MQ below (mQ D cA h ad A (some (.int r)) G) args s 0 0 A) (F0 m 38 ls []) := by
    clear hL
    intro H locs Y ls hl
    refine lv_iload_n hx hb dX2_nextThere_38 rfl (lv_at hl 0 rfl) ?_
    cases hf
    exact m_iret X Y dX2_nextThere_39
  clear hf
  have L4_13 : ∀ (n_ : Nat) (x3_2 : Int32), fX2_nextThere_L4 N G a2 n_ x3_2 = some x3_12 → ∀ (H : Heap) (locs : List Loc), WX D A s (mW h ad cA G) H locs → ∀ ls : Array Slot, lv_has ls 4 [(0, .ref h), (2, .int a2), (3, .int x3_2)] → W p l e (mR 1) s m args below meth c H locs 0 0 (MQ below (mQ D cA h ad A (some (.int r)) G) args s 0 0 A) (F0 m 4 ls []) := by
    clear hL
    intro n_
    induction n_ with
    | zero =>
      intro x3_2 hf
      rw [fX2_nextThere_L4.eq_1] at hf
      cases hf
    | succ n_ ih =>
      intro x3_2 hf
      intro H locs Y ls hl
      rw [fX2_nextThere_L4.eq_2] at hf
      refine lv_iload_n hx hb dX2_nextThere_4 rfl (lv_at hl 2 rfl) ?_
      refine lv_iconst (v := (0 : Int32)) hx hb dX2_nextThere_5 (by decide) ?_
      refine lv_aload_n hx hb dX2_nextThere_6 rfl (lv_at hl 0 rfl) ?_
      refine mg (v := .int (G 0 2)) X Y 2 (by decide) q1107 rfl rfl dX2_nextThere_7 ?_
      refine lv_iconst (v := (1 : Int32)) hx hb dX2_nextThere_10 (by decide) ?_
      refine lv_isub hx hb dX2_nextThere_11 ?_
      obtain ⟨r_3, hq_4, hf⟩ := bd1_s hf
      refine w_callSI (av := [.int x3_2, .int (0 : Int32), .int ((G 0 2) - (1 : Int32))]) (rest := []) 3 X Y (tX2_in l N x3_2 (0 : Int32) ((G 0 2) - (1 : Int32)) r_3 hq_4) (lw_S q1225 q1226 q70 q1227) ydX2_in ⟨rfl, rfl, by decide, by decide⟩ rfl hl.1 rfl (Nat.le_of_ble_eq_true rfl) ⟨Nat.zero_le _, Nat.zero_le _⟩ dX2_nextThere_12 (fun H locs Y => ?_)
      refine lv_if_eq (tgt := 38) hx hb dX2_nextThere_15 (by decide) (fun c_5 => ?_) (fun c_5 => ?_)
      · rw [if_pos c_5] at hf
        cases hf
        exact E4_13 _ _ Y _ (lv_sub hl [2] rfl)
      · rw [if_neg c_5] at hf
        refine lv_aload_n hx hb dX2_nextThere_18 rfl (lv_at hl 0 rfl) ?_
        refine mg (v := .ref (ad 8)) X Y 8 (by decide) q1113 rfl rfl dX2_nextThere_19 ?_
        refine lv_iconst (v := (1 : Int32)) hx hb dX2_nextThere_22 (by decide) ?_
        obtain ⟨b_6, hf⟩ := gd_s hf
        obtain ⟨v_7, ev_7, hf⟩ := nm_s hf
        refine ml (n := 20) X Y 8 4 rfl b_6 ev_7 dX2_nextThere_23 ?_
        refine lv_iload_n hx hb dX2_nextThere_24 rfl (lv_at hl 2 rfl) ?_
        obtain ⟨r_8, hq_9, hf⟩ := bd1_s hf
        refine w_callSI (av := [.int v_7, .int x3_2]) (rest := []) 2 X Y (tX2_has l N v_7 x3_2 r_8 hq_9) (lw_S q1326 q1327 q70 q1328) ydX2_has ⟨rfl, rfl, by decide, by decide⟩ rfl hl.1 rfl (Nat.le_of_ble_eq_true rfl) ⟨Nat.zero_le _, Nat.zero_le _⟩ dX2_nextThere_25 (fun H locs Y => ?_)
        refine lv_if_ne (tgt := 38) hx hb dX2_nextThere_28 (by decide) (fun c_10 => ?_) (fun c_10 => ?_)
        · rw [if_neg c_10] at hf
          cases hf
          exact E4_13 _ _ Y _ (lv_sub hl [2] rfl)
        · rw [if_pos c_10] at hf
          refine lv_iload_n hx hb dX2_nextThere_31 rfl (lv_at hl 2 rfl) ?_
          refine lv_iload_n hx hb dX2_nextThere_32 rfl (lv_at hl 1 rfl) ?_
          refine lv_iadd hx hb dX2_nextThere_33 ?_
          obtain ⟨x3_11, ex3_11, hf⟩ := nm_s hf
          refine lv_topE ex3_11 ?_
          refine lv_istore_n (lv' := [(3, .int x3_11), (0, .ref h), (2, .int a2)]) hx hb dX2_nextThere_34 rfl hl (by decide) rfl (fun ls hl => ?_)
          refine lv_goto (tgt := 4) hx hb dX2_nextThere_35 (by decide) ?_
          exact ih _ hf _ _ Y _ (lv_sub hl [1, 2, 0] rfl)
  exact L4_13 N _ hL _ _ Y _ (lv_sub hl [1, 3, 0] rfl)

def fX2_sitterBy_L4 (N : Nat) (G : GS) (a1 : Int32) : Nat → Int32 → Int32 → Option Int32
  | 0, _, _ => none
  | n_ + 1, x2_1, x3_2 =>
    if (G 0 2) ≤ x3_2 then (
     some x2_1
    ) else (
     gd (inb x3_2 6) <|
     nm (G 32 (x3_2).toNatClampNeg : Int32) fun v_5 =>
     bd1 (
      if v_5 = a1 then (
       some x3_2
      ) else (
       some x2_1
      )
     ) fun j_7 =>
     nm ((x3_2 + (1 : Int32)) : Int32) fun x3_8 =>
     fX2_sitterBy_L4 N G a1 n_ j_7 x3_8
    )
def fX2_sitterBy (N : Nat) (G : GS) (a1 : Int32) : Option Int32 :=
  bd1 (fX2_sitterBy_L4 N G a1 N (-1 : Int32) (0 : Int32)) fun x2_9 =>
  some x2_9
theorem ydX2_sitterBy : yX2_sitterBy.cls = RX2 ∧ yX2_sitterBy.cls ≠ "java/lang/invoke/MethodHandle" ∧ yX2_sitterBy.cls ≠ "java/lang/invoke/VarHandle" ∧ (parseMethodDescriptor yX2_sitterBy.desc).map (fun d => d.parameters.length) = some 1 := by decide +kernel
set_option maxHeartbeats 4000000 in
theorem tX2_sitterBy (l : Launch) (N : Nat) (G : GS) (a1 : Int32) (r : Int32) (hf : fX2_sitterBy N G a1 = some r) : mMet l yX2_sitterBy cX2_sitterBy 4 (some .int) (mR 0) [.int a1] G (some (.int r)) G := by
  unfold fX2_sitterBy at hf
  refine mMet_of (by decide +kernel) rfl (Nat.le_of_ble_eq_true rfl) (fun {p e s m args below meth c ls D cA h ad A} X Y hl => ?_)
  have hx := X.1.1
  have hb := X.1.2.1
  have hl : lv_has ls 4 [(0, .ref h), (1, .int a1)] := hl
  refine lv_iconst (v := (-1 : Int32)) hx hb dX2_sitterBy_0 (by decide) ?_
  refine lv_istore_n (lv' := [(2, .int (-1 : Int32)), (0, .ref h), (1, .int a1)]) hx hb dX2_sitterBy_1 rfl hl (by decide) rfl (fun ls hl => ?_)
  refine lv_iconst (v := (0 : Int32)) hx hb dX2_sitterBy_2 (by decide) ?_
  refine lv_istore_n (lv' := [(3, .int (0 : Int32)), (2, .int (-1 : Int32)), (0, .ref h), (1, .int a1)]) hx hb dX2_sitterBy_3 rfl hl (by decide) rfl (fun ls hl => ?_)
  obtain ⟨x2_9, hL, hf⟩ := bd1_s hf
  have E4_10 : ∀ (H : Heap) (locs : List Loc), WX D A s (mW h ad cA G) H locs → ∀ ls : Array Slot, lv_has ls 4 [(2, .int x2_9)] → W p l e (mR 0) s m args below meth c H locs 0 0 (MQ below (mQ D cA h ad A (some (.int r)) G) args s 0 0 A) (F0 m 34 ls []) := by
    clear hL
    intro H locs Y ls hl
    refine lv_iload_n hx hb dX2_sitterBy_34 rfl (lv_at hl 0 rfl) ?_
    cases hf
    exact m_iret X Y dX2_sitterBy_35
  clear hf
  have L4_10 : ∀ (n_ : Nat) (x2_1 : Int32) (x3_2 : Int32), fX2_sitterBy_L4 N G a1 n_ x2_1 x3_2 = some x2_9 → ∀ (H : Heap) (locs : List Loc), WX D A s (mW h ad cA G) H locs → ∀ ls : Array Slot, lv_has ls 4 [(0, .ref h), (1, .int a1), (2, .int x2_1), (3, .int x3_2)] → W p l e (mR 0) s m args below meth c H locs 0 0 (MQ below (mQ D cA h ad A (some (.int r)) G) args s 0 0 A) (F0 m 4 ls []) := by
    clear hL
    intro n_
    induction n_ with
    | zero =>
      intro x2_1 x3_2 hf
      rw [fX2_sitterBy_L4.eq_1] at hf
      cases hf
    | succ n_ ih =>
      intro x2_1 x3_2 hf
      intro H locs Y ls hl
      rw [fX2_sitterBy_L4.eq_2] at hf
      refine lv_iload_n hx hb dX2_sitterBy_4 rfl (lv_at hl 3 rfl) ?_
      refine lv_aload_n hx hb dX2_sitterBy_5 rfl (lv_at hl 0 rfl) ?_
      refine mg (v := .int (G 0 2)) X Y 2 (by decide) q1107 rfl rfl dX2_sitterBy_6 ?_
      refine lv_icmp_ge (tgt := 34) hx hb dX2_sitterBy_9 (by decide) (fun c_3 => ?_) (fun c_3 => ?_)
      · rw [if_pos c_3] at hf
        cases hf
        exact E4_10 _ _ Y _ (lv_sub hl [2] rfl)
      · rw [if_neg c_3] at hf
        refine lv_aload_n hx hb dX2_sitterBy_12 rfl (lv_at hl 0 rfl) ?_
        refine mg (v := .ref (ad 32)) X Y 32 (by decide) q1137 rfl rfl dX2_sitterBy_13 ?_
        refine lv_iload_n hx hb dX2_sitterBy_16 rfl (lv_at hl 3 rfl) ?_
        obtain ⟨b_4, hf⟩ := gd_s hf
        obtain ⟨v_5, ev_5, hf⟩ := nm_s hf
        refine ml (n := 6) X Y 32 14 rfl b_4 ev_5 dX2_sitterBy_17 ?_
        refine lv_iload_n hx hb dX2_sitterBy_18 rfl (lv_at hl 1 rfl) ?_
        obtain ⟨j_7, hj, hf⟩ := bd1_s hf
        have J27_11 : ∀ (H : Heap) (locs : List Loc), WX D A s (mW h ad cA G) H locs → ∀ ls : Array Slot, lv_has ls 4 [(0, .ref h), (1, .int a1), (3, .int x3_2)] → W p l e (mR 0) s m args below meth c H locs 0 0 (MQ below (mQ D cA h ad A (some (.int r)) G) args s 0 0 A) (F0 m 27 ls [.int j_7]) := by
          clear hj
          intro H locs Y ls hl
          refine lv_istore_n (lv' := [(2, .int j_7), (0, .ref h), (1, .int a1), (3, .int x3_2)]) hx hb dX2_sitterBy_27 rfl hl (by decide) rfl (fun ls hl => ?_)
          obtain ⟨x3_8, ex3_8, hf⟩ := nm_s hf
          refine lv_iinc (v := x3_8) (lv' := [(3, .int x3_8), (2, .int j_7), (0, .ref h), (1, .int a1)]) hx hb dX2_sitterBy_28 hl (k := 3) rfl (by rw [ex3_8]; rfl) (by decide) rfl (fun ls hl => ?_)
          refine lv_goto (tgt := 4) hx hb dX2_sitterBy_31 (by decide) ?_
          exact ih _ _ hf _ _ Y _ (lv_sub hl [2, 3, 1, 0] rfl)
        replace hf := hj
        clear hj
        refine lv_icmp_ne (tgt := 26) hx hb dX2_sitterBy_19 (by decide) (fun c_6 => ?_) (fun c_6 => ?_)
        · rw [if_neg c_6] at hf
          refine lv_iload_n hx hb dX2_sitterBy_26 rfl (lv_at hl 2 rfl) ?_
          cases hf
          exact J27_11 _ _ Y _ (lv_sub hl [0, 1, 3] rfl)
        · rw [if_pos c_6] at hf
          refine lv_iload_n hx hb dX2_sitterBy_22 rfl (lv_at hl 3 rfl) ?_
          refine lv_goto (tgt := 27) hx hb dX2_sitterBy_23 (by decide) ?_
          cases hf
          exact J27_11 _ _ Y _ (lv_sub hl [0, 1, 3] rfl)
  exact L4_10 N _ _ hL _ _ Y _ (lv_sub hl [2, 3, 1, 0] rfl)

def fX2_finds_L7 (N : Nat) (a1 : Int32) : Nat → Int32 → Int32 → Int32 → GS → Option (Int32 × Int32 × GS)
  | 0, _, _, _, _ => none
  | n_ + 1, x2_1, x3_2, x4_3, G_4 =>
    if (G_4 0 2) ≤ x4_3 then (
     some (x2_1, x3_2, G_4)
    ) else (
     bd1 (fX2_isThere N G_4 x4_3) fun r_6 =>
     bd3 (
      if r_6 = (0 : Int32) then (
       some (x2_1, x3_2, G_4)
      ) else (
       bd1 (
        if (G_4 0 34) = (0 : Int32) then (
         gd (inb x4_3 6) <|
         nm (G_4 32 (x4_3).toNatClampNeg : Int32) fun v_13 =>
         some v_13
        ) else (
         gd (inb x4_3 6) <|
         nm (G_4 35 (x4_3).toNatClampNeg : Int32) fun v_11 =>
         some v_11
        )
       ) fun j_14 =>
       gd (inb x4_3 6) <|
       nm (gu G_4 35 (x4_3).toNatClampNeg j_14 : GS) fun G_16 =>
       gd (inb x4_3 6) <|
       nm (G_16 32 (x4_3).toNatClampNeg : Int32) fun v_18 =>
       gd (inb ((14 : Int32) + x4_3) 20) <|
       nm (G_16 8 (((14 : Int32) + x4_3)).toNatClampNeg : Int32) fun v_20 =>
       bd1 (
        if v_18 = v_20 then (
         some (0 : Int32)
        ) else (
         some (1 : Int32)
        )
       ) fun j_22 =>
       nm ((x2_1 + j_22) : Int32) fun x2_23 =>
       gd (inb x4_3 6) <|
       nm (G_16 32 (x4_3).toNatClampNeg : Int32) fun v_25 =>
       bd1 (fX2_beside N G_16 v_25 (1 : Int32)) fun r_26 =>
       bd1 (fX2_sitterBy N G_16 r_26) fun r_28 =>
       gd (inb ((8 : Int32) + x4_3) 20) <|
       nm (G_16 8 (((8 : Int32) + x4_3)).toNatClampNeg : Int32) fun v_31 =>
       bd1 (
        if r_28 = (-1 : Int32) then (
         some (0 : Int32)
        ) else (
         gd (inb ((8 : Int32) + r_28) 20) <|
         nm (G_16 8 (((8 : Int32) + r_28)).toNatClampNeg : Int32) fun v_34 =>
         some v_34
        )
       ) fun j_35 =>
       bd1 (fX2_has N (v_31 ||| j_35) a1) fun r_36 =>
       bd1 (
        if r_36 = (0 : Int32) then (
         some (0 : Int32)
        ) else (
         some (1 : Int32)
        )
       ) fun j_39 =>
       nm ((x3_2 + j_39) : Int32) fun x3_40 =>
       some (x2_23, x3_40, G_16)
      )
     ) fun x2_41 x3_42 G_43 =>
     nm ((x4_3 + (1 : Int32)) : Int32) fun x4_44 =>
     fX2_finds_L7 N a1 n_ x2_41 x3_42 x4_44 G_43
    )
def fX2_finds (N : Nat) (G : GS) (a1 : Int32) : Option GS :=
  bd3 (fX2_finds_L7 N a1 N (0 : Int32) (0 : Int32) (0 : Int32) G) fun x2_45 x3_46 G_47 =>
  bd1 (
   if (G_47 0 34) = (0 : Int32) then (
    some x2_45
   ) else (
    if (G_47 0 36) ≤ x2_45 then (
     some (G_47 0 36)
    ) else (
     some x2_45
    )
   )
  ) fun j_50 =>
  nm (gu G_47 0 36 j_50 : GS) fun G_51 =>
  bd1 (
   if (G_51 0 34) = (0 : Int32) then (
    some x3_46
   ) else (
    if x3_46 ≤ (G_51 0 37) then (
     some (G_51 0 37)
    ) else (
     some x3_46
    )
   )
  ) fun j_54 =>
  nm (gu G_51 0 37 j_54 : GS) fun G_55 =>
  nm (gu G_55 0 34 ((G_55 0 34) + (1 : Int32)) : GS) fun G_56 =>
  some G_56
theorem ydX2_finds : yX2_finds.cls = RX2 ∧ yX2_finds.cls ≠ "java/lang/invoke/MethodHandle" ∧ yX2_finds.cls ≠ "java/lang/invoke/VarHandle" ∧ (parseMethodDescriptor yX2_finds.desc).map (fun d => d.parameters.length) = some 1 := by decide +kernel
set_option maxHeartbeats 4000000 in
theorem tX2_finds (l : Launch) (N : Nat) (G : GS) (a1 : Int32) (G' : GS) (hf : fX2_finds N G a1 = some G') : mMet l yX2_finds cX2_finds 6 none (mR 3) [.int a1] G (none) G' := by
  unfold fX2_finds at hf
  refine mMet_of (by decide +kernel) rfl (Nat.le_of_ble_eq_true rfl) (fun {p e s m args below meth c ls D cA h ad A} X Y hl => ?_)
  have hx := X.1.1
  have hb := X.1.2.1
  have hl : lv_has ls 6 [(0, .ref h), (1, .int a1)] := hl
  refine lv_iconst (v := (0 : Int32)) hx hb dX2_finds_0 (by decide) ?_
  refine lv_istore_n (lv' := [(2, .int (0 : Int32)), (0, .ref h), (1, .int a1)]) hx hb dX2_finds_1 rfl hl (by decide) rfl (fun ls hl => ?_)
  refine lv_iconst (v := (0 : Int32)) hx hb dX2_finds_2 (by decide) ?_
  refine lv_istore_n (lv' := [(3, .int (0 : Int32)), (2, .int (0 : Int32)), (0, .ref h), (1, .int a1)]) hx hb dX2_finds_3 rfl hl (by decide) rfl (fun ls hl => ?_)
  refine lv_iconst (v := (0 : Int32)) hx hb dX2_finds_4 (by decide) ?_
  refine lv_istore (lv' := [(4, .int (0 : Int32)), (3, .int (0 : Int32)), (2, .int (0 : Int32)), (0, .ref h), (1, .int a1)]) hx hb dX2_finds_5 hl (by decide) rfl (fun ls hl => ?_)
  obtain ⟨x2_45, x3_46, G_47, hL, hf⟩ := bd3_s hf
  have E7_57 : ∀ (H : Heap) (locs : List Loc), WX D A s (mW h ad cA G_47) H locs → ∀ ls : Array Slot, lv_has ls 6 [(0, .ref h), (2, .int x2_45), (3, .int x3_46)] → W p l e (mR 3) s m args below meth c H locs 0 0 (MQ below (mQ D cA h ad A (none) G') args s 0 0 A) (F0 m 154 ls []) := by
    clear hL
    intro H locs Y ls hl
    refine lv_aload_n hx hb dX2_finds_154 rfl (lv_at hl 0 rfl) ?_
    refine lv_aload_n hx hb dX2_finds_155 rfl (lv_at hl 0 rfl) ?_
    refine mg (v := .int (G_47 0 34)) X Y 34 (by decide) q1139 rfl rfl dX2_finds_156 ?_
    obtain ⟨j_50, hj, hf⟩ := bd1_s hf
    have J178_58 : ∀ (H : Heap) (locs : List Loc), WX D A s (mW h ad cA G_47) H locs → ∀ ls : Array Slot, lv_has ls 6 [(0, .ref h), (3, .int x3_46)] → W p l e (mR 3) s m args below meth c H locs 0 0 (MQ below (mQ D cA h ad A (none) G') args s 0 0 A) (F0 m 178 ls [.int j_50, .ref h]) := by
      clear hj
      intro H locs Y ls hl
      obtain ⟨G_51, eG_51, hf⟩ := nm_s hf
      refine mp X Y 36 (by decide) q1141 ⟨rfl, rfl⟩ rfl mz0_36 eG_51 dX2_finds_178 (fun H locs Y => ?_)
      refine lv_aload_n hx hb dX2_finds_181 rfl (lv_at hl 0 rfl) ?_
      refine lv_aload_n hx hb dX2_finds_182 rfl (lv_at hl 0 rfl) ?_
      refine mg (v := .int (G_51 0 34)) X Y 34 (by decide) q1139 rfl rfl dX2_finds_183 ?_
      obtain ⟨j_54, hj, hf⟩ := bd1_s hf
      have J205_59 : ∀ (H : Heap) (locs : List Loc), WX D A s (mW h ad cA G_51) H locs → ∀ ls : Array Slot, lv_has ls 6 [(0, .ref h)] → W p l e (mR 3) s m args below meth c H locs 0 0 (MQ below (mQ D cA h ad A (none) G') args s 0 0 A) (F0 m 205 ls [.int j_54, .ref h]) := by
        clear hj
        intro H locs Y ls hl
        obtain ⟨G_55, eG_55, hf⟩ := nm_s hf
        refine mp X Y 37 (by decide) q1142 ⟨rfl, rfl⟩ rfl mz0_37 eG_55 dX2_finds_205 (fun H locs Y => ?_)
        refine lv_aload_n hx hb dX2_finds_208 rfl (lv_at hl 0 rfl) ?_
        refine lv_dup hx hb dX2_finds_209 rfl ?_
        refine mg (v := .int (G_55 0 34)) X Y 34 (by decide) q1139 rfl rfl dX2_finds_210 ?_
        refine lv_iconst (v := (1 : Int32)) hx hb dX2_finds_213 (by decide) ?_
        refine lv_iadd hx hb dX2_finds_214 ?_
        obtain ⟨G_56, eG_56, hf⟩ := nm_s hf
        refine mp X Y 34 (by decide) q1139 ⟨rfl, rfl⟩ rfl mz0_34 eG_56 dX2_finds_215 (fun H locs Y => ?_)
        cases hf
        exact m_vret X Y dX2_finds_218
      replace hf := hj
      clear hj
      refine lv_if_eq (tgt := 197) hx hb dX2_finds_186 (by decide) (fun c_52 => ?_) (fun c_52 => ?_)
      · rw [if_pos c_52] at hf
        refine lv_iload_n hx hb dX2_finds_197 rfl (lv_at hl 1 rfl) ?_
        refine lv_goto (tgt := 205) hx hb dX2_finds_198 (by decide) ?_
        cases hf
        exact J205_59 _ _ Y _ (lv_sub hl [0] rfl)
      · rw [if_neg c_52] at hf
        refine lv_iload_n hx hb dX2_finds_189 rfl (lv_at hl 1 rfl) ?_
        refine lv_aload_n hx hb dX2_finds_190 rfl (lv_at hl 0 rfl) ?_
        refine mg (v := .int (G_51 0 37)) X Y 37 (by decide) q1142 rfl rfl dX2_finds_191 ?_
        refine lv_icmp_le (tgt := 201) hx hb dX2_finds_194 (by decide) (fun c_53 => ?_) (fun c_53 => ?_)
        · rw [if_pos c_53] at hf
          refine lv_aload_n hx hb dX2_finds_201 rfl (lv_at hl 0 rfl) ?_
          refine mg (v := .int (G_51 0 37)) X Y 37 (by decide) q1142 rfl rfl dX2_finds_202 ?_
          cases hf
          exact J205_59 _ _ Y _ (lv_sub hl [0] rfl)
        · rw [if_neg c_53] at hf
          refine lv_iload_n hx hb dX2_finds_197 rfl (lv_at hl 1 rfl) ?_
          refine lv_goto (tgt := 205) hx hb dX2_finds_198 (by decide) ?_
          cases hf
          exact J205_59 _ _ Y _ (lv_sub hl [0] rfl)
    replace hf := hj
    clear hj
    refine lv_if_eq (tgt := 170) hx hb dX2_finds_159 (by decide) (fun c_48 => ?_) (fun c_48 => ?_)
    · rw [if_pos c_48] at hf
      refine lv_iload_n hx hb dX2_finds_170 rfl (lv_at hl 1 rfl) ?_
      refine lv_goto (tgt := 178) hx hb dX2_finds_171 (by decide) ?_
      cases hf
      exact J178_58 _ _ Y _ (lv_sub hl [0, 2] rfl)
    · rw [if_neg c_48] at hf
      refine lv_iload_n hx hb dX2_finds_162 rfl (lv_at hl 1 rfl) ?_
      refine lv_aload_n hx hb dX2_finds_163 rfl (lv_at hl 0 rfl) ?_
      refine mg (v := .int (G_47 0 36)) X Y 36 (by decide) q1141 rfl rfl dX2_finds_164 ?_
      refine lv_icmp_ge (tgt := 174) hx hb dX2_finds_167 (by decide) (fun c_49 => ?_) (fun c_49 => ?_)
      · rw [if_pos c_49] at hf
        refine lv_aload_n hx hb dX2_finds_174 rfl (lv_at hl 0 rfl) ?_
        refine mg (v := .int (G_47 0 36)) X Y 36 (by decide) q1141 rfl rfl dX2_finds_175 ?_
        cases hf
        exact J178_58 _ _ Y _ (lv_sub hl [0, 2] rfl)
      · rw [if_neg c_49] at hf
        refine lv_iload_n hx hb dX2_finds_170 rfl (lv_at hl 1 rfl) ?_
        refine lv_goto (tgt := 178) hx hb dX2_finds_171 (by decide) ?_
        cases hf
        exact J178_58 _ _ Y _ (lv_sub hl [0, 2] rfl)
  clear hf
  have L7_57 : ∀ (n_ : Nat) (x2_1 : Int32) (x3_2 : Int32) (x4_3 : Int32) (G_4 : GS), fX2_finds_L7 N a1 n_ x2_1 x3_2 x4_3 G_4 = some (x2_45, x3_46, G_47) → ∀ (H : Heap) (locs : List Loc), WX D A s (mW h ad cA G_4) H locs → ∀ ls : Array Slot, lv_has ls 6 [(0, .ref h), (1, .int a1), (2, .int x2_1), (3, .int x3_2), (4, .int x4_3)] → W p l e (mR 3) s m args below meth c H locs 0 0 (MQ below (mQ D cA h ad A (none) G') args s 0 0 A) (F0 m 7 ls []) := by
    clear hL
    intro n_
    induction n_ with
    | zero =>
      intro x2_1 x3_2 x4_3 G_4 hf
      rw [fX2_finds_L7.eq_1] at hf
      cases hf
    | succ n_ ih =>
      intro x2_1 x3_2 x4_3 G_4 hf
      intro H locs Y ls hl
      rw [fX2_finds_L7.eq_2] at hf
      refine lv_iload hx hb dX2_finds_7 (lv_at hl 4 rfl) ?_
      refine lv_aload_n hx hb dX2_finds_9 rfl (lv_at hl 0 rfl) ?_
      refine mg (v := .int (G_4 0 2)) X Y 2 (by decide) q1107 rfl rfl dX2_finds_10 ?_
      refine lv_icmp_ge (tgt := 154) hx hb dX2_finds_13 (by decide) (fun c_5 => ?_) (fun c_5 => ?_)
      · rw [if_pos c_5] at hf
        cases hf
        exact E7_57 _ _ Y _ (lv_sub hl [0, 2, 3] rfl)
      · rw [if_neg c_5] at hf
        refine lv_aload_n hx hb dX2_finds_16 rfl (lv_at hl 0 rfl) ?_
        refine lv_iload hx hb dX2_finds_17 (lv_at hl 4 rfl) ?_
        obtain ⟨r_6, hq_7, hf⟩ := bd1_s hf
        refine mcI (av := [.int x4_3]) (rest := []) 1 X Y (tX2_isThere l N G_4 x4_3 r_6 hq_7) (lw_V q1345 q1347 qs51 q70 q1348) ydX2_isThere ⟨rfl, rfl, by decide, by decide⟩ rfl hl.1 rfl (Nat.le_of_ble_eq_true rfl) ⟨Nat.zero_le _, Nat.zero_le _⟩ dX2_finds_19 (fun H locs Y => ?_)
        obtain ⟨x2_41, x3_42, G_43, hj, hf⟩ := bd3_s hf
        have J148_60 : ∀ (H : Heap) (locs : List Loc), WX D A s (mW h ad cA G_43) H locs → ∀ ls : Array Slot, lv_has ls 6 [(0, .ref h), (1, .int a1), (2, .int x2_41), (3, .int x3_42), (4, .int x4_3)] → W p l e (mR 3) s m args below meth c H locs 0 0 (MQ below (mQ D cA h ad A (none) G') args s 0 0 A) (F0 m 148 ls []) := by
          clear hj
          intro H locs Y ls hl
          obtain ⟨x4_44, ex4_44, hf⟩ := nm_s hf
          refine lv_iinc (v := x4_44) (lv' := [(4, .int x4_44), (0, .ref h), (1, .int a1), (2, .int x2_41), (3, .int x3_42)]) hx hb dX2_finds_148 hl (k := 4) rfl (by rw [ex4_44]; rfl) (by decide) rfl (fun ls hl => ?_)
          refine lv_goto (tgt := 7) hx hb dX2_finds_151 (by decide) ?_
          exact ih _ _ _ _ hf _ _ Y _ (lv_sub hl [1, 2, 3, 4, 0] rfl)
        replace hf := hj
        clear hj
        refine lv_if_eq (tgt := 148) hx hb dX2_finds_22 (by decide) (fun c_8 => ?_) (fun c_8 => ?_)
        · rw [if_pos c_8] at hf
          cases hf
          exact J148_60 _ _ Y _ (lv_sub hl [0, 1, 2, 3, 4] rfl)
        · rw [if_neg c_8] at hf
          refine lv_aload_n hx hb dX2_finds_25 rfl (lv_at hl 0 rfl) ?_
          refine mg (v := .ref (ad 35)) X Y 35 (by decide) q1140 rfl rfl dX2_finds_26 ?_
          refine lv_iload hx hb dX2_finds_29 (lv_at hl 4 rfl) ?_
          refine lv_aload_n hx hb dX2_finds_31 rfl (lv_at hl 0 rfl) ?_
          refine mg (v := .int (G_4 0 34)) X Y 34 (by decide) q1139 rfl rfl dX2_finds_32 ?_
          obtain ⟨j_14, hj, hf⟩ := bd1_s hf
          have J55_61 : ∀ (H : Heap) (locs : List Loc), WX D A s (mW h ad cA G_4) H locs → ∀ ls : Array Slot, lv_has ls 6 [(0, .ref h), (1, .int a1), (2, .int x2_1), (3, .int x3_2), (4, .int x4_3)] → W p l e (mR 3) s m args below meth c H locs 0 0 (MQ below (mQ D cA h ad A (none) G') args s 0 0 A) (F0 m 55 ls [.int j_14, .int x4_3, .ref (ad 35)]) := by
            clear hj
            intro H locs Y ls hl
            obtain ⟨b_15, hf⟩ := gd_s hf
            obtain ⟨G_16, eG_16, hf⟩ := nm_s hf
            refine ms (n := 6) X Y 35 15 rfl mz35 b_15 eG_16 dX2_finds_55 (fun H locs Y => ?_)
            refine lv_iload_n hx hb dX2_finds_56 rfl (lv_at hl 2 rfl) ?_
            refine lv_aload_n hx hb dX2_finds_57 rfl (lv_at hl 0 rfl) ?_
            refine mg (v := .ref (ad 32)) X Y 32 (by decide) q1137 rfl rfl dX2_finds_58 ?_
            refine lv_iload hx hb dX2_finds_61 (lv_at hl 4 rfl) ?_
            obtain ⟨b_17, hf⟩ := gd_s hf
            obtain ⟨v_18, ev_18, hf⟩ := nm_s hf
            refine ml (n := 6) X Y 32 14 rfl b_17 ev_18 dX2_finds_63 ?_
            refine lv_aload_n hx hb dX2_finds_64 rfl (lv_at hl 0 rfl) ?_
            refine mg (v := .ref (ad 8)) X Y 8 (by decide) q1113 rfl rfl dX2_finds_65 ?_
            refine lv_bipush (v := (14 : Int32)) hx hb dX2_finds_68 (by decide) ?_
            refine lv_iload hx hb dX2_finds_70 (lv_at hl 4 rfl) ?_
            refine lv_iadd hx hb dX2_finds_72 ?_
            obtain ⟨b_19, hf⟩ := gd_s hf
            obtain ⟨v_20, ev_20, hf⟩ := nm_s hf
            refine ml (n := 20) X Y 8 4 rfl b_19 ev_20 dX2_finds_73 ?_
            obtain ⟨j_22, hj, hf⟩ := bd1_s hf
            have J82_62 : ∀ (H : Heap) (locs : List Loc), WX D A s (mW h ad cA G_16) H locs → ∀ ls : Array Slot, lv_has ls 6 [(0, .ref h), (1, .int a1), (3, .int x3_2), (4, .int x4_3)] → W p l e (mR 3) s m args below meth c H locs 0 0 (MQ below (mQ D cA h ad A (none) G') args s 0 0 A) (F0 m 82 ls [.int j_22, .int x2_1]) := by
              clear hj
              intro H locs Y ls hl
              refine lv_iadd hx hb dX2_finds_82 ?_
              obtain ⟨x2_23, ex2_23, hf⟩ := nm_s hf
              refine lv_topE ex2_23 ?_
              refine lv_istore_n (lv' := [(2, .int x2_23), (0, .ref h), (1, .int a1), (3, .int x3_2), (4, .int x4_3)]) hx hb dX2_finds_83 rfl hl (by decide) rfl (fun ls hl => ?_)
              refine lv_aload_n hx hb dX2_finds_84 rfl (lv_at hl 1 rfl) ?_
              refine lv_aload_n hx hb dX2_finds_85 rfl (lv_at hl 1 rfl) ?_
              refine lv_aload_n hx hb dX2_finds_86 rfl (lv_at hl 1 rfl) ?_
              refine mg (v := .ref (ad 32)) X Y 32 (by decide) q1137 rfl rfl dX2_finds_87 ?_
              refine lv_iload hx hb dX2_finds_90 (lv_at hl 4 rfl) ?_
              obtain ⟨b_24, hf⟩ := gd_s hf
              obtain ⟨v_25, ev_25, hf⟩ := nm_s hf
              refine ml (n := 6) X Y 32 14 rfl b_24 ev_25 dX2_finds_92 ?_
              refine lv_iconst (v := (1 : Int32)) hx hb dX2_finds_93 (by decide) ?_
              obtain ⟨r_26, hq_27, hf⟩ := bd1_s hf
              refine mcI (av := [.int v_25, .int (1 : Int32)]) (rest := [.ref h]) 2 X Y (tX2_beside l N G_16 v_25 (1 : Int32) r_26 hq_27) (lw_V q1388 q1390 qs57 q70 q1391) ydX2_beside ⟨rfl, rfl, by decide, by decide⟩ rfl hl.1 rfl (Nat.le_of_ble_eq_true rfl) ⟨Nat.zero_le _, Nat.zero_le _⟩ dX2_finds_94 (fun H locs Y => ?_)
              obtain ⟨r_28, hq_29, hf⟩ := bd1_s hf
              refine mcI (av := [.int r_26]) (rest := []) 1 X Y (tX2_sitterBy l N G_16 r_26 r_28 hq_29) (lw_V q1424 q1426 qs62 q70 q1427) ydX2_sitterBy ⟨rfl, rfl, by decide, by decide⟩ rfl hl.1 rfl (Nat.le_of_ble_eq_true rfl) ⟨Nat.zero_le _, Nat.zero_le _⟩ dX2_finds_97 (fun H locs Y => ?_)
              refine lv_istore (lv' := [(5, .int r_28), (2, .int x2_23), (0, .ref h), (1, .int a1), (3, .int x3_2), (4, .int x4_3)]) hx hb dX2_finds_100 hl (by decide) rfl (fun ls hl => ?_)
              refine lv_iload_n hx hb dX2_finds_102 rfl (lv_at hl 4 rfl) ?_
              refine lv_aload_n hx hb dX2_finds_103 rfl (lv_at hl 2 rfl) ?_
              refine mg (v := .ref (ad 8)) X Y 8 (by decide) q1113 rfl rfl dX2_finds_104 ?_
              refine lv_bipush (v := (8 : Int32)) hx hb dX2_finds_107 (by decide) ?_
              refine lv_iload hx hb dX2_finds_109 (lv_at hl 5 rfl) ?_
              refine lv_iadd hx hb dX2_finds_111 ?_
              obtain ⟨b_30, hf⟩ := gd_s hf
              obtain ⟨v_31, ev_31, hf⟩ := nm_s hf
              refine ml (n := 20) X Y 8 4 rfl b_30 ev_31 dX2_finds_112 ?_
              refine lv_iload hx hb dX2_finds_113 (lv_at hl 0 rfl) ?_
              refine lv_iconst (v := (-1 : Int32)) hx hb dX2_finds_115 (by decide) ?_
              obtain ⟨j_35, hj, hf⟩ := bd1_s hf
              have J133_63 : ∀ (H : Heap) (locs : List Loc), WX D A s (mW h ad cA G_16) H locs → ∀ ls : Array Slot, lv_has ls 6 [(0, .ref h), (1, .int a1), (2, .int x2_23), (4, .int x4_3)] → W p l e (mR 3) s m args below meth c H locs 0 0 (MQ below (mQ D cA h ad A (none) G') args s 0 0 A) (F0 m 133 ls [.int j_35, .int v_31, .int x3_2]) := by
                clear hj
                intro H locs Y ls hl
                refine lv_ior hx hb dX2_finds_133 ?_
                refine lv_iload_n hx hb dX2_finds_134 rfl (lv_at hl 1 rfl) ?_
                obtain ⟨r_36, hq_37, hf⟩ := bd1_s hf
                refine w_callSI (av := [.int (v_31 ||| j_35), .int a1]) (rest := [.int x3_2]) 2 X Y (tX2_has l N (v_31 ||| j_35) a1 r_36 hq_37) (lw_S q1326 q1327 q70 q1328) ydX2_has ⟨rfl, rfl, by decide, by decide⟩ rfl hl.1 rfl (Nat.le_of_ble_eq_true rfl) ⟨Nat.zero_le _, Nat.zero_le _⟩ dX2_finds_135 (fun H locs Y => ?_)
                obtain ⟨j_39, hj, hf⟩ := bd1_s hf
                have J146_64 : ∀ (H : Heap) (locs : List Loc), WX D A s (mW h ad cA G_16) H locs → ∀ ls : Array Slot, lv_has ls 6 [(0, .ref h), (1, .int a1), (2, .int x2_23), (4, .int x4_3)] → W p l e (mR 3) s m args below meth c H locs 0 0 (MQ below (mQ D cA h ad A (none) G') args s 0 0 A) (F0 m 146 ls [.int j_39, .int x3_2]) := by
                  clear hj
                  intro H locs Y ls hl
                  refine lv_iadd hx hb dX2_finds_146 ?_
                  obtain ⟨x3_40, ex3_40, hf⟩ := nm_s hf
                  refine lv_topE ex3_40 ?_
                  refine lv_istore_n (lv' := [(3, .int x3_40), (0, .ref h), (1, .int a1), (2, .int x2_23), (4, .int x4_3)]) hx hb dX2_finds_147 rfl hl (by decide) rfl (fun ls hl => ?_)
                  cases hf
                  exact J148_60 _ _ Y _ (lv_sub hl [1, 2, 3, 0, 4] rfl)
                replace hf := hj
                clear hj
                refine lv_if_eq (tgt := 145) hx hb dX2_finds_138 (by decide) (fun c_38 => ?_) (fun c_38 => ?_)
                · rw [if_pos c_38] at hf
                  refine lv_iconst (v := (0 : Int32)) hx hb dX2_finds_145 (by decide) ?_
                  cases hf
                  exact J146_64 _ _ Y _ (lv_sub hl [0, 1, 2, 3] rfl)
                · rw [if_neg c_38] at hf
                  refine lv_iconst (v := (1 : Int32)) hx hb dX2_finds_141 (by decide) ?_
                  refine lv_goto (tgt := 146) hx hb dX2_finds_142 (by decide) ?_
                  cases hf
                  exact J146_64 _ _ Y _ (lv_sub hl [0, 1, 2, 3] rfl)
              replace hf := hj
              clear hj
              refine lv_icmp_ne (tgt := 123) hx hb dX2_finds_116 (by decide) (fun c_32 => ?_) (fun c_32 => ?_)
              · rw [if_neg c_32] at hf
                refine lv_aload_n hx hb dX2_finds_123 rfl (lv_at hl 2 rfl) ?_
                refine mg (v := .ref (ad 8)) X Y 8 (by decide) q1113 rfl rfl dX2_finds_124 ?_
                refine lv_bipush (v := (8 : Int32)) hx hb dX2_finds_127 (by decide) ?_
                refine lv_iload hx hb dX2_finds_129 (lv_at hl 0 rfl) ?_
                refine lv_iadd hx hb dX2_finds_131 ?_
                obtain ⟨b_33, hf⟩ := gd_s hf
                obtain ⟨v_34, ev_34, hf⟩ := nm_s hf
                refine ml (n := 20) X Y 8 4 rfl b_33 ev_34 dX2_finds_132 ?_
                cases hf
                exact J133_63 _ _ Y _ (lv_sub hl [2, 3, 1, 5] rfl)
              · rw [if_pos c_32] at hf
                refine lv_iconst (v := (0 : Int32)) hx hb dX2_finds_119 (by decide) ?_
                refine lv_goto (tgt := 133) hx hb dX2_finds_120 (by decide) ?_
                cases hf
                exact J133_63 _ _ Y _ (lv_sub hl [2, 3, 1, 5] rfl)
            replace hf := hj
            clear hj
            refine lv_icmp_ne (tgt := 81) hx hb dX2_finds_74 (by decide) (fun c_21 => ?_) (fun c_21 => ?_)
            · rw [if_neg c_21] at hf
              refine lv_iconst (v := (1 : Int32)) hx hb dX2_finds_81 (by decide) ?_
              cases hf
              exact J82_62 _ _ Y _ (lv_sub hl [0, 1, 3, 4] rfl)
            · rw [if_pos c_21] at hf
              refine lv_iconst (v := (0 : Int32)) hx hb dX2_finds_77 (by decide) ?_
              refine lv_goto (tgt := 82) hx hb dX2_finds_78 (by decide) ?_
              cases hf
              exact J82_62 _ _ Y _ (lv_sub hl [0, 1, 3, 4] rfl)
          replace hf := hj
          clear hj
          refine lv_if_ne (tgt := 48) hx hb dX2_finds_35 (by decide) (fun c_9 => ?_) (fun c_9 => ?_)
          · rw [if_neg c_9] at hf
            refine lv_aload_n hx hb dX2_finds_48 rfl (lv_at hl 0 rfl) ?_
            refine mg (v := .ref (ad 35)) X Y 35 (by decide) q1140 rfl rfl dX2_finds_49 ?_
            refine lv_iload hx hb dX2_finds_52 (lv_at hl 4 rfl) ?_
            obtain ⟨b_10, hf⟩ := gd_s hf
            obtain ⟨v_11, ev_11, hf⟩ := nm_s hf
            refine ml (n := 6) X Y 35 15 rfl b_10 ev_11 dX2_finds_54 ?_
            cases hf
            exact J55_61 _ _ Y _ (lv_sub hl [0, 1, 2, 3, 4] rfl)
          · rw [if_pos c_9] at hf
            refine lv_aload_n hx hb dX2_finds_38 rfl (lv_at hl 0 rfl) ?_
            refine mg (v := .ref (ad 32)) X Y 32 (by decide) q1137 rfl rfl dX2_finds_39 ?_
            refine lv_iload hx hb dX2_finds_42 (lv_at hl 4 rfl) ?_
            obtain ⟨b_12, hf⟩ := gd_s hf
            obtain ⟨v_13, ev_13, hf⟩ := nm_s hf
            refine ml (n := 6) X Y 32 14 rfl b_12 ev_13 dX2_finds_44 ?_
            refine lv_goto (tgt := 55) hx hb dX2_finds_45 (by decide) ?_
            cases hf
            exact J55_61 _ _ Y _ (lv_sub hl [0, 1, 2, 3, 4] rfl)
  exact L7_57 N _ _ _ _ hL _ _ Y _ (lv_sub hl [3, 4, 2, 1, 0] rfl)

def fX2_maySit (N : Nat) (G : GS) (a1 : Int32) (a2 : Int32) : Option Int32 :=
  bd1 (
   if a2 = (G 0 33) then (
    some (1 : Int32)
   ) else (
    some (0 : Int32)
   )
  ) fun j_2 =>
  bd1 (fX2_perilOn N G) fun r_3 =>
  bd1 (
   if a2 = r_3 then (
    if a1 = (G 0 7) then (
     some (0 : Int32)
    ) else (
     gd (inb ((3 : Int32) * a1) 18) <|
     nm (G 3 (((3 : Int32) * a1)).toNatClampNeg : Int32) fun v_8 =>
     if v_8 = (1 : Int32) then (
      some (0 : Int32)
     ) else (
      some (1 : Int32)
     )
    )
   ) else (
    some (0 : Int32)
   )
  ) fun j_10 =>
  bd1 (fX2_sitterBy N G a2) fun r_11 =>
  if r_11 = (-1 : Int32) then (
   if j_2 = (0 : Int32) then (
    bd1 (fX2_fits N G a1 a2) fun r_30 =>
    if r_30 = (0 : Int32) then (
     some (0 : Int32)
    ) else (
     if j_10 = (0 : Int32) then (
      bd1 (fX2_beside N G a2 (1 : Int32)) fun r_34 =>
      bd1 (fX2_sitterBy N G r_34) fun r_36 =>
      bd1 (fX2_areEnemies N G a1 r_36) fun r_38 =>
      if r_38 = (0 : Int32) then (
       bd1 (fX2_beside N G a2 (-1 : Int32)) fun r_41 =>
       bd1 (fX2_sitterBy N G r_41) fun r_43 =>
       bd1 (fX2_areEnemies N G a1 r_43) fun r_45 =>
       if r_45 = (0 : Int32) then (
        some (1 : Int32)
       ) else (
        some (0 : Int32)
       )
      ) else (
       some (0 : Int32)
      )
     ) else (
      some (0 : Int32)
     )
    )
   ) else (
    if j_10 = (0 : Int32) then (
     bd1 (fX2_beside N G a2 (1 : Int32)) fun r_16 =>
     bd1 (fX2_sitterBy N G r_16) fun r_18 =>
     bd1 (fX2_areEnemies N G a1 r_18) fun r_20 =>
     if r_20 = (0 : Int32) then (
      bd1 (fX2_beside N G a2 (-1 : Int32)) fun r_23 =>
      bd1 (fX2_sitterBy N G r_23) fun r_25 =>
      bd1 (fX2_areEnemies N G a1 r_25) fun r_27 =>
      if r_27 = (0 : Int32) then (
       some (1 : Int32)
      ) else (
       some (0 : Int32)
      )
     ) else (
      some (0 : Int32)
     )
    ) else (
     some (0 : Int32)
    )
   )
  ) else (
   some (0 : Int32)
  )
theorem ydX2_maySit : yX2_maySit.cls = RX2 ∧ yX2_maySit.cls ≠ "java/lang/invoke/MethodHandle" ∧ yX2_maySit.cls ≠ "java/lang/invoke/VarHandle" ∧ (parseMethodDescriptor yX2_maySit.desc).map (fun d => d.parameters.length) = some 2 := by decide +kernel
set_option maxHeartbeats 4000000 in
theorem tX2_maySit (l : Launch) (N : Nat) (G : GS) (a1 : Int32) (a2 : Int32) (r : Int32) (hf : fX2_maySit N G a1 a2 = some r) : mMet l yX2_maySit cX2_maySit 5 (some .boolean) (mR 2) [.int a1, .int a2] G (some (.int r)) G := by
  unfold fX2_maySit at hf
  refine mMet_of (by decide +kernel) rfl (Nat.le_of_ble_eq_true rfl) (fun {p e s m args below meth c ls D cA h ad A} X Y hl => ?_)
  have hx := X.1.1
  have hb := X.1.2.1
  have hl : lv_has ls 5 [(0, .ref h), (1, .int a1), (2, .int a2)] := hl
  refine lv_iload_n hx hb dX2_maySit_0 rfl (lv_at hl 2 rfl) ?_
  refine lv_aload_n hx hb dX2_maySit_1 rfl (lv_at hl 0 rfl) ?_
  refine mg (v := .int (G 0 33)) X Y 33 (by decide) q1138 rfl rfl dX2_maySit_2 ?_
  obtain ⟨j_2, hj, hf⟩ := bd1_s hf
  have J13_48 : ∀ (H : Heap) (locs : List Loc), WX D A s (mW h ad cA G) H locs → ∀ ls : Array Slot, lv_has ls 5 [(0, .ref h), (1, .int a1), (2, .int a2)] → W p l e (mR 2) s m args below meth c H locs 0 0 (MQ below (mQ D cA h ad A (some (.int r)) G) args s 0 0 A) (F0 m 13 ls [.int j_2]) := by
    clear hj
    intro H locs Y ls hl
    refine lv_istore_n (lv' := [(3, .int j_2), (0, .ref h), (1, .int a1), (2, .int a2)]) hx hb dX2_maySit_13 rfl hl (by decide) rfl (fun ls hl => ?_)
    refine lv_iload_n hx hb dX2_maySit_14 rfl (lv_at hl 3 rfl) ?_
    refine lv_aload_n hx hb dX2_maySit_15 rfl (lv_at hl 1 rfl) ?_
    obtain ⟨r_3, hq_4, hf⟩ := bd1_s hf
    refine mcI (av := []) (rest := [.int a2]) 0 X Y (tX2_perilOn l N G r_3 hq_4) (lw_V q1314 q1316 qs47 q70 q1317) ydX2_perilOn ⟨rfl, rfl, by decide, by decide⟩ rfl hl.1 rfl (Nat.le_of_ble_eq_true rfl) ⟨Nat.zero_le _, Nat.zero_le _⟩ dX2_maySit_16 (fun H locs Y => ?_)
    obtain ⟨j_10, hj, hf⟩ := bd1_s hf
    have J47_49 : ∀ (H : Heap) (locs : List Loc), WX D A s (mW h ad cA G) H locs → ∀ ls : Array Slot, lv_has ls 5 [(0, .ref h), (1, .int a1), (2, .int a2), (3, .int j_2)] → W p l e (mR 2) s m args below meth c H locs 0 0 (MQ below (mQ D cA h ad A (some (.int r)) G) args s 0 0 A) (F0 m 47 ls [.int j_10]) := by
      clear hj
      intro H locs Y ls hl
      refine lv_istore (lv' := [(4, .int j_10), (0, .ref h), (1, .int a1), (2, .int a2), (3, .int j_2)]) hx hb dX2_maySit_47 hl (by decide) rfl (fun ls hl => ?_)
      refine lv_aload_n hx hb dX2_maySit_49 rfl (lv_at hl 1 rfl) ?_
      refine lv_iload_n hx hb dX2_maySit_50 rfl (lv_at hl 3 rfl) ?_
      obtain ⟨r_11, hq_12, hf⟩ := bd1_s hf
      refine mcI (av := [.int a2]) (rest := []) 1 X Y (tX2_sitterBy l N G a2 r_11 hq_12) (lw_V q1424 q1426 qs62 q70 q1427) ydX2_sitterBy ⟨rfl, rfl, by decide, by decide⟩ rfl hl.1 rfl (Nat.le_of_ble_eq_true rfl) ⟨Nat.zero_le _, Nat.zero_le _⟩ dX2_maySit_51 (fun H locs Y => ?_)
      refine lv_iconst (v := (-1 : Int32)) hx hb dX2_maySit_54 (by decide) ?_
      refine lv_icmp_ne (tgt := 116) hx hb dX2_maySit_55 (by decide) (fun c_13 => ?_) (fun c_13 => ?_)
      · rw [if_neg c_13] at hf
        refine lv_iconst (v := (0 : Int32)) hx hb dX2_maySit_116 (by decide) ?_
        cases hf
        exact m_zret X Y (by decide) dX2_maySit_117
      · rw [if_pos c_13] at hf
        refine lv_iload_n hx hb dX2_maySit_58 rfl (lv_at hl 4 rfl) ?_
        refine lv_if_ne (tgt := 71) hx hb dX2_maySit_59 (by decide) (fun c_14 => ?_) (fun c_14 => ?_)
        · rw [if_neg c_14] at hf
          refine lv_iload hx hb dX2_maySit_71 (lv_at hl 0 rfl) ?_
          refine lv_if_ne (tgt := 116) hx hb dX2_maySit_73 (by decide) (fun c_15 => ?_) (fun c_15 => ?_)
          · rw [if_neg c_15] at hf
            refine lv_iconst (v := (0 : Int32)) hx hb dX2_maySit_116 (by decide) ?_
            cases hf
            exact m_zret X Y (by decide) dX2_maySit_117
          · rw [if_pos c_15] at hf
            refine lv_aload_n hx hb dX2_maySit_76 rfl (lv_at hl 1 rfl) ?_
            refine lv_iload_n hx hb dX2_maySit_77 rfl (lv_at hl 2 rfl) ?_
            refine lv_aload_n hx hb dX2_maySit_78 rfl (lv_at hl 1 rfl) ?_
            refine lv_aload_n hx hb dX2_maySit_79 rfl (lv_at hl 1 rfl) ?_
            refine lv_iload_n hx hb dX2_maySit_80 rfl (lv_at hl 3 rfl) ?_
            refine lv_iconst (v := (1 : Int32)) hx hb dX2_maySit_81 (by decide) ?_
            obtain ⟨r_16, hq_17, hf⟩ := bd1_s hf
            refine mcI (av := [.int a2, .int (1 : Int32)]) (rest := [.ref h, .int a1, .ref h]) 2 X Y (tX2_beside l N G a2 (1 : Int32) r_16 hq_17) (lw_V q1388 q1390 qs57 q70 q1391) ydX2_beside ⟨rfl, rfl, by decide, by decide⟩ rfl hl.1 rfl (Nat.le_of_ble_eq_true rfl) ⟨Nat.zero_le _, Nat.zero_le _⟩ dX2_maySit_82 (fun H locs Y => ?_)
            obtain ⟨r_18, hq_19, hf⟩ := bd1_s hf
            refine mcI (av := [.int r_16]) (rest := [.int a1, .ref h]) 1 X Y (tX2_sitterBy l N G r_16 r_18 hq_19) (lw_V q1424 q1426 qs62 q70 q1427) ydX2_sitterBy ⟨rfl, rfl, by decide, by decide⟩ rfl hl.1 rfl (Nat.le_of_ble_eq_true rfl) ⟨Nat.zero_le _, Nat.zero_le _⟩ dX2_maySit_85 (fun H locs Y => ?_)
            obtain ⟨r_20, hq_21, hf⟩ := bd1_s hf
            refine mcI (av := [.int a1, .int r_18]) (rest := []) 2 X Y (tX2_areEnemies l N G a1 r_18 r_20 hq_21) (lw_V q1392 q1394 qs58 q70 q1395) ydX2_areEnemies ⟨rfl, rfl, by decide, by decide⟩ rfl hl.1 rfl (Nat.le_of_ble_eq_true rfl) ⟨Nat.zero_le _, Nat.zero_le _⟩ dX2_maySit_88 (fun H locs Y => ?_)
            refine lv_if_ne (tgt := 116) hx hb dX2_maySit_91 (by decide) (fun c_22 => ?_) (fun c_22 => ?_)
            · rw [if_neg c_22] at hf
              refine lv_iconst (v := (0 : Int32)) hx hb dX2_maySit_116 (by decide) ?_
              cases hf
              exact m_zret X Y (by decide) dX2_maySit_117
            · rw [if_pos c_22] at hf
              refine lv_aload_n hx hb dX2_maySit_94 rfl (lv_at hl 1 rfl) ?_
              refine lv_iload_n hx hb dX2_maySit_95 rfl (lv_at hl 2 rfl) ?_
              refine lv_aload_n hx hb dX2_maySit_96 rfl (lv_at hl 1 rfl) ?_
              refine lv_aload_n hx hb dX2_maySit_97 rfl (lv_at hl 1 rfl) ?_
              refine lv_iload_n hx hb dX2_maySit_98 rfl (lv_at hl 3 rfl) ?_
              refine lv_iconst (v := (-1 : Int32)) hx hb dX2_maySit_99 (by decide) ?_
              obtain ⟨r_23, hq_24, hf⟩ := bd1_s hf
              refine mcI (av := [.int a2, .int (-1 : Int32)]) (rest := [.ref h, .int a1, .ref h]) 2 X Y (tX2_beside l N G a2 (-1 : Int32) r_23 hq_24) (lw_V q1388 q1390 qs57 q70 q1391) ydX2_beside ⟨rfl, rfl, by decide, by decide⟩ rfl hl.1 rfl (Nat.le_of_ble_eq_true rfl) ⟨Nat.zero_le _, Nat.zero_le _⟩ dX2_maySit_100 (fun H locs Y => ?_)
              obtain ⟨r_25, hq_26, hf⟩ := bd1_s hf
              refine mcI (av := [.int r_23]) (rest := [.int a1, .ref h]) 1 X Y (tX2_sitterBy l N G r_23 r_25 hq_26) (lw_V q1424 q1426 qs62 q70 q1427) ydX2_sitterBy ⟨rfl, rfl, by decide, by decide⟩ rfl hl.1 rfl (Nat.le_of_ble_eq_true rfl) ⟨Nat.zero_le _, Nat.zero_le _⟩ dX2_maySit_103 (fun H locs Y => ?_)
              obtain ⟨r_27, hq_28, hf⟩ := bd1_s hf
              refine mcI (av := [.int a1, .int r_25]) (rest := []) 2 X Y (tX2_areEnemies l N G a1 r_25 r_27 hq_28) (lw_V q1392 q1394 qs58 q70 q1395) ydX2_areEnemies ⟨rfl, rfl, by decide, by decide⟩ rfl hl.1 rfl (Nat.le_of_ble_eq_true rfl) ⟨Nat.zero_le _, Nat.zero_le _⟩ dX2_maySit_106 (fun H locs Y => ?_)
              refine lv_if_ne (tgt := 116) hx hb dX2_maySit_109 (by decide) (fun c_29 => ?_) (fun c_29 => ?_)
              · rw [if_neg c_29] at hf
                refine lv_iconst (v := (0 : Int32)) hx hb dX2_maySit_116 (by decide) ?_
                cases hf
                exact m_zret X Y (by decide) dX2_maySit_117
              · rw [if_pos c_29] at hf
                refine lv_iconst (v := (1 : Int32)) hx hb dX2_maySit_112 (by decide) ?_
                refine lv_goto (tgt := 117) hx hb dX2_maySit_113 (by decide) ?_
                cases hf
                exact m_zret X Y (by decide) dX2_maySit_117
        · rw [if_pos c_14] at hf
          refine lv_aload_n hx hb dX2_maySit_62 rfl (lv_at hl 1 rfl) ?_
          refine lv_iload_n hx hb dX2_maySit_63 rfl (lv_at hl 2 rfl) ?_
          refine lv_iload_n hx hb dX2_maySit_64 rfl (lv_at hl 3 rfl) ?_
          obtain ⟨r_30, hq_31, hf⟩ := bd1_s hf
          refine mcI (av := [.int a1, .int a2]) (rest := []) 2 X Y (tX2_fits l N G a1 a2 r_30 hq_31) (lw_V q1333 q1335 qs49 q70 q1336) ydX2_fits ⟨rfl, rfl, by decide, by decide⟩ rfl hl.1 rfl (Nat.le_of_ble_eq_true rfl) ⟨Nat.zero_le _, Nat.zero_le _⟩ dX2_maySit_65 (fun H locs Y => ?_)
          refine lv_if_eq (tgt := 116) hx hb dX2_maySit_68 (by decide) (fun c_32 => ?_) (fun c_32 => ?_)
          · rw [if_pos c_32] at hf
            refine lv_iconst (v := (0 : Int32)) hx hb dX2_maySit_116 (by decide) ?_
            cases hf
            exact m_zret X Y (by decide) dX2_maySit_117
          · rw [if_neg c_32] at hf
            refine lv_iload hx hb dX2_maySit_71 (lv_at hl 0 rfl) ?_
            refine lv_if_ne (tgt := 116) hx hb dX2_maySit_73 (by decide) (fun c_33 => ?_) (fun c_33 => ?_)
            · rw [if_neg c_33] at hf
              refine lv_iconst (v := (0 : Int32)) hx hb dX2_maySit_116 (by decide) ?_
              cases hf
              exact m_zret X Y (by decide) dX2_maySit_117
            · rw [if_pos c_33] at hf
              refine lv_aload_n hx hb dX2_maySit_76 rfl (lv_at hl 1 rfl) ?_
              refine lv_iload_n hx hb dX2_maySit_77 rfl (lv_at hl 2 rfl) ?_
              refine lv_aload_n hx hb dX2_maySit_78 rfl (lv_at hl 1 rfl) ?_
              refine lv_aload_n hx hb dX2_maySit_79 rfl (lv_at hl 1 rfl) ?_
              refine lv_iload_n hx hb dX2_maySit_80 rfl (lv_at hl 3 rfl) ?_
              refine lv_iconst (v := (1 : Int32)) hx hb dX2_maySit_81 (by decide) ?_
              obtain ⟨r_34, hq_35, hf⟩ := bd1_s hf
              refine mcI (av := [.int a2, .int (1 : Int32)]) (rest := [.ref h, .int a1, .ref h]) 2 X Y (tX2_beside l N G a2 (1 : Int32) r_34 hq_35) (lw_V q1388 q1390 qs57 q70 q1391) ydX2_beside ⟨rfl, rfl, by decide, by decide⟩ rfl hl.1 rfl (Nat.le_of_ble_eq_true rfl) ⟨Nat.zero_le _, Nat.zero_le _⟩ dX2_maySit_82 (fun H locs Y => ?_)
              obtain ⟨r_36, hq_37, hf⟩ := bd1_s hf
              refine mcI (av := [.int r_34]) (rest := [.int a1, .ref h]) 1 X Y (tX2_sitterBy l N G r_34 r_36 hq_37) (lw_V q1424 q1426 qs62 q70 q1427) ydX2_sitterBy ⟨rfl, rfl, by decide, by decide⟩ rfl hl.1 rfl (Nat.le_of_ble_eq_true rfl) ⟨Nat.zero_le _, Nat.zero_le _⟩ dX2_maySit_85 (fun H locs Y => ?_)
              obtain ⟨r_38, hq_39, hf⟩ := bd1_s hf
              refine mcI (av := [.int a1, .int r_36]) (rest := []) 2 X Y (tX2_areEnemies l N G a1 r_36 r_38 hq_39) (lw_V q1392 q1394 qs58 q70 q1395) ydX2_areEnemies ⟨rfl, rfl, by decide, by decide⟩ rfl hl.1 rfl (Nat.le_of_ble_eq_true rfl) ⟨Nat.zero_le _, Nat.zero_le _⟩ dX2_maySit_88 (fun H locs Y => ?_)
              refine lv_if_ne (tgt := 116) hx hb dX2_maySit_91 (by decide) (fun c_40 => ?_) (fun c_40 => ?_)
              · rw [if_neg c_40] at hf
                refine lv_iconst (v := (0 : Int32)) hx hb dX2_maySit_116 (by decide) ?_
                cases hf
                exact m_zret X Y (by decide) dX2_maySit_117
              · rw [if_pos c_40] at hf
                refine lv_aload_n hx hb dX2_maySit_94 rfl (lv_at hl 1 rfl) ?_
                refine lv_iload_n hx hb dX2_maySit_95 rfl (lv_at hl 2 rfl) ?_
                refine lv_aload_n hx hb dX2_maySit_96 rfl (lv_at hl 1 rfl) ?_
                refine lv_aload_n hx hb dX2_maySit_97 rfl (lv_at hl 1 rfl) ?_
                refine lv_iload_n hx hb dX2_maySit_98 rfl (lv_at hl 3 rfl) ?_
                refine lv_iconst (v := (-1 : Int32)) hx hb dX2_maySit_99 (by decide) ?_
                obtain ⟨r_41, hq_42, hf⟩ := bd1_s hf
                refine mcI (av := [.int a2, .int (-1 : Int32)]) (rest := [.ref h, .int a1, .ref h]) 2 X Y (tX2_beside l N G a2 (-1 : Int32) r_41 hq_42) (lw_V q1388 q1390 qs57 q70 q1391) ydX2_beside ⟨rfl, rfl, by decide, by decide⟩ rfl hl.1 rfl (Nat.le_of_ble_eq_true rfl) ⟨Nat.zero_le _, Nat.zero_le _⟩ dX2_maySit_100 (fun H locs Y => ?_)
                obtain ⟨r_43, hq_44, hf⟩ := bd1_s hf
                refine mcI (av := [.int r_41]) (rest := [.int a1, .ref h]) 1 X Y (tX2_sitterBy l N G r_41 r_43 hq_44) (lw_V q1424 q1426 qs62 q70 q1427) ydX2_sitterBy ⟨rfl, rfl, by decide, by decide⟩ rfl hl.1 rfl (Nat.le_of_ble_eq_true rfl) ⟨Nat.zero_le _, Nat.zero_le _⟩ dX2_maySit_103 (fun H locs Y => ?_)
                obtain ⟨r_45, hq_46, hf⟩ := bd1_s hf
                refine mcI (av := [.int a1, .int r_43]) (rest := []) 2 X Y (tX2_areEnemies l N G a1 r_43 r_45 hq_46) (lw_V q1392 q1394 qs58 q70 q1395) ydX2_areEnemies ⟨rfl, rfl, by decide, by decide⟩ rfl hl.1 rfl (Nat.le_of_ble_eq_true rfl) ⟨Nat.zero_le _, Nat.zero_le _⟩ dX2_maySit_106 (fun H locs Y => ?_)
                refine lv_if_ne (tgt := 116) hx hb dX2_maySit_109 (by decide) (fun c_47 => ?_) (fun c_47 => ?_)
                · rw [if_neg c_47] at hf
                  refine lv_iconst (v := (0 : Int32)) hx hb dX2_maySit_116 (by decide) ?_
                  cases hf
                  exact m_zret X Y (by decide) dX2_maySit_117
                · rw [if_pos c_47] at hf
                  refine lv_iconst (v := (1 : Int32)) hx hb dX2_maySit_112 (by decide) ?_
                  refine lv_goto (tgt := 117) hx hb dX2_maySit_113 (by decide) ?_
                  cases hf
                  exact m_zret X Y (by decide) dX2_maySit_117
    replace hf := hj
    clear hj
    refine lv_icmp_ne (tgt := 46) hx hb dX2_maySit_19 (by decide) (fun c_5 => ?_) (fun c_5 => ?_)
    · rw [if_neg c_5] at hf
      refine lv_iconst (v := (0 : Int32)) hx hb dX2_maySit_46 (by decide) ?_
      cases hf
      exact J47_49 _ _ Y _ (lv_sub hl [1, 2, 3, 0] rfl)
    · rw [if_pos c_5] at hf
      refine lv_iload_n hx hb dX2_maySit_22 rfl (lv_at hl 2 rfl) ?_
      refine lv_aload_n hx hb dX2_maySit_23 rfl (lv_at hl 1 rfl) ?_
      refine mg (v := .int (G 0 7)) X Y 7 (by decide) q1112 rfl rfl dX2_maySit_24 ?_
      refine lv_icmp_eq (tgt := 46) hx hb dX2_maySit_27 (by decide) (fun c_6 => ?_) (fun c_6 => ?_)
      · rw [if_pos c_6] at hf
        refine lv_iconst (v := (0 : Int32)) hx hb dX2_maySit_46 (by decide) ?_
        cases hf
        exact J47_49 _ _ Y _ (lv_sub hl [1, 2, 3, 0] rfl)
      · rw [if_neg c_6] at hf
        refine lv_aload_n hx hb dX2_maySit_30 rfl (lv_at hl 1 rfl) ?_
        refine mg (v := .ref (ad 3)) X Y 3 (by decide) q1108 rfl rfl dX2_maySit_31 ?_
        refine lv_iconst (v := (3 : Int32)) hx hb dX2_maySit_34 (by decide) ?_
        refine lv_iload_n hx hb dX2_maySit_35 rfl (lv_at hl 2 rfl) ?_
        refine lv_imul hx hb dX2_maySit_36 ?_
        obtain ⟨b_7, hf⟩ := gd_s hf
        obtain ⟨v_8, ev_8, hf⟩ := nm_s hf
        refine ml (n := 18) X Y 3 2 rfl b_7 ev_8 dX2_maySit_37 ?_
        refine lv_iconst (v := (1 : Int32)) hx hb dX2_maySit_38 (by decide) ?_
        refine lv_icmp_eq (tgt := 46) hx hb dX2_maySit_39 (by decide) (fun c_9 => ?_) (fun c_9 => ?_)
        · rw [if_pos c_9] at hf
          refine lv_iconst (v := (0 : Int32)) hx hb dX2_maySit_46 (by decide) ?_
          cases hf
          exact J47_49 _ _ Y _ (lv_sub hl [1, 2, 3, 0] rfl)
        · rw [if_neg c_9] at hf
          refine lv_iconst (v := (1 : Int32)) hx hb dX2_maySit_42 (by decide) ?_
          refine lv_goto (tgt := 47) hx hb dX2_maySit_43 (by decide) ?_
          cases hf
          exact J47_49 _ _ Y _ (lv_sub hl [1, 2, 3, 0] rfl)
  replace hf := hj
  clear hj
  refine lv_icmp_ne (tgt := 12) hx hb dX2_maySit_5 (by decide) (fun c_1 => ?_) (fun c_1 => ?_)
  · rw [if_neg c_1] at hf
    refine lv_iconst (v := (0 : Int32)) hx hb dX2_maySit_12 (by decide) ?_
    cases hf
    exact J13_48 _ _ Y _ (lv_sub hl [0, 1, 2] rfl)
  · rw [if_pos c_1] at hf
    refine lv_iconst (v := (1 : Int32)) hx hb dX2_maySit_8 (by decide) ?_
    refine lv_goto (tgt := 13) hx hb dX2_maySit_9 (by decide) ?_
    cases hf
    exact J13_48 _ _ Y _ (lv_sub hl [0, 1, 2] rfl)

def fX2_findSeatings_L17 (N : Nat) : Nat → Int32 → GS → Option GS
  | 0, _, _ => none
  | n_ + 1, x2_4, G_5 =>
    if (6 : Int32) ≤ x2_4 then (
     some G_5
    ) else (
     gd (inb x2_4 6) <|
     nm (gu G_5 32 (x2_4).toNatClampNeg (-1 : Int32) : GS) fun G_8 =>
     gd (inb x2_4 6) <|
     nm (gu G_8 35 (x2_4).toNatClampNeg (-1 : Int32) : GS) fun G_10 =>
     nm ((x2_4 + (1 : Int32)) : Int32) fun x2_11 =>
     fX2_findSeatings_L17 N n_ x2_11 G_10
    )
def fX2_findSeatings_L93 (N : Nat) (x2_19 : Int32) (G_28 : GS) : Nat → Int32 → Option Int32
  | 0, _ => none
  | n_ + 1, x3_29 =>
    if (G_28 0 0) ≤ x3_29 then (
     some x3_29
    ) else (
     bd1 (fX2_maySit N G_28 x2_19 x3_29) fun r_31 =>
     if r_31 = (0 : Int32) then (
      nm ((x3_29 + (1 : Int32)) : Int32) fun x3_34 =>
      fX2_findSeatings_L93 N x2_19 G_28 n_ x3_34
     ) else (
      some x3_29
     )
    )
def fX2_findSeatings_L63 (N : Nat) (a1 : Int32) : Nat → Int32 → GS → Option GS
  | 0, _, _ => none
  | n_ + 1, x2_19, G_20 =>
    bd1 (fX2_in N x2_19 (0 : Int32) ((G_20 0 2) - (1 : Int32))) fun r_21 =>
    if r_21 = (0 : Int32) then (
     some G_20
    ) else (
     gd (inb x2_19 6) <|
     nm (G_20 32 (x2_19).toNatClampNeg : Int32) fun v_25 =>
     nm ((v_25 + (1 : Int32)) : Int32) fun x3_26 =>
     gd (inb x2_19 6) <|
     nm (gu G_20 32 (x2_19).toNatClampNeg (-1 : Int32) : GS) fun G_28 =>
     bd1 (fX2_findSeatings_L93 N x2_19 G_28 N x3_26) fun x3_35 =>
     bd2 (
      if x3_35 < (G_28 0 0) then (
       gd (inb x2_19 6) <|
       nm (gu G_28 32 (x2_19).toNatClampNeg x3_35 : GS) fun G_38 =>
       bd1 (fX2_nextThere N G_38 x2_19 (1 : Int32)) fun r_39 =>
       if r_39 = (G_38 0 2) then (
        bd1 (fX2_finds N G_38 a1) fun G_44 =>
        some (x2_19, G_44)
       ) else (
        bd1 (fX2_nextThere N G_38 x2_19 (1 : Int32)) fun r_42 =>
        some (r_42, G_38)
       )
      ) else (
       bd1 (fX2_nextThere N G_28 x2_19 (-1 : Int32)) fun r_46 =>
       some (r_46, G_28)
      )
     ) fun x2_48 G_49 =>
     fX2_findSeatings_L63 N a1 n_ x2_48 G_49
    )
def fX2_findSeatings (N : Nat) (G : GS) (a1 : Int32) : Option GS :=
  nm (gu G 0 34 (0 : Int32) : GS) fun G_1 =>
  nm (gu G_1 0 36 (0 : Int32) : GS) fun G_2 =>
  nm (gu G_2 0 37 (0 : Int32) : GS) fun G_3 =>
  bd1 (fX2_findSeatings_L17 N N (0 : Int32) G_3) fun G_12 =>
  bd1 (fX2_nextThere N G_12 (-1 : Int32) (1 : Int32)) fun r_13 =>
  bd1 (
   if r_13 = (G_12 0 2) then (
    bd1 (fX2_finds N G_12 a1) fun G_16 =>
    some G_16
   ) else (
    some G_12
   )
  ) fun G_18 =>
  bd1 (fX2_findSeatings_L63 N a1 N r_13 G_18) fun G_50 =>
  some G_50
theorem ydX2_findSeatings : yX2_findSeatings.cls = RX2 ∧ yX2_findSeatings.cls ≠ "java/lang/invoke/MethodHandle" ∧ yX2_findSeatings.cls ≠ "java/lang/invoke/VarHandle" ∧ (parseMethodDescriptor yX2_findSeatings.desc).map (fun d => d.parameters.length) = some 1 := by decide +kernel
set_option maxHeartbeats 4000000 in
theorem tX2_findSeatings (l : Launch) (N : Nat) (G : GS) (a1 : Int32) (G' : GS) (hf : fX2_findSeatings N G a1 = some G') : mMet l yX2_findSeatings cX2_findSeatings 4 none (mR 4) [.int a1] G (none) G' := by
  unfold fX2_findSeatings at hf
  refine mMet_of (by decide +kernel) rfl (Nat.le_of_ble_eq_true rfl) (fun {p e s m args below meth c ls D cA h ad A} X Y hl => ?_)
  have hx := X.1.1
  have hb := X.1.2.1
  have hl : lv_has ls 4 [(0, .ref h), (1, .int a1)] := hl
  refine lv_aload_n hx hb dX2_findSeatings_0 rfl (lv_at hl 0 rfl) ?_
  refine lv_iconst (v := (0 : Int32)) hx hb dX2_findSeatings_1 (by decide) ?_
  obtain ⟨G_1, eG_1, hf⟩ := nm_s hf
  refine mp X Y 34 (by decide) q1139 ⟨rfl, rfl⟩ rfl mz0_34 eG_1 dX2_findSeatings_2 (fun H locs Y => ?_)
  refine lv_aload_n hx hb dX2_findSeatings_5 rfl (lv_at hl 0 rfl) ?_
  refine lv_iconst (v := (0 : Int32)) hx hb dX2_findSeatings_6 (by decide) ?_
  obtain ⟨G_2, eG_2, hf⟩ := nm_s hf
  refine mp X Y 36 (by decide) q1141 ⟨rfl, rfl⟩ rfl mz0_36 eG_2 dX2_findSeatings_7 (fun H locs Y => ?_)
  refine lv_aload_n hx hb dX2_findSeatings_10 rfl (lv_at hl 0 rfl) ?_
  refine lv_iconst (v := (0 : Int32)) hx hb dX2_findSeatings_11 (by decide) ?_
  obtain ⟨G_3, eG_3, hf⟩ := nm_s hf
  refine mp X Y 37 (by decide) q1142 ⟨rfl, rfl⟩ rfl mz0_37 eG_3 dX2_findSeatings_12 (fun H locs Y => ?_)
  refine lv_iconst (v := (0 : Int32)) hx hb dX2_findSeatings_15 (by decide) ?_
  refine lv_istore_n (lv' := [(2, .int (0 : Int32)), (0, .ref h), (1, .int a1)]) hx hb dX2_findSeatings_16 rfl hl (by decide) rfl (fun ls hl => ?_)
  obtain ⟨G_12, hL, hf⟩ := bd1_s hf
  have E17_51 : ∀ (H : Heap) (locs : List Loc), WX D A s (mW h ad cA G_12) H locs → ∀ ls : Array Slot, lv_has ls 4 [(0, .ref h), (1, .int a1)] → W p l e (mR 4) s m args below meth c H locs 0 0 (MQ below (mQ D cA h ad A (none) G') args s 0 0 A) (F0 m 43 ls []) := by
    clear hL
    intro H locs Y ls hl
    refine lv_aload_n hx hb dX2_findSeatings_43 rfl (lv_at hl 0 rfl) ?_
    refine lv_iconst (v := (-1 : Int32)) hx hb dX2_findSeatings_44 (by decide) ?_
    refine lv_iconst (v := (1 : Int32)) hx hb dX2_findSeatings_45 (by decide) ?_
    obtain ⟨r_13, hq_14, hf⟩ := bd1_s hf
    refine mcI (av := [.int (-1 : Int32), .int (1 : Int32)]) (rest := []) 2 X Y (tX2_nextThere l N G_12 (-1 : Int32) (1 : Int32) r_13 hq_14) (lw_V q1416 q1418 qs60 q70 q1419) ydX2_nextThere ⟨rfl, rfl, by decide, by decide⟩ rfl hl.1 rfl (Nat.le_of_ble_eq_true rfl) ⟨Nat.zero_le _, Nat.zero_le _⟩ dX2_findSeatings_46 (fun H locs Y => ?_)
    refine lv_istore_n (lv' := [(2, .int r_13), (0, .ref h), (1, .int a1)]) hx hb dX2_findSeatings_49 rfl hl (by decide) rfl (fun ls hl => ?_)
    refine lv_iload_n hx hb dX2_findSeatings_50 rfl (lv_at hl 0 rfl) ?_
    refine lv_aload_n hx hb dX2_findSeatings_51 rfl (lv_at hl 1 rfl) ?_
    refine mg (v := .int (G_12 0 2)) X Y 2 (by decide) q1107 rfl rfl dX2_findSeatings_52 ?_
    obtain ⟨G_18, hj, hf⟩ := bd1_s hf
    have J63_52 : ∀ (H : Heap) (locs : List Loc), WX D A s (mW h ad cA G_18) H locs → ∀ ls : Array Slot, lv_has ls 4 [(0, .ref h), (1, .int a1), (2, .int r_13)] → W p l e (mR 4) s m args below meth c H locs 0 0 (MQ below (mQ D cA h ad A (none) G') args s 0 0 A) (F0 m 63 ls []) := by
      clear hj
      intro H locs Y ls hl
      obtain ⟨G_50, hL, hf⟩ := bd1_s hf
      have E63_53 : ∀ (H : Heap) (locs : List Loc), WX D A s (mW h ad cA G_50) H locs → ∀ ls : Array Slot, lv_has ls 4 [] → W p l e (mR 4) s m args below meth c H locs 0 0 (MQ below (mQ D cA h ad A (none) G') args s 0 0 A) (F0 m 172 ls []) := by
        clear hL
        intro H locs Y ls hl
        cases hf
        exact m_vret X Y dX2_findSeatings_172
      clear hf
      have L63_53 : ∀ (n_ : Nat) (x2_19 : Int32) (G_20 : GS), fX2_findSeatings_L63 N a1 n_ x2_19 G_20 = some G_50 → ∀ (H : Heap) (locs : List Loc), WX D A s (mW h ad cA G_20) H locs → ∀ ls : Array Slot, lv_has ls 4 [(0, .ref h), (1, .int a1), (2, .int x2_19)] → W p l e (mR 4) s m args below meth c H locs 0 0 (MQ below (mQ D cA h ad A (none) G') args s 0 0 A) (F0 m 63 ls []) := by
        clear hL
        intro n_
        induction n_ with
        | zero =>
          intro x2_19 G_20 hf
          rw [fX2_findSeatings_L63.eq_1] at hf
          cases hf
        | succ n_ ih =>
          intro x2_19 G_20 hf
          intro H locs Y ls hl
          rw [fX2_findSeatings_L63.eq_2] at hf
          refine lv_iload_n hx hb dX2_findSeatings_63 rfl (lv_at hl 2 rfl) ?_
          refine lv_iconst (v := (0 : Int32)) hx hb dX2_findSeatings_64 (by decide) ?_
          refine lv_aload_n hx hb dX2_findSeatings_65 rfl (lv_at hl 0 rfl) ?_
          refine mg (v := .int (G_20 0 2)) X Y 2 (by decide) q1107 rfl rfl dX2_findSeatings_66 ?_
          refine lv_iconst (v := (1 : Int32)) hx hb dX2_findSeatings_69 (by decide) ?_
          refine lv_isub hx hb dX2_findSeatings_70 ?_
          obtain ⟨r_21, hq_22, hf⟩ := bd1_s hf
          refine w_callSI (av := [.int x2_19, .int (0 : Int32), .int ((G_20 0 2) - (1 : Int32))]) (rest := []) 3 X Y (tX2_in l N x2_19 (0 : Int32) ((G_20 0 2) - (1 : Int32)) r_21 hq_22) (lw_S q1225 q1226 q70 q1227) ydX2_in ⟨rfl, rfl, by decide, by decide⟩ rfl hl.1 rfl (Nat.le_of_ble_eq_true rfl) ⟨Nat.zero_le _, Nat.zero_le _⟩ dX2_findSeatings_71 (fun H locs Y => ?_)
          refine lv_if_eq (tgt := 172) hx hb dX2_findSeatings_74 (by decide) (fun c_23 => ?_) (fun c_23 => ?_)
          · rw [if_pos c_23] at hf
            cases hf
            exact E63_53 _ _ Y _ (lv_sub hl [] rfl)
          · rw [if_neg c_23] at hf
            refine lv_aload_n hx hb dX2_findSeatings_77 rfl (lv_at hl 0 rfl) ?_
            refine mg (v := .ref (ad 32)) X Y 32 (by decide) q1137 rfl rfl dX2_findSeatings_78 ?_
            refine lv_iload_n hx hb dX2_findSeatings_81 rfl (lv_at hl 2 rfl) ?_
            obtain ⟨b_24, hf⟩ := gd_s hf
            obtain ⟨v_25, ev_25, hf⟩ := nm_s hf
            refine ml (n := 6) X Y 32 14 rfl b_24 ev_25 dX2_findSeatings_82 ?_
            refine lv_iconst (v := (1 : Int32)) hx hb dX2_findSeatings_83 (by decide) ?_
            refine lv_iadd hx hb dX2_findSeatings_84 ?_
            obtain ⟨x3_26, ex3_26, hf⟩ := nm_s hf
            refine lv_topE ex3_26 ?_
            refine lv_istore_n (lv' := [(3, .int x3_26), (0, .ref h), (1, .int a1), (2, .int x2_19)]) hx hb dX2_findSeatings_85 rfl hl (by decide) rfl (fun ls hl => ?_)
            refine lv_aload_n hx hb dX2_findSeatings_86 rfl (lv_at hl 1 rfl) ?_
            refine mg (v := .ref (ad 32)) X Y 32 (by decide) q1137 rfl rfl dX2_findSeatings_87 ?_
            refine lv_iload_n hx hb dX2_findSeatings_90 rfl (lv_at hl 3 rfl) ?_
            refine lv_iconst (v := (-1 : Int32)) hx hb dX2_findSeatings_91 (by decide) ?_
            obtain ⟨b_27, hf⟩ := gd_s hf
            obtain ⟨G_28, eG_28, hf⟩ := nm_s hf
            refine ms (n := 6) X Y 32 14 rfl mz32 b_27 eG_28 dX2_findSeatings_92 (fun H locs Y => ?_)
            obtain ⟨x3_35, hL, hf⟩ := bd1_s hf
            have E93_54 : ∀ (H : Heap) (locs : List Loc), WX D A s (mW h ad cA G_28) H locs → ∀ ls : Array Slot, lv_has ls 4 [(0, .ref h), (1, .int a1), (2, .int x2_19), (3, .int x3_35)] → W p l e (mR 4) s m args below meth c H locs 0 0 (MQ below (mQ D cA h ad A (none) G') args s 0 0 A) (F0 m 116 ls []) := by
              clear hL
              intro H locs Y ls hl
              refine lv_iload_n hx hb dX2_findSeatings_116 rfl (lv_at hl 3 rfl) ?_
              refine lv_aload_n hx hb dX2_findSeatings_117 rfl (lv_at hl 0 rfl) ?_
              refine mg (v := .int (G_28 0 0)) X Y 0 (by decide) q1105 rfl rfl dX2_findSeatings_118 ?_
              obtain ⟨x2_48, G_49, hj, hf⟩ := bd2_s hf
              have J169_55 : ∀ (H : Heap) (locs : List Loc), WX D A s (mW h ad cA G_49) H locs → ∀ ls : Array Slot, lv_has ls 4 [(0, .ref h), (1, .int a1), (2, .int x2_48)] → W p l e (mR 4) s m args below meth c H locs 0 0 (MQ below (mQ D cA h ad A (none) G') args s 0 0 A) (F0 m 169 ls []) := by
                clear hj
                intro H locs Y ls hl
                refine lv_goto (tgt := 63) hx hb dX2_findSeatings_169 (by decide) ?_
                exact ih _ _ hf _ _ Y _ (lv_sub hl [0, 1, 2] rfl)
              replace hf := hj
              clear hj
              refine lv_icmp_lt (tgt := 134) hx hb dX2_findSeatings_121 (by decide) (fun c_36 => ?_) (fun c_36 => ?_)
              · rw [if_pos c_36] at hf
                refine lv_aload_n hx hb dX2_findSeatings_134 rfl (lv_at hl 0 rfl) ?_
                refine mg (v := .ref (ad 32)) X Y 32 (by decide) q1137 rfl rfl dX2_findSeatings_135 ?_
                refine lv_iload_n hx hb dX2_findSeatings_138 rfl (lv_at hl 2 rfl) ?_
                refine lv_iload_n hx hb dX2_findSeatings_139 rfl (lv_at hl 3 rfl) ?_
                obtain ⟨b_37, hf⟩ := gd_s hf
                obtain ⟨G_38, eG_38, hf⟩ := nm_s hf
                refine ms (n := 6) X Y 32 14 rfl mz32 b_37 eG_38 dX2_findSeatings_140 (fun H locs Y => ?_)
                refine lv_aload_n hx hb dX2_findSeatings_141 rfl (lv_at hl 0 rfl) ?_
                refine lv_iload_n hx hb dX2_findSeatings_142 rfl (lv_at hl 2 rfl) ?_
                refine lv_iconst (v := (1 : Int32)) hx hb dX2_findSeatings_143 (by decide) ?_
                obtain ⟨r_39, hq_40, hf⟩ := bd1_s hf
                refine mcI (av := [.int x2_19, .int (1 : Int32)]) (rest := []) 2 X Y (tX2_nextThere l N G_38 x2_19 (1 : Int32) r_39 hq_40) (lw_V q1416 q1418 qs60 q70 q1419) ydX2_nextThere ⟨rfl, rfl, by decide, by decide⟩ rfl hl.1 rfl (Nat.le_of_ble_eq_true rfl) ⟨Nat.zero_le _, Nat.zero_le _⟩ dX2_findSeatings_144 (fun H locs Y => ?_)
                refine lv_aload_n hx hb dX2_findSeatings_147 rfl (lv_at hl 0 rfl) ?_
                refine mg (v := .int (G_38 0 2)) X Y 2 (by decide) q1107 rfl rfl dX2_findSeatings_148 ?_
                refine lv_icmp_ne (tgt := 162) hx hb dX2_findSeatings_151 (by decide) (fun c_41 => ?_) (fun c_41 => ?_)
                · rw [if_neg c_41] at hf
                  refine lv_aload_n hx hb dX2_findSeatings_162 rfl (lv_at hl 0 rfl) ?_
                  refine lv_iload_n hx hb dX2_findSeatings_163 rfl (lv_at hl 2 rfl) ?_
                  refine lv_iconst (v := (1 : Int32)) hx hb dX2_findSeatings_164 (by decide) ?_
                  obtain ⟨r_42, hq_43, hf⟩ := bd1_s hf
                  refine mcI (av := [.int x2_19, .int (1 : Int32)]) (rest := []) 2 X Y (tX2_nextThere l N G_38 x2_19 (1 : Int32) r_42 hq_43) (lw_V q1416 q1418 qs60 q70 q1419) ydX2_nextThere ⟨rfl, rfl, by decide, by decide⟩ rfl hl.1 rfl (Nat.le_of_ble_eq_true rfl) ⟨Nat.zero_le _, Nat.zero_le _⟩ dX2_findSeatings_165 (fun H locs Y => ?_)
                  refine lv_istore_n (lv' := [(2, .int r_42), (0, .ref h), (1, .int a1), (3, .int x3_35)]) hx hb dX2_findSeatings_168 rfl hl (by decide) rfl (fun ls hl => ?_)
                  cases hf
                  exact J169_55 _ _ Y _ (lv_sub hl [1, 2, 0] rfl)
                · rw [if_pos c_41] at hf
                  refine lv_aload_n hx hb dX2_findSeatings_154 rfl (lv_at hl 0 rfl) ?_
                  refine lv_iload_n hx hb dX2_findSeatings_155 rfl (lv_at hl 1 rfl) ?_
                  obtain ⟨G_44, hq_45, hf⟩ := bd1_s hf
                  refine mcV (av := [.int a1]) (rest := []) 1 X Y (tX2_finds l N G_38 a1 G_44 hq_45) (lw_V q1420 q1422 qs61 q70 q1423) ydX2_finds ⟨rfl, rfl, by decide, by decide⟩ rfl hl.1 rfl (Nat.le_of_ble_eq_true rfl) ⟨Nat.zero_le _, Nat.zero_le _⟩ dX2_findSeatings_156 (fun H locs Y => ?_)
                  refine lv_goto (tgt := 169) hx hb dX2_findSeatings_159 (by decide) ?_
                  cases hf
                  exact J169_55 _ _ Y _ (lv_sub hl [0, 1, 2] rfl)
              · rw [if_neg c_36] at hf
                refine lv_aload_n hx hb dX2_findSeatings_124 rfl (lv_at hl 0 rfl) ?_
                refine lv_iload_n hx hb dX2_findSeatings_125 rfl (lv_at hl 2 rfl) ?_
                refine lv_iconst (v := (-1 : Int32)) hx hb dX2_findSeatings_126 (by decide) ?_
                obtain ⟨r_46, hq_47, hf⟩ := bd1_s hf
                refine mcI (av := [.int x2_19, .int (-1 : Int32)]) (rest := []) 2 X Y (tX2_nextThere l N G_28 x2_19 (-1 : Int32) r_46 hq_47) (lw_V q1416 q1418 qs60 q70 q1419) ydX2_nextThere ⟨rfl, rfl, by decide, by decide⟩ rfl hl.1 rfl (Nat.le_of_ble_eq_true rfl) ⟨Nat.zero_le _, Nat.zero_le _⟩ dX2_findSeatings_127 (fun H locs Y => ?_)
                refine lv_istore_n (lv' := [(2, .int r_46), (0, .ref h), (1, .int a1), (3, .int x3_35)]) hx hb dX2_findSeatings_130 rfl hl (by decide) rfl (fun ls hl => ?_)
                refine lv_goto (tgt := 169) hx hb dX2_findSeatings_131 (by decide) ?_
                cases hf
                exact J169_55 _ _ Y _ (lv_sub hl [1, 2, 0] rfl)
            clear hf
            have L93_54 : ∀ (n_ : Nat) (x3_29 : Int32), fX2_findSeatings_L93 N x2_19 G_28 n_ x3_29 = some x3_35 → ∀ (H : Heap) (locs : List Loc), WX D A s (mW h ad cA G_28) H locs → ∀ ls : Array Slot, lv_has ls 4 [(0, .ref h), (1, .int a1), (2, .int x2_19), (3, .int x3_29)] → W p l e (mR 4) s m args below meth c H locs 0 0 (MQ below (mQ D cA h ad A (none) G') args s 0 0 A) (F0 m 93 ls []) := by
              clear hL
              intro n_
              induction n_ with
              | zero =>
                intro x3_29 hf
                rw [fX2_findSeatings_L93.eq_1] at hf
                cases hf
              | succ n_ ih =>
                intro x3_29 hf
                intro H locs Y ls hl
                rw [fX2_findSeatings_L93.eq_2] at hf
                refine lv_iload_n hx hb dX2_findSeatings_93 rfl (lv_at hl 3 rfl) ?_
                refine lv_aload_n hx hb dX2_findSeatings_94 rfl (lv_at hl 0 rfl) ?_
                refine mg (v := .int (G_28 0 0)) X Y 0 (by decide) q1105 rfl rfl dX2_findSeatings_95 ?_
                refine lv_icmp_ge (tgt := 116) hx hb dX2_findSeatings_98 (by decide) (fun c_30 => ?_) (fun c_30 => ?_)
                · rw [if_pos c_30] at hf
                  cases hf
                  exact E93_54 _ _ Y _ (lv_sub hl [0, 1, 2, 3] rfl)
                · rw [if_neg c_30] at hf
                  refine lv_aload_n hx hb dX2_findSeatings_101 rfl (lv_at hl 0 rfl) ?_
                  refine lv_iload_n hx hb dX2_findSeatings_102 rfl (lv_at hl 2 rfl) ?_
                  refine lv_iload_n hx hb dX2_findSeatings_103 rfl (lv_at hl 3 rfl) ?_
                  obtain ⟨r_31, hq_32, hf⟩ := bd1_s hf
                  refine mcI (av := [.int x2_19, .int x3_29]) (rest := []) 2 X Y (tX2_maySit l N G_28 x2_19 x3_29 r_31 hq_32) (lw_V q1428 q1430 qs63 q70 q1431) ydX2_maySit ⟨rfl, rfl, by decide, by decide⟩ rfl hl.1 rfl (Nat.le_of_ble_eq_true rfl) ⟨Nat.zero_le _, Nat.zero_le _⟩ dX2_findSeatings_104 (fun H locs Y => ?_)
                  refine lv_if_ne (tgt := 116) hx hb dX2_findSeatings_107 (by decide) (fun c_33 => ?_) (fun c_33 => ?_)
                  · rw [if_neg c_33] at hf
                    cases hf
                    exact E93_54 _ _ Y _ (lv_sub hl [0, 1, 2, 3] rfl)
                  · rw [if_pos c_33] at hf
                    obtain ⟨x3_34, ex3_34, hf⟩ := nm_s hf
                    refine lv_iinc (v := x3_34) (lv' := [(3, .int x3_34), (0, .ref h), (1, .int a1), (2, .int x2_19)]) hx hb dX2_findSeatings_110 hl (k := 3) rfl (by rw [ex3_34]; rfl) (by decide) rfl (fun ls hl => ?_)
                    refine lv_goto (tgt := 93) hx hb dX2_findSeatings_113 (by decide) ?_
                    exact ih _ hf _ _ Y _ (lv_sub hl [1, 2, 3, 0] rfl)
            exact L93_54 N _ hL _ _ Y _ (lv_sub hl [1, 2, 3, 0] rfl)
      exact L63_53 N _ _ hL _ _ Y _ (lv_sub hl [0, 1, 2] rfl)
    replace hf := hj
    clear hj
    refine lv_icmp_ne (tgt := 63) hx hb dX2_findSeatings_55 (by decide) (fun c_15 => ?_) (fun c_15 => ?_)
    · rw [if_neg c_15] at hf
      cases hf
      exact J63_52 _ _ Y _ (lv_sub hl [1, 2, 0] rfl)
    · rw [if_pos c_15] at hf
      refine lv_aload_n hx hb dX2_findSeatings_58 rfl (lv_at hl 1 rfl) ?_
      refine lv_iload_n hx hb dX2_findSeatings_59 rfl (lv_at hl 2 rfl) ?_
      obtain ⟨G_16, hq_17, hf⟩ := bd1_s hf
      refine mcV (av := [.int a1]) (rest := []) 1 X Y (tX2_finds l N G_12 a1 G_16 hq_17) (lw_V q1420 q1422 qs61 q70 q1423) ydX2_finds ⟨rfl, rfl, by decide, by decide⟩ rfl hl.1 rfl (Nat.le_of_ble_eq_true rfl) ⟨Nat.zero_le _, Nat.zero_le _⟩ dX2_findSeatings_60 (fun H locs Y => ?_)
      cases hf
      exact J63_52 _ _ Y _ (lv_sub hl [1, 2, 0] rfl)
  clear hf
  have L17_51 : ∀ (n_ : Nat) (x2_4 : Int32) (G_5 : GS), fX2_findSeatings_L17 N n_ x2_4 G_5 = some G_12 → ∀ (H : Heap) (locs : List Loc), WX D A s (mW h ad cA G_5) H locs → ∀ ls : Array Slot, lv_has ls 4 [(0, .ref h), (1, .int a1), (2, .int x2_4)] → W p l e (mR 4) s m args below meth c H locs 0 0 (MQ below (mQ D cA h ad A (none) G') args s 0 0 A) (F0 m 17 ls []) := by
    clear hL
    intro n_
    induction n_ with
    | zero =>
      intro x2_4 G_5 hf
      rw [fX2_findSeatings_L17.eq_1] at hf
      cases hf
    | succ n_ ih =>
      intro x2_4 G_5 hf
      intro H locs Y ls hl
      rw [fX2_findSeatings_L17.eq_2] at hf
      refine lv_iload_n hx hb dX2_findSeatings_17 rfl (lv_at hl 2 rfl) ?_
      refine lv_bipush (v := (6 : Int32)) hx hb dX2_findSeatings_18 (by decide) ?_
      refine lv_icmp_ge (tgt := 43) hx hb dX2_findSeatings_20 (by decide) (fun c_6 => ?_) (fun c_6 => ?_)
      · rw [if_pos c_6] at hf
        cases hf
        exact E17_51 _ _ Y _ (lv_sub hl [0, 1] rfl)
      · rw [if_neg c_6] at hf
        refine lv_aload_n hx hb dX2_findSeatings_23 rfl (lv_at hl 0 rfl) ?_
        refine mg (v := .ref (ad 32)) X Y 32 (by decide) q1137 rfl rfl dX2_findSeatings_24 ?_
        refine lv_iload_n hx hb dX2_findSeatings_27 rfl (lv_at hl 2 rfl) ?_
        refine lv_iconst (v := (-1 : Int32)) hx hb dX2_findSeatings_28 (by decide) ?_
        obtain ⟨b_7, hf⟩ := gd_s hf
        obtain ⟨G_8, eG_8, hf⟩ := nm_s hf
        refine ms (n := 6) X Y 32 14 rfl mz32 b_7 eG_8 dX2_findSeatings_29 (fun H locs Y => ?_)
        refine lv_aload_n hx hb dX2_findSeatings_30 rfl (lv_at hl 0 rfl) ?_
        refine mg (v := .ref (ad 35)) X Y 35 (by decide) q1140 rfl rfl dX2_findSeatings_31 ?_
        refine lv_iload_n hx hb dX2_findSeatings_34 rfl (lv_at hl 2 rfl) ?_
        refine lv_iconst (v := (-1 : Int32)) hx hb dX2_findSeatings_35 (by decide) ?_
        obtain ⟨b_9, hf⟩ := gd_s hf
        obtain ⟨G_10, eG_10, hf⟩ := nm_s hf
        refine ms (n := 6) X Y 35 15 rfl mz35 b_9 eG_10 dX2_findSeatings_36 (fun H locs Y => ?_)
        obtain ⟨x2_11, ex2_11, hf⟩ := nm_s hf
        refine lv_iinc (v := x2_11) (lv' := [(2, .int x2_11), (0, .ref h), (1, .int a1)]) hx hb dX2_findSeatings_37 hl (k := 2) rfl (by rw [ex2_11]; rfl) (by decide) rfl (fun ls hl => ?_)
        refine lv_goto (tgt := 17) hx hb dX2_findSeatings_40 (by decide) ?_
        exact ih _ _ hf _ _ Y _ (lv_sub hl [1, 2, 0] rfl)
  exact L17_51 N _ _ hL _ _ Y _ (lv_sub hl [1, 2, 0] rfl)

def fX2_seatings (N : Nat) (G : GS) : Option (Int32 × GS) :=
  bd1 (fX2_findSeatings N G (0 : Int32)) fun G_1 =>
  some ((G_1 0 34), G_1)
theorem ydX2_seatings : yX2_seatings.cls = RX2 ∧ yX2_seatings.cls ≠ "java/lang/invoke/MethodHandle" ∧ yX2_seatings.cls ≠ "java/lang/invoke/VarHandle" ∧ (parseMethodDescriptor yX2_seatings.desc).map (fun d => d.parameters.length) = some 0 := by decide +kernel
set_option maxHeartbeats 4000000 in
theorem tX2_seatings (l : Launch) (N : Nat) (G : GS) (r : Int32) (G' : GS) (hf : fX2_seatings N G = some (r, G')) : mMet l yX2_seatings cX2_seatings 1 (some .int) (mR 5) [] G (some (.int r)) G' := by
  unfold fX2_seatings at hf
  refine mMet_of (by decide +kernel) rfl (Nat.le_of_ble_eq_true rfl) (fun {p e s m args below meth c ls D cA h ad A} X Y hl => ?_)
  have hx := X.1.1
  have hb := X.1.2.1
  have hl : lv_has ls 1 [(0, .ref h)] := hl
  refine lv_aload_n hx hb dX2_seatings_0 rfl (lv_at hl 0 rfl) ?_
  refine lv_iconst (v := (0 : Int32)) hx hb dX2_seatings_1 (by decide) ?_
  obtain ⟨G_1, hq_2, hf⟩ := bd1_s hf
  refine mcV (av := [.int (0 : Int32)]) (rest := []) 1 X Y (tX2_findSeatings l N G (0 : Int32) G_1 hq_2) (lw_V q1412 q1414 qs59 q70 q1415) ydX2_findSeatings ⟨rfl, rfl, by decide, by decide⟩ rfl hl.1 rfl (Nat.le_of_ble_eq_true rfl) ⟨Nat.zero_le _, Nat.zero_le _⟩ dX2_seatings_2 (fun H locs Y => ?_)
  refine lv_aload_n hx hb dX2_seatings_5 rfl (lv_at hl 0 rfl) ?_
  refine mg (v := .int (G_1 0 34)) X Y 34 (by decide) q1139 rfl rfl dX2_seatings_6 ?_
  cases hf
  exact m_iret X Y dX2_seatings_9

def fX2_seatOf (N : Nat) (G : GS) (a1 : Int32) : Option (Int32 × GS) :=
  bd1 (fX2_isKnight N G a1) fun r_1 =>
  if r_1 = (0 : Int32) then (
   some ((-2 : Int32), G)
  ) else (
   bd1 (fX2_findSeatings N G (0 : Int32)) fun G_4 =>
   gd (inb a1 6) <|
   nm (G_4 35 (a1).toNatClampNeg : Int32) fun v_7 =>
   some (v_7, G_4)
  )
theorem ydX2_seatOf : yX2_seatOf.cls = RX2 ∧ yX2_seatOf.cls ≠ "java/lang/invoke/MethodHandle" ∧ yX2_seatOf.cls ≠ "java/lang/invoke/VarHandle" ∧ (parseMethodDescriptor yX2_seatOf.desc).map (fun d => d.parameters.length) = some 1 := by decide +kernel
set_option maxHeartbeats 4000000 in
theorem tX2_seatOf (l : Launch) (N : Nat) (G : GS) (a1 : Int32) (r : Int32) (G' : GS) (hf : fX2_seatOf N G a1 = some (r, G')) : mMet l yX2_seatOf cX2_seatOf 2 (some .int) (mR 5) [.int a1] G (some (.int r)) G' := by
  unfold fX2_seatOf at hf
  refine mMet_of (by decide +kernel) rfl (Nat.le_of_ble_eq_true rfl) (fun {p e s m args below meth c ls D cA h ad A} X Y hl => ?_)
  have hx := X.1.1
  have hb := X.1.2.1
  have hl : lv_has ls 2 [(0, .ref h), (1, .int a1)] := hl
  refine lv_aload_n hx hb dX2_seatOf_0 rfl (lv_at hl 0 rfl) ?_
  refine lv_iload_n hx hb dX2_seatOf_1 rfl (lv_at hl 1 rfl) ?_
  obtain ⟨r_1, hq_2, hf⟩ := bd1_s hf
  refine mcI (av := [.int a1]) (rest := []) 1 X Y (tX2_isKnight l N G a1 r_1 hq_2) (lw_V q1322 q1324 qs48 q70 q1325) ydX2_isKnight ⟨rfl, rfl, by decide, by decide⟩ rfl hl.1 rfl (Nat.le_of_ble_eq_true rfl) ⟨Nat.zero_le _, Nat.zero_le _⟩ dX2_seatOf_2 (fun H locs Y => ?_)
  refine lv_if_ne (tgt := 11) hx hb dX2_seatOf_5 (by decide) (fun c_3 => ?_) (fun c_3 => ?_)
  · rw [if_neg c_3] at hf
    refine lv_aload_n hx hb dX2_seatOf_11 rfl (lv_at hl 0 rfl) ?_
    refine lv_iconst (v := (0 : Int32)) hx hb dX2_seatOf_12 (by decide) ?_
    obtain ⟨G_4, hq_5, hf⟩ := bd1_s hf
    refine mcV (av := [.int (0 : Int32)]) (rest := []) 1 X Y (tX2_findSeatings l N G (0 : Int32) G_4 hq_5) (lw_V q1412 q1414 qs59 q70 q1415) ydX2_findSeatings ⟨rfl, rfl, by decide, by decide⟩ rfl hl.1 rfl (Nat.le_of_ble_eq_true rfl) ⟨Nat.zero_le _, Nat.zero_le _⟩ dX2_seatOf_13 (fun H locs Y => ?_)
    refine lv_aload_n hx hb dX2_seatOf_16 rfl (lv_at hl 0 rfl) ?_
    refine mg (v := .ref (ad 35)) X Y 35 (by decide) q1140 rfl rfl dX2_seatOf_17 ?_
    refine lv_iload_n hx hb dX2_seatOf_20 rfl (lv_at hl 1 rfl) ?_
    obtain ⟨b_6, hf⟩ := gd_s hf
    obtain ⟨v_7, ev_7, hf⟩ := nm_s hf
    refine ml (n := 6) X Y 35 15 rfl b_6 ev_7 dX2_seatOf_21 ?_
    cases hf
    exact m_iret X Y dX2_seatOf_22
  · rw [if_pos c_3] at hf
    refine lv_bipush (v := (-2 : Int32)) hx hb dX2_seatOf_8 (by decide) ?_
    cases hf
    exact m_iret X Y dX2_seatOf_10

def fX2_moved (N : Nat) (G : GS) : Option (Int32 × GS) :=
  bd1 (fX2_findSeatings N G (0 : Int32)) fun G_1 =>
  if (G_1 0 34) = (0 : Int32) then (
   some ((-1 : Int32), G_1)
  ) else (
   some ((G_1 0 36), G_1)
  )
theorem ydX2_moved : yX2_moved.cls = RX2 ∧ yX2_moved.cls ≠ "java/lang/invoke/MethodHandle" ∧ yX2_moved.cls ≠ "java/lang/invoke/VarHandle" ∧ (parseMethodDescriptor yX2_moved.desc).map (fun d => d.parameters.length) = some 0 := by decide +kernel
set_option maxHeartbeats 4000000 in
theorem tX2_moved (l : Launch) (N : Nat) (G : GS) (r : Int32) (G' : GS) (hf : fX2_moved N G = some (r, G')) : mMet l yX2_moved cX2_moved 1 (some .int) (mR 5) [] G (some (.int r)) G' := by
  unfold fX2_moved at hf
  refine mMet_of (by decide +kernel) rfl (Nat.le_of_ble_eq_true rfl) (fun {p e s m args below meth c ls D cA h ad A} X Y hl => ?_)
  have hx := X.1.1
  have hb := X.1.2.1
  have hl : lv_has ls 1 [(0, .ref h)] := hl
  refine lv_aload_n hx hb dX2_moved_0 rfl (lv_at hl 0 rfl) ?_
  refine lv_iconst (v := (0 : Int32)) hx hb dX2_moved_1 (by decide) ?_
  obtain ⟨G_1, hq_2, hf⟩ := bd1_s hf
  refine mcV (av := [.int (0 : Int32)]) (rest := []) 1 X Y (tX2_findSeatings l N G (0 : Int32) G_1 hq_2) (lw_V q1412 q1414 qs59 q70 q1415) ydX2_findSeatings ⟨rfl, rfl, by decide, by decide⟩ rfl hl.1 rfl (Nat.le_of_ble_eq_true rfl) ⟨Nat.zero_le _, Nat.zero_le _⟩ dX2_moved_2 (fun H locs Y => ?_)
  refine lv_aload_n hx hb dX2_moved_5 rfl (lv_at hl 0 rfl) ?_
  refine mg (v := .int (G_1 0 34)) X Y 34 (by decide) q1139 rfl rfl dX2_moved_6 ?_
  refine lv_if_ne (tgt := 16) hx hb dX2_moved_9 (by decide) (fun c_3 => ?_) (fun c_3 => ?_)
  · rw [if_neg c_3] at hf
    refine lv_aload_n hx hb dX2_moved_16 rfl (lv_at hl 0 rfl) ?_
    refine mg (v := .int (G_1 0 36)) X Y 36 (by decide) q1141 rfl rfl dX2_moved_17 ?_
    cases hf
    exact m_iret X Y dX2_moved_20
  · rw [if_pos c_3] at hf
    refine lv_iconst (v := (-1 : Int32)) hx hb dX2_moved_12 (by decide) ?_
    refine lv_goto (tgt := 20) hx hb dX2_moved_13 (by decide) ?_
    cases hf
    exact m_iret X Y dX2_moved_20

def fX2_knows (N : Nat) (G : GS) (a1 : Int32) : Option (Int32 × GS) :=
  bd1 (fX2_in N a1 (0 : Int32) (3 : Int32)) fun r_1 =>
  if r_1 = (0 : Int32) then (
   some ((-3 : Int32), G)
  ) else (
   bd1 (fX2_findSeatings N G a1) fun G_4 =>
   if (G_4 0 34) = (0 : Int32) then (
    some ((-1 : Int32), G_4)
   ) else (
    some ((G_4 0 37), G_4)
   )
  )
theorem ydX2_knows : yX2_knows.cls = RX2 ∧ yX2_knows.cls ≠ "java/lang/invoke/MethodHandle" ∧ yX2_knows.cls ≠ "java/lang/invoke/VarHandle" ∧ (parseMethodDescriptor yX2_knows.desc).map (fun d => d.parameters.length) = some 1 := by decide +kernel
set_option maxHeartbeats 4000000 in
theorem tX2_knows (l : Launch) (N : Nat) (G : GS) (a1 : Int32) (r : Int32) (G' : GS) (hf : fX2_knows N G a1 = some (r, G')) : mMet l yX2_knows cX2_knows 2 (some .int) (mR 5) [.int a1] G (some (.int r)) G' := by
  unfold fX2_knows at hf
  refine mMet_of (by decide +kernel) rfl (Nat.le_of_ble_eq_true rfl) (fun {p e s m args below meth c ls D cA h ad A} X Y hl => ?_)
  have hx := X.1.1
  have hb := X.1.2.1
  have hl : lv_has ls 2 [(0, .ref h), (1, .int a1)] := hl
  refine lv_iload_n hx hb dX2_knows_0 rfl (lv_at hl 1 rfl) ?_
  refine lv_iconst (v := (0 : Int32)) hx hb dX2_knows_1 (by decide) ?_
  refine lv_iconst (v := (3 : Int32)) hx hb dX2_knows_2 (by decide) ?_
  obtain ⟨r_1, hq_2, hf⟩ := bd1_s hf
  refine w_callSI (av := [.int a1, .int (0 : Int32), .int (3 : Int32)]) (rest := []) 3 X Y (tX2_in l N a1 (0 : Int32) (3 : Int32) r_1 hq_2) (lw_S q1225 q1226 q70 q1227) ydX2_in ⟨rfl, rfl, by decide, by decide⟩ rfl hl.1 rfl (Nat.le_of_ble_eq_true rfl) ⟨Nat.zero_le _, Nat.zero_le _⟩ dX2_knows_3 (fun H locs Y => ?_)
  refine lv_if_ne (tgt := 12) hx hb dX2_knows_6 (by decide) (fun c_3 => ?_) (fun c_3 => ?_)
  · rw [if_neg c_3] at hf
    refine lv_aload_n hx hb dX2_knows_12 rfl (lv_at hl 0 rfl) ?_
    refine lv_iload_n hx hb dX2_knows_13 rfl (lv_at hl 1 rfl) ?_
    obtain ⟨G_4, hq_5, hf⟩ := bd1_s hf
    refine mcV (av := [.int a1]) (rest := []) 1 X Y (tX2_findSeatings l N G a1 G_4 hq_5) (lw_V q1412 q1414 qs59 q70 q1415) ydX2_findSeatings ⟨rfl, rfl, by decide, by decide⟩ rfl hl.1 rfl (Nat.le_of_ble_eq_true rfl) ⟨Nat.zero_le _, Nat.zero_le _⟩ dX2_knows_14 (fun H locs Y => ?_)
    refine lv_aload_n hx hb dX2_knows_17 rfl (lv_at hl 0 rfl) ?_
    refine mg (v := .int (G_4 0 34)) X Y 34 (by decide) q1139 rfl rfl dX2_knows_18 ?_
    refine lv_if_ne (tgt := 28) hx hb dX2_knows_21 (by decide) (fun c_6 => ?_) (fun c_6 => ?_)
    · rw [if_neg c_6] at hf
      refine lv_aload_n hx hb dX2_knows_28 rfl (lv_at hl 0 rfl) ?_
      refine mg (v := .int (G_4 0 37)) X Y 37 (by decide) q1142 rfl rfl dX2_knows_29 ?_
      cases hf
      exact m_iret X Y dX2_knows_32
    · rw [if_pos c_6] at hf
      refine lv_iconst (v := (-1 : Int32)) hx hb dX2_knows_24 (by decide) ?_
      refine lv_goto (tgt := 32) hx hb dX2_knows_25 (by decide) ?_
      cases hf
      exact m_iret X Y dX2_knows_32
  · rw [if_pos c_3] at hf
    refine lv_bipush (v := (-3 : Int32)) hx hb dX2_knows_9 (by decide) ?_
    cases hf
    exact m_iret X Y dX2_knows_11

def fX2_judge_L25 (N : Nat) (G : GS) : Nat → Int32 → Int32 → Option Int32
  | 0, _, _ => none
  | n_ + 1, x2_5, x3_6 =>
    if (G 0 2) ≤ x3_6 then (
     some x2_5
    ) else (
     gd (inb ((14 : Int32) + x3_6) 20) <|
     nm (G 8 (((14 : Int32) + x3_6)).toNatClampNeg : Int32) fun v_9 =>
     bd1 (
      if v_9 = (-1 : Int32) then (
       some (0 : Int32)
      ) else (
       gd (inb ((14 : Int32) + x3_6) 20) <|
       nm (G 8 (((14 : Int32) + x3_6)).toNatClampNeg : Int32) fun v_12 =>
       bd1 (fX2_beside N G v_12 (1 : Int32)) fun r_13 =>
       bd1 (fX2_sitter N G r_13) fun r_15 =>
       bd1 (fX2_areEnemies N G x3_6 r_15) fun r_17 =>
       if r_17 = (0 : Int32) then (
        some (0 : Int32)
       ) else (
        some (1 : Int32)
       )
      )
     ) fun j_20 =>
     nm ((x2_5 + j_20) : Int32) fun x2_21 =>
     nm ((x3_6 + (1 : Int32)) : Int32) fun x3_22 =>
     fX2_judge_L25 N G n_ x2_21 x3_22
    )
def fX2_judge (N : Nat) (G : GS) (a1 : Int32) : Option Int32 :=
  bd1 (fX2_in N a1 (0 : Int32) (1 : Int32)) fun r_1 =>
  if r_1 = (0 : Int32) then (
   some (-3 : Int32)
  ) else (
   if a1 = (0 : Int32) then (
    bd1 (fX2_wrongs N G) fun r_24 =>
    some r_24
   ) else (
    bd1 (fX2_judge_L25 N G N (0 : Int32) (0 : Int32)) fun x2_23 =>
    some x2_23
   )
  )
theorem ydX2_judge : yX2_judge.cls = RX2 ∧ yX2_judge.cls ≠ "java/lang/invoke/MethodHandle" ∧ yX2_judge.cls ≠ "java/lang/invoke/VarHandle" ∧ (parseMethodDescriptor yX2_judge.desc).map (fun d => d.parameters.length) = some 1 := by decide +kernel
set_option maxHeartbeats 4000000 in
theorem tX2_judge (l : Launch) (N : Nat) (G : GS) (a1 : Int32) (r : Int32) (hf : fX2_judge N G a1 = some r) : mMet l yX2_judge cX2_judge 4 (some .int) (mR 4) [.int a1] G (some (.int r)) G := by
  unfold fX2_judge at hf
  refine mMet_of (by decide +kernel) rfl (Nat.le_of_ble_eq_true rfl) (fun {p e s m args below meth c ls D cA h ad A} X Y hl => ?_)
  have hx := X.1.1
  have hb := X.1.2.1
  have hl : lv_has ls 4 [(0, .ref h), (1, .int a1)] := hl
  refine lv_iload_n hx hb dX2_judge_0 rfl (lv_at hl 1 rfl) ?_
  refine lv_iconst (v := (0 : Int32)) hx hb dX2_judge_1 (by decide) ?_
  refine lv_iconst (v := (1 : Int32)) hx hb dX2_judge_2 (by decide) ?_
  obtain ⟨r_1, hq_2, hf⟩ := bd1_s hf
  refine w_callSI (av := [.int a1, .int (0 : Int32), .int (1 : Int32)]) (rest := []) 3 X Y (tX2_in l N a1 (0 : Int32) (1 : Int32) r_1 hq_2) (lw_S q1225 q1226 q70 q1227) ydX2_in ⟨rfl, rfl, by decide, by decide⟩ rfl hl.1 rfl (Nat.le_of_ble_eq_true rfl) ⟨Nat.zero_le _, Nat.zero_le _⟩ dX2_judge_3 (fun H locs Y => ?_)
  refine lv_if_ne (tgt := 12) hx hb dX2_judge_6 (by decide) (fun c_3 => ?_) (fun c_3 => ?_)
  · rw [if_neg c_3] at hf
    refine lv_iload_n hx hb dX2_judge_12 rfl (lv_at hl 1 rfl) ?_
    refine lv_if_ne (tgt := 21) hx hb dX2_judge_13 (by decide) (fun c_4 => ?_) (fun c_4 => ?_)
    · rw [if_neg c_4] at hf
      refine lv_iconst (v := (0 : Int32)) hx hb dX2_judge_21 (by decide) ?_
      refine lv_istore_n (lv' := [(2, .int (0 : Int32)), (0, .ref h), (1, .int a1)]) hx hb dX2_judge_22 rfl hl (by decide) rfl (fun ls hl => ?_)
      refine lv_iconst (v := (0 : Int32)) hx hb dX2_judge_23 (by decide) ?_
      refine lv_istore_n (lv' := [(3, .int (0 : Int32)), (2, .int (0 : Int32)), (0, .ref h), (1, .int a1)]) hx hb dX2_judge_24 rfl hl (by decide) rfl (fun ls hl => ?_)
      obtain ⟨x2_23, hL, hf⟩ := bd1_s hf
      have E25_26 : ∀ (H : Heap) (locs : List Loc), WX D A s (mW h ad cA G) H locs → ∀ ls : Array Slot, lv_has ls 4 [(2, .int x2_23)] → W p l e (mR 4) s m args below meth c H locs 0 0 (MQ below (mQ D cA h ad A (some (.int r)) G) args s 0 0 A) (F0 m 86 ls []) := by
        clear hL
        intro H locs Y ls hl
        refine lv_iload_n hx hb dX2_judge_86 rfl (lv_at hl 0 rfl) ?_
        cases hf
        exact m_iret X Y dX2_judge_87
      clear hf
      have L25_26 : ∀ (n_ : Nat) (x2_5 : Int32) (x3_6 : Int32), fX2_judge_L25 N G n_ x2_5 x3_6 = some x2_23 → ∀ (H : Heap) (locs : List Loc), WX D A s (mW h ad cA G) H locs → ∀ ls : Array Slot, lv_has ls 4 [(0, .ref h), (2, .int x2_5), (3, .int x3_6)] → W p l e (mR 4) s m args below meth c H locs 0 0 (MQ below (mQ D cA h ad A (some (.int r)) G) args s 0 0 A) (F0 m 25 ls []) := by
        clear hL
        intro n_
        induction n_ with
        | zero =>
          intro x2_5 x3_6 hf
          rw [fX2_judge_L25.eq_1] at hf
          cases hf
        | succ n_ ih =>
          intro x2_5 x3_6 hf
          intro H locs Y ls hl
          rw [fX2_judge_L25.eq_2] at hf
          refine lv_iload_n hx hb dX2_judge_25 rfl (lv_at hl 2 rfl) ?_
          refine lv_aload_n hx hb dX2_judge_26 rfl (lv_at hl 0 rfl) ?_
          refine mg (v := .int (G 0 2)) X Y 2 (by decide) q1107 rfl rfl dX2_judge_27 ?_
          refine lv_icmp_ge (tgt := 86) hx hb dX2_judge_30 (by decide) (fun c_7 => ?_) (fun c_7 => ?_)
          · rw [if_pos c_7] at hf
            cases hf
            exact E25_26 _ _ Y _ (lv_sub hl [1] rfl)
          · rw [if_neg c_7] at hf
            refine lv_iload_n hx hb dX2_judge_33 rfl (lv_at hl 1 rfl) ?_
            refine lv_aload_n hx hb dX2_judge_34 rfl (lv_at hl 0 rfl) ?_
            refine mg (v := .ref (ad 8)) X Y 8 (by decide) q1113 rfl rfl dX2_judge_35 ?_
            refine lv_bipush (v := (14 : Int32)) hx hb dX2_judge_38 (by decide) ?_
            refine lv_iload_n hx hb dX2_judge_40 rfl (lv_at hl 2 rfl) ?_
            refine lv_iadd hx hb dX2_judge_41 ?_
            obtain ⟨b_8, hf⟩ := gd_s hf
            obtain ⟨v_9, ev_9, hf⟩ := nm_s hf
            refine ml (n := 20) X Y 8 4 rfl b_8 ev_9 dX2_judge_42 ?_
            refine lv_iconst (v := (-1 : Int32)) hx hb dX2_judge_43 (by decide) ?_
            obtain ⟨j_20, hj, hf⟩ := bd1_s hf
            have J78_27 : ∀ (H : Heap) (locs : List Loc), WX D A s (mW h ad cA G) H locs → ∀ ls : Array Slot, lv_has ls 4 [(0, .ref h), (3, .int x3_6)] → W p l e (mR 4) s m args below meth c H locs 0 0 (MQ below (mQ D cA h ad A (some (.int r)) G) args s 0 0 A) (F0 m 78 ls [.int j_20, .int x2_5]) := by
              clear hj
              intro H locs Y ls hl
              refine lv_iadd hx hb dX2_judge_78 ?_
              obtain ⟨x2_21, ex2_21, hf⟩ := nm_s hf
              refine lv_topE ex2_21 ?_
              refine lv_istore_n (lv' := [(2, .int x2_21), (0, .ref h), (3, .int x3_6)]) hx hb dX2_judge_79 rfl hl (by decide) rfl (fun ls hl => ?_)
              obtain ⟨x3_22, ex3_22, hf⟩ := nm_s hf
              refine lv_iinc (v := x3_22) (lv' := [(3, .int x3_22), (2, .int x2_21), (0, .ref h)]) hx hb dX2_judge_80 hl (k := 2) rfl (by rw [ex3_22]; rfl) (by decide) rfl (fun ls hl => ?_)
              refine lv_goto (tgt := 25) hx hb dX2_judge_83 (by decide) ?_
              exact ih _ _ hf _ _ Y _ (lv_sub hl [2, 1, 0] rfl)
            replace hf := hj
            clear hj
            refine lv_icmp_eq (tgt := 77) hx hb dX2_judge_44 (by decide) (fun c_10 => ?_) (fun c_10 => ?_)
            · rw [if_pos c_10] at hf
              refine lv_iconst (v := (0 : Int32)) hx hb dX2_judge_77 (by decide) ?_
              cases hf
              exact J78_27 _ _ Y _ (lv_sub hl [0, 2] rfl)
            · rw [if_neg c_10] at hf
              refine lv_aload_n hx hb dX2_judge_47 rfl (lv_at hl 0 rfl) ?_
              refine lv_iload_n hx hb dX2_judge_48 rfl (lv_at hl 2 rfl) ?_
              refine lv_aload_n hx hb dX2_judge_49 rfl (lv_at hl 0 rfl) ?_
              refine lv_aload_n hx hb dX2_judge_50 rfl (lv_at hl 0 rfl) ?_
              refine lv_aload_n hx hb dX2_judge_51 rfl (lv_at hl 0 rfl) ?_
              refine mg (v := .ref (ad 8)) X Y 8 (by decide) q1113 rfl rfl dX2_judge_52 ?_
              refine lv_bipush (v := (14 : Int32)) hx hb dX2_judge_55 (by decide) ?_
              refine lv_iload_n hx hb dX2_judge_57 rfl (lv_at hl 2 rfl) ?_
              refine lv_iadd hx hb dX2_judge_58 ?_
              obtain ⟨b_11, hf⟩ := gd_s hf
              obtain ⟨v_12, ev_12, hf⟩ := nm_s hf
              refine ml (n := 20) X Y 8 4 rfl b_11 ev_12 dX2_judge_59 ?_
              refine lv_iconst (v := (1 : Int32)) hx hb dX2_judge_60 (by decide) ?_
              obtain ⟨r_13, hq_14, hf⟩ := bd1_s hf
              refine mcI (av := [.int v_12, .int (1 : Int32)]) (rest := [.ref h, .int x3_6, .ref h, .int x2_5]) 2 X Y (tX2_beside l N G v_12 (1 : Int32) r_13 hq_14) (lw_V q1388 q1390 qs57 q70 q1391) ydX2_beside ⟨rfl, rfl, by decide, by decide⟩ rfl hl.1 rfl (Nat.le_of_ble_eq_true rfl) ⟨Nat.zero_le _, Nat.zero_le _⟩ dX2_judge_61 (fun H locs Y => ?_)
              obtain ⟨r_15, hq_16, hf⟩ := bd1_s hf
              refine mcI (av := [.int r_13]) (rest := [.int x3_6, .ref h, .int x2_5]) 1 X Y (tX2_sitter l N G r_13 r_15 hq_16) (lw_V q1310 q1312 qs46 q70 q1313) ydX2_sitter ⟨rfl, rfl, by decide, by decide⟩ rfl hl.1 rfl (Nat.le_of_ble_eq_true rfl) ⟨Nat.zero_le _, Nat.zero_le _⟩ dX2_judge_64 (fun H locs Y => ?_)
              obtain ⟨r_17, hq_18, hf⟩ := bd1_s hf
              refine mcI (av := [.int x3_6, .int r_15]) (rest := [.int x2_5]) 2 X Y (tX2_areEnemies l N G x3_6 r_15 r_17 hq_18) (lw_V q1392 q1394 qs58 q70 q1395) ydX2_areEnemies ⟨rfl, rfl, by decide, by decide⟩ rfl hl.1 rfl (Nat.le_of_ble_eq_true rfl) ⟨Nat.zero_le _, Nat.zero_le _⟩ dX2_judge_67 (fun H locs Y => ?_)
              refine lv_if_eq (tgt := 77) hx hb dX2_judge_70 (by decide) (fun c_19 => ?_) (fun c_19 => ?_)
              · rw [if_pos c_19] at hf
                refine lv_iconst (v := (0 : Int32)) hx hb dX2_judge_77 (by decide) ?_
                cases hf
                exact J78_27 _ _ Y _ (lv_sub hl [0, 2] rfl)
              · rw [if_neg c_19] at hf
                refine lv_iconst (v := (1 : Int32)) hx hb dX2_judge_73 (by decide) ?_
                refine lv_goto (tgt := 78) hx hb dX2_judge_74 (by decide) ?_
                cases hf
                exact J78_27 _ _ Y _ (lv_sub hl [0, 2] rfl)
      exact L25_26 N _ _ hL _ _ Y _ (lv_sub hl [2, 1, 0] rfl)
    · rw [if_pos c_4] at hf
      refine lv_aload_n hx hb dX2_judge_16 rfl (lv_at hl 0 rfl) ?_
      obtain ⟨r_24, hq_25, hf⟩ := bd1_s hf
      refine mcI (av := []) (rest := []) 0 X Y (tX2_wrongs l N G r_24 hq_25) (lw_V q1380 q1382 qs55 q70 q1383) ydX2_wrongs ⟨rfl, rfl, by decide, by decide⟩ rfl hl.1 rfl (Nat.le_of_ble_eq_true rfl) ⟨Nat.zero_le _, Nat.zero_le _⟩ dX2_judge_17 (fun H locs Y => ?_)
      cases hf
      exact m_iret X Y dX2_judge_20
  · rw [if_pos c_3] at hf
    refine lv_bipush (v := (-3 : Int32)) hx hb dX2_judge_9 (by decide) ?_
    cases hf
    exact m_iret X Y dX2_judge_11

def fX2_seen (N : Nat) (G : GS) (a1 : Int32) (a2 : Int32) (a3 : Int32) (a4 : Int32) : Option (Int32 × GS) :=
  bd1 (fX2_isKnight N G a1) fun r_1 =>
  if r_1 = (0 : Int32) then (
   some ((-2 : Int32), G)
  ) else (
   bd1 (fX2_isSeat N G a2) fun r_4 =>
   if r_4 = (0 : Int32) then (
    some ((-2 : Int32), G)
   ) else (
    gd (inb (0 : Int32) 20) <|
    nm (G 8 ((0 : Int32)).toNatClampNeg : Int32) fun v_8 =>
    bd1 (fX2_in N a3 (0 : Int32) v_8) fun r_9 =>
    if r_9 = (0 : Int32) then (
     some ((-3 : Int32), G)
    ) else (
     bd1 (fX2_in N a4 (0 : Int32) (1 : Int32)) fun r_12 =>
     if r_12 = (0 : Int32) then (
      some ((-3 : Int32), G)
     ) else (
      if (G 0 13) = (8 : Int32) then (
       some ((-5 : Int32), G)
      ) else (
       gd (inb ((4 : Int32) * (G 0 13)) 32) <|
       nm (gu G 14 (((4 : Int32) * (G 0 13))).toNatClampNeg a1 : GS) fun G_17 =>
       gd (inb (((4 : Int32) * (G_17 0 13)) + (1 : Int32)) 32) <|
       nm (gu G_17 14 ((((4 : Int32) * (G_17 0 13)) + (1 : Int32))).toNatClampNeg a2 : GS) fun G_19 =>
       gd (inb (((4 : Int32) * (G_19 0 13)) + (2 : Int32)) 32) <|
       nm (gu G_19 14 ((((4 : Int32) * (G_19 0 13)) + (2 : Int32))).toNatClampNeg a3 : GS) fun G_21 =>
       gd (inb (((4 : Int32) * (G_21 0 13)) + (3 : Int32)) 32) <|
       nm (gu G_21 14 ((((4 : Int32) * (G_21 0 13)) + (3 : Int32))).toNatClampNeg a4 : GS) fun G_23 =>
       nm (gu G_23 0 13 ((G_23 0 13) + (1 : Int32)) : GS) fun G_24 =>
       some ((G_24 0 13), G_24)
      )
     )
    )
   )
  )
theorem ydX2_seen : yX2_seen.cls = RX2 ∧ yX2_seen.cls ≠ "java/lang/invoke/MethodHandle" ∧ yX2_seen.cls ≠ "java/lang/invoke/VarHandle" ∧ (parseMethodDescriptor yX2_seen.desc).map (fun d => d.parameters.length) = some 4 := by decide +kernel
set_option maxHeartbeats 4000000 in
theorem tX2_seen (l : Launch) (N : Nat) (G : GS) (a1 : Int32) (a2 : Int32) (a3 : Int32) (a4 : Int32) (r : Int32) (G' : GS) (hf : fX2_seen N G a1 a2 a3 a4 = some (r, G')) : mMet l yX2_seen cX2_seen 5 (some .int) (mR 2) [.int a1, .int a2, .int a3, .int a4] G (some (.int r)) G' := by
  unfold fX2_seen at hf
  refine mMet_of (by decide +kernel) rfl (Nat.le_of_ble_eq_true rfl) (fun {p e s m args below meth c ls D cA h ad A} X Y hl => ?_)
  have hx := X.1.1
  have hb := X.1.2.1
  have hl : lv_has ls 5 [(0, .ref h), (1, .int a1), (2, .int a2), (3, .int a3), (4, .int a4)] := hl
  refine lv_aload_n hx hb dX2_seen_0 rfl (lv_at hl 0 rfl) ?_
  refine lv_iload_n hx hb dX2_seen_1 rfl (lv_at hl 1 rfl) ?_
  obtain ⟨r_1, hq_2, hf⟩ := bd1_s hf
  refine mcI (av := [.int a1]) (rest := []) 1 X Y (tX2_isKnight l N G a1 r_1 hq_2) (lw_V q1322 q1324 qs48 q70 q1325) ydX2_isKnight ⟨rfl, rfl, by decide, by decide⟩ rfl hl.1 rfl (Nat.le_of_ble_eq_true rfl) ⟨Nat.zero_le _, Nat.zero_le _⟩ dX2_seen_2 (fun H locs Y => ?_)
  refine lv_if_eq (tgt := 16) hx hb dX2_seen_5 (by decide) (fun c_3 => ?_) (fun c_3 => ?_)
  · rw [if_pos c_3] at hf
    refine lv_bipush (v := (-2 : Int32)) hx hb dX2_seen_16 (by decide) ?_
    cases hf
    exact m_iret X Y dX2_seen_18
  · rw [if_neg c_3] at hf
    refine lv_aload_n hx hb dX2_seen_8 rfl (lv_at hl 0 rfl) ?_
    refine lv_iload_n hx hb dX2_seen_9 rfl (lv_at hl 2 rfl) ?_
    obtain ⟨r_4, hq_5, hf⟩ := bd1_s hf
    refine mcI (av := [.int a2]) (rest := []) 1 X Y (tX2_isSeat l N G a2 r_4 hq_5) (lw_V q1306 q1308 qs45 q70 q1309) ydX2_isSeat ⟨rfl, rfl, by decide, by decide⟩ rfl hl.1 rfl (Nat.le_of_ble_eq_true rfl) ⟨Nat.zero_le _, Nat.zero_le _⟩ dX2_seen_10 (fun H locs Y => ?_)
    refine lv_if_ne (tgt := 19) hx hb dX2_seen_13 (by decide) (fun c_6 => ?_) (fun c_6 => ?_)
    · rw [if_neg c_6] at hf
      refine lv_iload_n hx hb dX2_seen_19 rfl (lv_at hl 3 rfl) ?_
      refine lv_iconst (v := (0 : Int32)) hx hb dX2_seen_20 (by decide) ?_
      refine lv_aload_n hx hb dX2_seen_21 rfl (lv_at hl 0 rfl) ?_
      refine mg (v := .ref (ad 8)) X Y 8 (by decide) q1113 rfl rfl dX2_seen_22 ?_
      refine lv_iconst (v := (0 : Int32)) hx hb dX2_seen_25 (by decide) ?_
      obtain ⟨b_7, hf⟩ := gd_s hf
      obtain ⟨v_8, ev_8, hf⟩ := nm_s hf
      refine ml (n := 20) X Y 8 4 rfl b_7 ev_8 dX2_seen_26 ?_
      obtain ⟨r_9, hq_10, hf⟩ := bd1_s hf
      refine w_callSI (av := [.int a3, .int (0 : Int32), .int v_8]) (rest := []) 3 X Y (tX2_in l N a3 (0 : Int32) v_8 r_9 hq_10) (lw_S q1225 q1226 q70 q1227) ydX2_in ⟨rfl, rfl, by decide, by decide⟩ rfl hl.1 rfl (Nat.le_of_ble_eq_true rfl) ⟨Nat.zero_le _, Nat.zero_le _⟩ dX2_seen_27 (fun H locs Y => ?_)
      refine lv_if_eq (tgt := 43) hx hb dX2_seen_30 (by decide) (fun c_11 => ?_) (fun c_11 => ?_)
      · rw [if_pos c_11] at hf
        refine lv_bipush (v := (-3 : Int32)) hx hb dX2_seen_43 (by decide) ?_
        cases hf
        exact m_iret X Y dX2_seen_45
      · rw [if_neg c_11] at hf
        refine lv_iload hx hb dX2_seen_33 (lv_at hl 4 rfl) ?_
        refine lv_iconst (v := (0 : Int32)) hx hb dX2_seen_35 (by decide) ?_
        refine lv_iconst (v := (1 : Int32)) hx hb dX2_seen_36 (by decide) ?_
        obtain ⟨r_12, hq_13, hf⟩ := bd1_s hf
        refine w_callSI (av := [.int a4, .int (0 : Int32), .int (1 : Int32)]) (rest := []) 3 X Y (tX2_in l N a4 (0 : Int32) (1 : Int32) r_12 hq_13) (lw_S q1225 q1226 q70 q1227) ydX2_in ⟨rfl, rfl, by decide, by decide⟩ rfl hl.1 rfl (Nat.le_of_ble_eq_true rfl) ⟨Nat.zero_le _, Nat.zero_le _⟩ dX2_seen_37 (fun H locs Y => ?_)
        refine lv_if_ne (tgt := 46) hx hb dX2_seen_40 (by decide) (fun c_14 => ?_) (fun c_14 => ?_)
        · rw [if_neg c_14] at hf
          refine lv_aload_n hx hb dX2_seen_46 rfl (lv_at hl 0 rfl) ?_
          refine mg (v := .int (G 0 13)) X Y 13 (by decide) q1118 rfl rfl dX2_seen_47 ?_
          refine lv_bipush (v := (8 : Int32)) hx hb dX2_seen_50 (by decide) ?_
          refine lv_icmp_ne (tgt := 58) hx hb dX2_seen_52 (by decide) (fun c_15 => ?_) (fun c_15 => ?_)
          · rw [if_neg c_15] at hf
            refine lv_aload_n hx hb dX2_seen_58 rfl (lv_at hl 0 rfl) ?_
            refine mg (v := .ref (ad 14)) X Y 14 (by decide) q1119 rfl rfl dX2_seen_59 ?_
            refine lv_iconst (v := (4 : Int32)) hx hb dX2_seen_62 (by decide) ?_
            refine lv_aload_n hx hb dX2_seen_63 rfl (lv_at hl 0 rfl) ?_
            refine mg (v := .int (G 0 13)) X Y 13 (by decide) q1118 rfl rfl dX2_seen_64 ?_
            refine lv_imul hx hb dX2_seen_67 ?_
            refine lv_iload_n hx hb dX2_seen_68 rfl (lv_at hl 1 rfl) ?_
            obtain ⟨b_16, hf⟩ := gd_s hf
            obtain ⟨G_17, eG_17, hf⟩ := nm_s hf
            refine ms (n := 32) X Y 14 8 rfl mz14 b_16 eG_17 dX2_seen_69 (fun H locs Y => ?_)
            refine lv_aload_n hx hb dX2_seen_70 rfl (lv_at hl 0 rfl) ?_
            refine mg (v := .ref (ad 14)) X Y 14 (by decide) q1119 rfl rfl dX2_seen_71 ?_
            refine lv_iconst (v := (4 : Int32)) hx hb dX2_seen_74 (by decide) ?_
            refine lv_aload_n hx hb dX2_seen_75 rfl (lv_at hl 0 rfl) ?_
            refine mg (v := .int (G_17 0 13)) X Y 13 (by decide) q1118 rfl rfl dX2_seen_76 ?_
            refine lv_imul hx hb dX2_seen_79 ?_
            refine lv_iconst (v := (1 : Int32)) hx hb dX2_seen_80 (by decide) ?_
            refine lv_iadd hx hb dX2_seen_81 ?_
            refine lv_iload_n hx hb dX2_seen_82 rfl (lv_at hl 2 rfl) ?_
            obtain ⟨b_18, hf⟩ := gd_s hf
            obtain ⟨G_19, eG_19, hf⟩ := nm_s hf
            refine ms (n := 32) X Y 14 8 rfl mz14 b_18 eG_19 dX2_seen_83 (fun H locs Y => ?_)
            refine lv_aload_n hx hb dX2_seen_84 rfl (lv_at hl 0 rfl) ?_
            refine mg (v := .ref (ad 14)) X Y 14 (by decide) q1119 rfl rfl dX2_seen_85 ?_
            refine lv_iconst (v := (4 : Int32)) hx hb dX2_seen_88 (by decide) ?_
            refine lv_aload_n hx hb dX2_seen_89 rfl (lv_at hl 0 rfl) ?_
            refine mg (v := .int (G_19 0 13)) X Y 13 (by decide) q1118 rfl rfl dX2_seen_90 ?_
            refine lv_imul hx hb dX2_seen_93 ?_
            refine lv_iconst (v := (2 : Int32)) hx hb dX2_seen_94 (by decide) ?_
            refine lv_iadd hx hb dX2_seen_95 ?_
            refine lv_iload_n hx hb dX2_seen_96 rfl (lv_at hl 3 rfl) ?_
            obtain ⟨b_20, hf⟩ := gd_s hf
            obtain ⟨G_21, eG_21, hf⟩ := nm_s hf
            refine ms (n := 32) X Y 14 8 rfl mz14 b_20 eG_21 dX2_seen_97 (fun H locs Y => ?_)
            refine lv_aload_n hx hb dX2_seen_98 rfl (lv_at hl 0 rfl) ?_
            refine mg (v := .ref (ad 14)) X Y 14 (by decide) q1119 rfl rfl dX2_seen_99 ?_
            refine lv_iconst (v := (4 : Int32)) hx hb dX2_seen_102 (by decide) ?_
            refine lv_aload_n hx hb dX2_seen_103 rfl (lv_at hl 0 rfl) ?_
            refine mg (v := .int (G_21 0 13)) X Y 13 (by decide) q1118 rfl rfl dX2_seen_104 ?_
            refine lv_imul hx hb dX2_seen_107 ?_
            refine lv_iconst (v := (3 : Int32)) hx hb dX2_seen_108 (by decide) ?_
            refine lv_iadd hx hb dX2_seen_109 ?_
            refine lv_iload hx hb dX2_seen_110 (lv_at hl 4 rfl) ?_
            obtain ⟨b_22, hf⟩ := gd_s hf
            obtain ⟨G_23, eG_23, hf⟩ := nm_s hf
            refine ms (n := 32) X Y 14 8 rfl mz14 b_22 eG_23 dX2_seen_112 (fun H locs Y => ?_)
            refine lv_aload_n hx hb dX2_seen_113 rfl (lv_at hl 0 rfl) ?_
            refine lv_dup hx hb dX2_seen_114 rfl ?_
            refine mg (v := .int (G_23 0 13)) X Y 13 (by decide) q1118 rfl rfl dX2_seen_115 ?_
            refine lv_iconst (v := (1 : Int32)) hx hb dX2_seen_118 (by decide) ?_
            refine lv_iadd hx hb dX2_seen_119 ?_
            obtain ⟨G_24, eG_24, hf⟩ := nm_s hf
            refine mp X Y 13 (by decide) q1118 ⟨rfl, rfl⟩ rfl mz0_13 eG_24 dX2_seen_120 (fun H locs Y => ?_)
            refine lv_aload_n hx hb dX2_seen_123 rfl (lv_at hl 0 rfl) ?_
            refine mg (v := .int (G_24 0 13)) X Y 13 (by decide) q1118 rfl rfl dX2_seen_124 ?_
            cases hf
            exact m_iret X Y dX2_seen_127
          · rw [if_pos c_15] at hf
            refine lv_bipush (v := (-5 : Int32)) hx hb dX2_seen_55 (by decide) ?_
            cases hf
            exact m_iret X Y dX2_seen_57
        · rw [if_pos c_14] at hf
          refine lv_bipush (v := (-3 : Int32)) hx hb dX2_seen_43 (by decide) ?_
          cases hf
          exact m_iret X Y dX2_seen_45
    · rw [if_pos c_6] at hf
      refine lv_bipush (v := (-2 : Int32)) hx hb dX2_seen_16 (by decide) ?_
      cases hf
      exact m_iret X Y dX2_seen_18

def fX2_forget (N : Nat) (G : GS) : Option (Int32 × GS) :=
  nm ((G 0 13) : Int32) fun x1_1 =>
  nm (gu G 0 13 (0 : Int32) : GS) fun G_2 =>
  some (x1_1, G_2)
theorem ydX2_forget : yX2_forget.cls = RX2 ∧ yX2_forget.cls ≠ "java/lang/invoke/MethodHandle" ∧ yX2_forget.cls ≠ "java/lang/invoke/VarHandle" ∧ (parseMethodDescriptor yX2_forget.desc).map (fun d => d.parameters.length) = some 0 := by decide +kernel
set_option maxHeartbeats 4000000 in
theorem tX2_forget (l : Launch) (N : Nat) (G : GS) (r : Int32) (G' : GS) (hf : fX2_forget N G = some (r, G')) : mMet l yX2_forget cX2_forget 2 (some .int) (mR 0) [] G (some (.int r)) G' := by
  unfold fX2_forget at hf
  refine mMet_of (by decide +kernel) rfl (Nat.le_of_ble_eq_true rfl) (fun {p e s m args below meth c ls D cA h ad A} X Y hl => ?_)
  have hx := X.1.1
  have hb := X.1.2.1
  have hl : lv_has ls 2 [(0, .ref h)] := hl
  refine lv_aload_n hx hb dX2_forget_0 rfl (lv_at hl 0 rfl) ?_
  refine mg (v := .int (G 0 13)) X Y 13 (by decide) q1118 rfl rfl dX2_forget_1 ?_
  obtain ⟨x1_1, ex1_1, hf⟩ := nm_s hf
  refine lv_topE ex1_1 ?_
  refine lv_istore_n (lv' := [(1, .int x1_1), (0, .ref h)]) hx hb dX2_forget_4 rfl hl (by decide) rfl (fun ls hl => ?_)
  refine lv_aload_n hx hb dX2_forget_5 rfl (lv_at hl 1 rfl) ?_
  refine lv_iconst (v := (0 : Int32)) hx hb dX2_forget_6 (by decide) ?_
  obtain ⟨G_2, eG_2, hf⟩ := nm_s hf
  refine mp X Y 13 (by decide) q1118 ⟨rfl, rfl⟩ rfl mz0_13 eG_2 dX2_forget_7 (fun H locs Y => ?_)
  refine lv_iload_n hx hb dX2_forget_10 rfl (lv_at hl 0 rfl) ?_
  cases hf
  exact m_iret X Y dX2_forget_11

def fX2_isWorld_L6 (N : Nat) (G : GS) (a1 : Int32) (a2 : Int32) (a3 : Int32) : Nat → Int32 → Int32 → Option Int32
  | 0, _, _ => none
  | n_ + 1, x4_1, x5_2 =>
    if (G 0 13) ≤ x5_2 then (
     some x4_1
    ) else (
     gd (inb (((4 : Int32) * x5_2) + (2 : Int32)) 32) <|
     nm (G 14 ((((4 : Int32) * x5_2) + (2 : Int32))).toNatClampNeg : Int32) fun v_5 =>
     gd (¬ (G 0 0) = (0 : Int32)) <|
     gd (inb (((4 : Int32) * x5_2) + (1 : Int32)) 32) <|
     nm (G 14 ((((4 : Int32) * x5_2) + (1 : Int32))).toNatClampNeg : Int32) fun v_8 =>
     bd1 (
      if ((a1 + (a2 * v_5)) - (a1 + (a2 * v_5)) / (G 0 0) * (G 0 0)) = v_8 then (
       gd (inb ((4 : Int32) * x5_2) 32) <|
       nm (G 14 (((4 : Int32) * x5_2)).toNatClampNeg : Int32) fun v_11 =>
       if a3 = v_11 then (
        some (0 : Int32)
       ) else (
        some (1 : Int32)
       )
      ) else (
       some (0 : Int32)
      )
     ) fun j_13 =>
     bd1 (
      if x4_1 = (0 : Int32) then (
       some (0 : Int32)
      ) else (
       gd (inb (((4 : Int32) * x5_2) + (3 : Int32)) 32) <|
       nm (G 14 ((((4 : Int32) * x5_2) + (3 : Int32))).toNatClampNeg : Int32) fun v_16 =>
       bd1 (
        if v_16 = (1 : Int32) then (
         some (1 : Int32)
        ) else (
         some (0 : Int32)
        )
       ) fun j_18 =>
       if j_13 = j_18 then (
        some (1 : Int32)
       ) else (
        some (0 : Int32)
       )
      )
     ) fun j_20 =>
     nm ((x5_2 + (1 : Int32)) : Int32) fun x5_21 =>
     fX2_isWorld_L6 N G a1 a2 a3 n_ j_20 x5_21
    )
def fX2_isWorld (N : Nat) (G : GS) (a1 : Int32) (a2 : Int32) (a3 : Int32) : Option Int32 :=
  bd1 (fX2_isWorld_L6 N G a1 a2 a3 N (1 : Int32) (0 : Int32)) fun x4_22 =>
  gd (zb x4_22) <|
  some x4_22
theorem ydX2_isWorld : yX2_isWorld.cls = RX2 ∧ yX2_isWorld.cls ≠ "java/lang/invoke/MethodHandle" ∧ yX2_isWorld.cls ≠ "java/lang/invoke/VarHandle" ∧ (parseMethodDescriptor yX2_isWorld.desc).map (fun d => d.parameters.length) = some 3 := by decide +kernel
set_option maxHeartbeats 4000000 in
theorem tX2_isWorld (l : Launch) (N : Nat) (G : GS) (a1 : Int32) (a2 : Int32) (a3 : Int32) (r : Int32) (hf : fX2_isWorld N G a1 a2 a3 = some r) : mMet l yX2_isWorld cX2_isWorld 7 (some .boolean) (mR 0) [.int a1, .int a2, .int a3] G (some (.int r)) G := by
  unfold fX2_isWorld at hf
  refine mMet_of (by decide +kernel) rfl (Nat.le_of_ble_eq_true rfl) (fun {p e s m args below meth c ls D cA h ad A} X Y hl => ?_)
  have hx := X.1.1
  have hb := X.1.2.1
  have hl : lv_has ls 7 [(0, .ref h), (1, .int a1), (2, .int a2), (3, .int a3)] := hl
  refine lv_iconst (v := (1 : Int32)) hx hb dX2_isWorld_0 (by decide) ?_
  refine lv_istore (lv' := [(4, .int (1 : Int32)), (0, .ref h), (1, .int a1), (2, .int a2), (3, .int a3)]) hx hb dX2_isWorld_1 hl (by decide) rfl (fun ls hl => ?_)
  refine lv_iconst (v := (0 : Int32)) hx hb dX2_isWorld_3 (by decide) ?_
  refine lv_istore (lv' := [(5, .int (0 : Int32)), (4, .int (1 : Int32)), (0, .ref h), (1, .int a1), (2, .int a2), (3, .int a3)]) hx hb dX2_isWorld_4 hl (by decide) rfl (fun ls hl => ?_)
  obtain ⟨x4_22, hL, hf⟩ := bd1_s hf
  have E6_24 : ∀ (H : Heap) (locs : List Loc), WX D A s (mW h ad cA G) H locs → ∀ ls : Array Slot, lv_has ls 7 [(4, .int x4_22)] → W p l e (mR 0) s m args below meth c H locs 0 0 (MQ below (mQ D cA h ad A (some (.int r)) G) args s 0 0 A) (F0 m 112 ls []) := by
    clear hL
    intro H locs Y ls hl
    refine lv_iload hx hb dX2_isWorld_112 (lv_at hl 0 rfl) ?_
    obtain ⟨b_23, hf⟩ := gd_s hf
    cases hf
    exact m_zret X Y b_23 dX2_isWorld_114
  clear hf
  have L6_24 : ∀ (n_ : Nat) (x4_1 : Int32) (x5_2 : Int32), fX2_isWorld_L6 N G a1 a2 a3 n_ x4_1 x5_2 = some x4_22 → ∀ (H : Heap) (locs : List Loc), WX D A s (mW h ad cA G) H locs → ∀ ls : Array Slot, lv_has ls 7 [(0, .ref h), (1, .int a1), (2, .int a2), (3, .int a3), (4, .int x4_1), (5, .int x5_2)] → W p l e (mR 0) s m args below meth c H locs 0 0 (MQ below (mQ D cA h ad A (some (.int r)) G) args s 0 0 A) (F0 m 6 ls []) := by
    clear hL
    intro n_
    induction n_ with
    | zero =>
      intro x4_1 x5_2 hf
      rw [fX2_isWorld_L6.eq_1] at hf
      cases hf
    | succ n_ ih =>
      intro x4_1 x5_2 hf
      intro H locs Y ls hl
      rw [fX2_isWorld_L6.eq_2] at hf
      refine lv_iload hx hb dX2_isWorld_6 (lv_at hl 5 rfl) ?_
      refine lv_aload_n hx hb dX2_isWorld_8 rfl (lv_at hl 0 rfl) ?_
      refine mg (v := .int (G 0 13)) X Y 13 (by decide) q1118 rfl rfl dX2_isWorld_9 ?_
      refine lv_icmp_ge (tgt := 112) hx hb dX2_isWorld_12 (by decide) (fun c_3 => ?_) (fun c_3 => ?_)
      · rw [if_pos c_3] at hf
        cases hf
        exact E6_24 _ _ Y _ (lv_sub hl [4] rfl)
      · rw [if_neg c_3] at hf
        refine lv_iload_n hx hb dX2_isWorld_15 rfl (lv_at hl 1 rfl) ?_
        refine lv_iload_n hx hb dX2_isWorld_16 rfl (lv_at hl 2 rfl) ?_
        refine lv_aload_n hx hb dX2_isWorld_17 rfl (lv_at hl 0 rfl) ?_
        refine mg (v := .ref (ad 14)) X Y 14 (by decide) q1119 rfl rfl dX2_isWorld_18 ?_
        refine lv_iconst (v := (4 : Int32)) hx hb dX2_isWorld_21 (by decide) ?_
        refine lv_iload hx hb dX2_isWorld_22 (lv_at hl 5 rfl) ?_
        refine lv_imul hx hb dX2_isWorld_24 ?_
        refine lv_iconst (v := (2 : Int32)) hx hb dX2_isWorld_25 (by decide) ?_
        refine lv_iadd hx hb dX2_isWorld_26 ?_
        obtain ⟨b_4, hf⟩ := gd_s hf
        obtain ⟨v_5, ev_5, hf⟩ := nm_s hf
        refine ml (n := 32) X Y 14 8 rfl b_4 ev_5 dX2_isWorld_27 ?_
        refine lv_imul hx hb dX2_isWorld_28 ?_
        refine lv_iadd hx hb dX2_isWorld_29 ?_
        refine lv_aload_n hx hb dX2_isWorld_30 rfl (lv_at hl 0 rfl) ?_
        refine mg (v := .int (G 0 0)) X Y 0 (by decide) q1105 rfl rfl dX2_isWorld_31 ?_
        obtain ⟨b_6, hf⟩ := gd_s hf
        refine lv_irem hx hb dX2_isWorld_34 b_6 ?_
        refine lv_aload_n hx hb dX2_isWorld_35 rfl (lv_at hl 0 rfl) ?_
        refine mg (v := .ref (ad 14)) X Y 14 (by decide) q1119 rfl rfl dX2_isWorld_36 ?_
        refine lv_iconst (v := (4 : Int32)) hx hb dX2_isWorld_39 (by decide) ?_
        refine lv_iload hx hb dX2_isWorld_40 (lv_at hl 5 rfl) ?_
        refine lv_imul hx hb dX2_isWorld_42 ?_
        refine lv_iconst (v := (1 : Int32)) hx hb dX2_isWorld_43 (by decide) ?_
        refine lv_iadd hx hb dX2_isWorld_44 ?_
        obtain ⟨b_7, hf⟩ := gd_s hf
        obtain ⟨v_8, ev_8, hf⟩ := nm_s hf
        refine ml (n := 32) X Y 14 8 rfl b_7 ev_8 dX2_isWorld_45 ?_
        obtain ⟨j_13, hj, hf⟩ := bd1_s hf
        have J67_25 : ∀ (H : Heap) (locs : List Loc), WX D A s (mW h ad cA G) H locs → ∀ ls : Array Slot, lv_has ls 7 [(0, .ref h), (1, .int a1), (2, .int a2), (3, .int a3), (4, .int x4_1), (5, .int x5_2)] → W p l e (mR 0) s m args below meth c H locs 0 0 (MQ below (mQ D cA h ad A (some (.int r)) G) args s 0 0 A) (F0 m 67 ls [.int j_13]) := by
          clear hj
          intro H locs Y ls hl
          refine lv_istore (lv' := [(6, .int j_13), (0, .ref h), (1, .int a1), (2, .int a2), (3, .int a3), (4, .int x4_1), (5, .int x5_2)]) hx hb dX2_isWorld_67 hl (by decide) rfl (fun ls hl => ?_)
          refine lv_iload hx hb dX2_isWorld_69 (lv_at hl 5 rfl) ?_
          obtain ⟨j_20, hj, hf⟩ := bd1_s hf
          have J104_26 : ∀ (H : Heap) (locs : List Loc), WX D A s (mW h ad cA G) H locs → ∀ ls : Array Slot, lv_has ls 7 [(0, .ref h), (1, .int a1), (2, .int a2), (3, .int a3), (5, .int x5_2)] → W p l e (mR 0) s m args below meth c H locs 0 0 (MQ below (mQ D cA h ad A (some (.int r)) G) args s 0 0 A) (F0 m 104 ls [.int j_20]) := by
            clear hj
            intro H locs Y ls hl
            refine lv_istore (lv' := [(4, .int j_20), (0, .ref h), (1, .int a1), (2, .int a2), (3, .int a3), (5, .int x5_2)]) hx hb dX2_isWorld_104 hl (by decide) rfl (fun ls hl => ?_)
            obtain ⟨x5_21, ex5_21, hf⟩ := nm_s hf
            refine lv_iinc (v := x5_21) (lv' := [(5, .int x5_21), (4, .int j_20), (0, .ref h), (1, .int a1), (2, .int a2), (3, .int a3)]) hx hb dX2_isWorld_106 hl (k := 5) rfl (by rw [ex5_21]; rfl) (by decide) rfl (fun ls hl => ?_)
            refine lv_goto (tgt := 6) hx hb dX2_isWorld_109 (by decide) ?_
            exact ih _ _ hf _ _ Y _ (lv_sub hl [2, 3, 4, 5, 1, 0] rfl)
          replace hf := hj
          clear hj
          refine lv_if_eq (tgt := 103) hx hb dX2_isWorld_71 (by decide) (fun c_14 => ?_) (fun c_14 => ?_)
          · rw [if_pos c_14] at hf
            refine lv_iconst (v := (0 : Int32)) hx hb dX2_isWorld_103 (by decide) ?_
            cases hf
            exact J104_26 _ _ Y _ (lv_sub hl [1, 2, 3, 4, 6] rfl)
          · rw [if_neg c_14] at hf
            refine lv_iload hx hb dX2_isWorld_74 (lv_at hl 0 rfl) ?_
            refine lv_aload_n hx hb dX2_isWorld_76 rfl (lv_at hl 1 rfl) ?_
            refine mg (v := .ref (ad 14)) X Y 14 (by decide) q1119 rfl rfl dX2_isWorld_77 ?_
            refine lv_iconst (v := (4 : Int32)) hx hb dX2_isWorld_80 (by decide) ?_
            refine lv_iload hx hb dX2_isWorld_81 (lv_at hl 6 rfl) ?_
            refine lv_imul hx hb dX2_isWorld_83 ?_
            refine lv_iconst (v := (3 : Int32)) hx hb dX2_isWorld_84 (by decide) ?_
            refine lv_iadd hx hb dX2_isWorld_85 ?_
            obtain ⟨b_15, hf⟩ := gd_s hf
            obtain ⟨v_16, ev_16, hf⟩ := nm_s hf
            refine ml (n := 32) X Y 14 8 rfl b_15 ev_16 dX2_isWorld_86 ?_
            refine lv_iconst (v := (1 : Int32)) hx hb dX2_isWorld_87 (by decide) ?_
            obtain ⟨j_18, hj, hf⟩ := bd1_s hf
            have J96_27 : ∀ (H : Heap) (locs : List Loc), WX D A s (mW h ad cA G) H locs → ∀ ls : Array Slot, lv_has ls 7 [(0, .ref h), (1, .int a1), (2, .int a2), (3, .int a3), (5, .int x5_2)] → W p l e (mR 0) s m args below meth c H locs 0 0 (MQ below (mQ D cA h ad A (some (.int r)) G) args s 0 0 A) (F0 m 96 ls [.int j_18, .int j_13]) := by
              clear hj
              intro H locs Y ls hl
              refine lv_icmp_ne (tgt := 103) hx hb dX2_isWorld_96 (by decide) (fun c_19 => ?_) (fun c_19 => ?_)
              · rw [if_neg c_19] at hf
                refine lv_iconst (v := (0 : Int32)) hx hb dX2_isWorld_103 (by decide) ?_
                cases hf
                exact J104_26 _ _ Y _ (lv_sub hl [0, 1, 2, 3, 4] rfl)
              · rw [if_pos c_19] at hf
                refine lv_iconst (v := (1 : Int32)) hx hb dX2_isWorld_99 (by decide) ?_
                refine lv_goto (tgt := 104) hx hb dX2_isWorld_100 (by decide) ?_
                cases hf
                exact J104_26 _ _ Y _ (lv_sub hl [0, 1, 2, 3, 4] rfl)
            replace hf := hj
            clear hj
            refine lv_icmp_ne (tgt := 95) hx hb dX2_isWorld_88 (by decide) (fun c_17 => ?_) (fun c_17 => ?_)
            · rw [if_neg c_17] at hf
              refine lv_iconst (v := (0 : Int32)) hx hb dX2_isWorld_95 (by decide) ?_
              cases hf
              exact J96_27 _ _ Y _ (lv_sub hl [1, 2, 3, 4, 6] rfl)
            · rw [if_pos c_17] at hf
              refine lv_iconst (v := (1 : Int32)) hx hb dX2_isWorld_91 (by decide) ?_
              refine lv_goto (tgt := 96) hx hb dX2_isWorld_92 (by decide) ?_
              cases hf
              exact J96_27 _ _ Y _ (lv_sub hl [1, 2, 3, 4, 6] rfl)
        replace hf := hj
        clear hj
        refine lv_icmp_ne (tgt := 66) hx hb dX2_isWorld_46 (by decide) (fun c_9 => ?_) (fun c_9 => ?_)
        · rw [if_neg c_9] at hf
          refine lv_iconst (v := (0 : Int32)) hx hb dX2_isWorld_66 (by decide) ?_
          cases hf
          exact J67_25 _ _ Y _ (lv_sub hl [0, 1, 2, 3, 4, 5] rfl)
        · rw [if_pos c_9] at hf
          refine lv_iload_n hx hb dX2_isWorld_49 rfl (lv_at hl 3 rfl) ?_
          refine lv_aload_n hx hb dX2_isWorld_50 rfl (lv_at hl 0 rfl) ?_
          refine mg (v := .ref (ad 14)) X Y 14 (by decide) q1119 rfl rfl dX2_isWorld_51 ?_
          refine lv_iconst (v := (4 : Int32)) hx hb dX2_isWorld_54 (by decide) ?_
          refine lv_iload hx hb dX2_isWorld_55 (lv_at hl 5 rfl) ?_
          refine lv_imul hx hb dX2_isWorld_57 ?_
          obtain ⟨b_10, hf⟩ := gd_s hf
          obtain ⟨v_11, ev_11, hf⟩ := nm_s hf
          refine ml (n := 32) X Y 14 8 rfl b_10 ev_11 dX2_isWorld_58 ?_
          refine lv_icmp_eq (tgt := 66) hx hb dX2_isWorld_59 (by decide) (fun c_12 => ?_) (fun c_12 => ?_)
          · rw [if_pos c_12] at hf
            refine lv_iconst (v := (0 : Int32)) hx hb dX2_isWorld_66 (by decide) ?_
            cases hf
            exact J67_25 _ _ Y _ (lv_sub hl [0, 1, 2, 3, 4, 5] rfl)
          · rw [if_neg c_12] at hf
            refine lv_iconst (v := (1 : Int32)) hx hb dX2_isWorld_62 (by decide) ?_
            refine lv_goto (tgt := 67) hx hb dX2_isWorld_63 (by decide) ?_
            cases hf
            exact J67_25 _ _ Y _ (lv_sub hl [0, 1, 2, 3, 4, 5] rfl)
  exact L6_24 N _ _ hL _ _ Y _ (lv_sub hl [2, 3, 4, 5, 1, 0] rfl)

def fX2_worlds_L22 (N : Nat) (G : GS) : Nat → Int32 → Int32 → Int32 → Int32 → Option (Int32 × Int32 × Int32)
  | 0, _, _, _, _ => none
  | n_ + 1, x2_4, x3_5, x4_6, x5_7 =>
    if (((G 0 0) * (G 0 0)) * ((G 0 2) + (1 : Int32))) ≤ x5_7 then (
     some (x2_4, x3_5, x4_6)
    ) else (
     gd (¬ ((G 0 2) + (1 : Int32)) = (0 : Int32)) <|
     nm ((x5_7 - x5_7 / ((G 0 2) + (1 : Int32)) * ((G 0 2) + (1 : Int32))) : Int32) fun x6_10 =>
     gd (¬ ((G 0 2) + (1 : Int32)) = (0 : Int32)) <|
     gd (¬ (G 0 0) = (0 : Int32)) <|
     nm (((x5_7 / ((G 0 2) + (1 : Int32))) - (x5_7 / ((G 0 2) + (1 : Int32))) / (G 0 0) * (G 0 0)) : Int32) fun x7_13 =>
     gd (¬ ((G 0 2) + (1 : Int32)) = (0 : Int32)) <|
     gd (¬ (G 0 0) = (0 : Int32)) <|
     nm (((x5_7 / ((G 0 2) + (1 : Int32))) / (G 0 0)) : Int32) fun x8_16 =>
     bd1 (fX2_isWorld N G x8_16 x7_13 x6_10) fun r_17 =>
     bd3 (
      if r_17 = (0 : Int32) then (
       some (x2_4, x3_5, x4_6)
      ) else (
       nm ((x2_4 + (1 : Int32)) : Int32) fun x2_20 =>
       gd (inb (0 : Int32) 20) <|
       nm (G 8 ((0 : Int32)).toNatClampNeg : Int32) fun v_22 =>
       gd (¬ (G 0 0) = (0 : Int32)) <|
       nm ((x3_5 ||| ((1 : Int32) <<< (((x8_16 + (x7_13 * v_22)) - (x8_16 + (x7_13 * v_22)) / (G 0 0) * (G 0 0)) &&& 31))) : Int32) fun x3_24 =>
       bd1 (
        if x6_10 = (G 0 2) then (
         some (64 : Int32)
        ) else (
         some ((1 : Int32) <<< (x6_10 &&& 31))
        )
       ) fun j_26 =>
       nm ((x4_6 ||| j_26) : Int32) fun x4_27 =>
       some (x2_20, x3_24, x4_27)
      )
     ) fun x2_28 x3_29 x4_30 =>
     nm ((x5_7 + (1 : Int32)) : Int32) fun x5_31 =>
     fX2_worlds_L22 N G n_ x2_28 x3_29 x4_30 x5_31
    )
def fX2_worlds (N : Nat) (G : GS) (a1 : Int32) : Option Int32 :=
  bd1 (fX2_in N a1 (0 : Int32) (2 : Int32)) fun r_1 =>
  if r_1 = (0 : Int32) then (
   some (-3 : Int32)
  ) else (
   bd3 (fX2_worlds_L22 N G N (0 : Int32) (0 : Int32) (0 : Int32) (0 : Int32)) fun x2_32 x3_33 x4_34 =>
   if a1 = (0 : Int32) then (
    some x2_32
   ) else (
    if a1 = (1 : Int32) then (
     some x3_33
    ) else (
     some x4_34
    )
   )
  )
theorem ydX2_worlds : yX2_worlds.cls = RX2 ∧ yX2_worlds.cls ≠ "java/lang/invoke/MethodHandle" ∧ yX2_worlds.cls ≠ "java/lang/invoke/VarHandle" ∧ (parseMethodDescriptor yX2_worlds.desc).map (fun d => d.parameters.length) = some 1 := by decide +kernel
set_option maxHeartbeats 4000000 in
theorem tX2_worlds (l : Launch) (N : Nat) (G : GS) (a1 : Int32) (r : Int32) (hf : fX2_worlds N G a1 = some r) : mMet l yX2_worlds cX2_worlds 9 (some .int) (mR 1) [.int a1] G (some (.int r)) G := by
  unfold fX2_worlds at hf
  refine mMet_of (by decide +kernel) rfl (Nat.le_of_ble_eq_true rfl) (fun {p e s m args below meth c ls D cA h ad A} X Y hl => ?_)
  have hx := X.1.1
  have hb := X.1.2.1
  have hl : lv_has ls 9 [(0, .ref h), (1, .int a1)] := hl
  refine lv_iload_n hx hb dX2_worlds_0 rfl (lv_at hl 1 rfl) ?_
  refine lv_iconst (v := (0 : Int32)) hx hb dX2_worlds_1 (by decide) ?_
  refine lv_iconst (v := (2 : Int32)) hx hb dX2_worlds_2 (by decide) ?_
  obtain ⟨r_1, hq_2, hf⟩ := bd1_s hf
  refine w_callSI (av := [.int a1, .int (0 : Int32), .int (2 : Int32)]) (rest := []) 3 X Y (tX2_in l N a1 (0 : Int32) (2 : Int32) r_1 hq_2) (lw_S q1225 q1226 q70 q1227) ydX2_in ⟨rfl, rfl, by decide, by decide⟩ rfl hl.1 rfl (Nat.le_of_ble_eq_true rfl) ⟨Nat.zero_le _, Nat.zero_le _⟩ dX2_worlds_3 (fun H locs Y => ?_)
  refine lv_if_ne (tgt := 12) hx hb dX2_worlds_6 (by decide) (fun c_3 => ?_) (fun c_3 => ?_)
  · rw [if_neg c_3] at hf
    refine lv_iconst (v := (0 : Int32)) hx hb dX2_worlds_12 (by decide) ?_
    refine lv_istore_n (lv' := [(2, .int (0 : Int32)), (0, .ref h), (1, .int a1)]) hx hb dX2_worlds_13 rfl hl (by decide) rfl (fun ls hl => ?_)
    refine lv_iconst (v := (0 : Int32)) hx hb dX2_worlds_14 (by decide) ?_
    refine lv_istore_n (lv' := [(3, .int (0 : Int32)), (2, .int (0 : Int32)), (0, .ref h), (1, .int a1)]) hx hb dX2_worlds_15 rfl hl (by decide) rfl (fun ls hl => ?_)
    refine lv_iconst (v := (0 : Int32)) hx hb dX2_worlds_16 (by decide) ?_
    refine lv_istore (lv' := [(4, .int (0 : Int32)), (3, .int (0 : Int32)), (2, .int (0 : Int32)), (0, .ref h), (1, .int a1)]) hx hb dX2_worlds_17 hl (by decide) rfl (fun ls hl => ?_)
    refine lv_iconst (v := (0 : Int32)) hx hb dX2_worlds_19 (by decide) ?_
    refine lv_istore (lv' := [(5, .int (0 : Int32)), (4, .int (0 : Int32)), (3, .int (0 : Int32)), (2, .int (0 : Int32)), (0, .ref h), (1, .int a1)]) hx hb dX2_worlds_20 hl (by decide) rfl (fun ls hl => ?_)
    obtain ⟨x2_32, x3_33, x4_34, hL, hf⟩ := bd3_s hf
    have E22_37 : ∀ (H : Heap) (locs : List Loc), WX D A s (mW h ad cA G) H locs → ∀ ls : Array Slot, lv_has ls 9 [(1, .int a1), (2, .int x2_32), (3, .int x3_33), (4, .int x4_34)] → W p l e (mR 1) s m args below meth c H locs 0 0 (MQ below (mQ D cA h ad A (some (.int r)) G) args s 0 0 A) (F0 m 153 ls []) := by
      clear hL
      intro H locs Y ls hl
      refine lv_iload_n hx hb dX2_worlds_153 rfl (lv_at hl 0 rfl) ?_
      refine lv_if_ne (tgt := 161) hx hb dX2_worlds_154 (by decide) (fun c_35 => ?_) (fun c_35 => ?_)
      · rw [if_neg c_35] at hf
        refine lv_iload_n hx hb dX2_worlds_161 rfl (lv_at hl 0 rfl) ?_
        refine lv_iconst (v := (1 : Int32)) hx hb dX2_worlds_162 (by decide) ?_
        refine lv_icmp_ne (tgt := 170) hx hb dX2_worlds_163 (by decide) (fun c_36 => ?_) (fun c_36 => ?_)
        · rw [if_neg c_36] at hf
          refine lv_iload hx hb dX2_worlds_170 (lv_at hl 3 rfl) ?_
          cases hf
          exact m_iret X Y dX2_worlds_172
        · rw [if_pos c_36] at hf
          refine lv_iload_n hx hb dX2_worlds_166 rfl (lv_at hl 2 rfl) ?_
          refine lv_goto (tgt := 172) hx hb dX2_worlds_167 (by decide) ?_
          cases hf
          exact m_iret X Y dX2_worlds_172
      · rw [if_pos c_35] at hf
        refine lv_iload_n hx hb dX2_worlds_157 rfl (lv_at hl 1 rfl) ?_
        refine lv_goto (tgt := 172) hx hb dX2_worlds_158 (by decide) ?_
        cases hf
        exact m_iret X Y dX2_worlds_172
    clear hf
    have L22_37 : ∀ (n_ : Nat) (x2_4 : Int32) (x3_5 : Int32) (x4_6 : Int32) (x5_7 : Int32), fX2_worlds_L22 N G n_ x2_4 x3_5 x4_6 x5_7 = some (x2_32, x3_33, x4_34) → ∀ (H : Heap) (locs : List Loc), WX D A s (mW h ad cA G) H locs → ∀ ls : Array Slot, lv_has ls 9 [(0, .ref h), (1, .int a1), (2, .int x2_4), (3, .int x3_5), (4, .int x4_6), (5, .int x5_7)] → W p l e (mR 1) s m args below meth c H locs 0 0 (MQ below (mQ D cA h ad A (some (.int r)) G) args s 0 0 A) (F0 m 22 ls []) := by
      clear hL
      intro n_
      induction n_ with
      | zero =>
        intro x2_4 x3_5 x4_6 x5_7 hf
        rw [fX2_worlds_L22.eq_1] at hf
        cases hf
      | succ n_ ih =>
        intro x2_4 x3_5 x4_6 x5_7 hf
        intro H locs Y ls hl
        rw [fX2_worlds_L22.eq_2] at hf
        refine lv_iload hx hb dX2_worlds_22 (lv_at hl 5 rfl) ?_
        refine lv_aload_n hx hb dX2_worlds_24 rfl (lv_at hl 0 rfl) ?_
        refine mg (v := .int (G 0 0)) X Y 0 (by decide) q1105 rfl rfl dX2_worlds_25 ?_
        refine lv_aload_n hx hb dX2_worlds_28 rfl (lv_at hl 0 rfl) ?_
        refine mg (v := .int (G 0 0)) X Y 0 (by decide) q1105 rfl rfl dX2_worlds_29 ?_
        refine lv_imul hx hb dX2_worlds_32 ?_
        refine lv_aload_n hx hb dX2_worlds_33 rfl (lv_at hl 0 rfl) ?_
        refine mg (v := .int (G 0 2)) X Y 2 (by decide) q1107 rfl rfl dX2_worlds_34 ?_
        refine lv_iconst (v := (1 : Int32)) hx hb dX2_worlds_37 (by decide) ?_
        refine lv_iadd hx hb dX2_worlds_38 ?_
        refine lv_imul hx hb dX2_worlds_39 ?_
        refine lv_icmp_ge (tgt := 153) hx hb dX2_worlds_40 (by decide) (fun c_8 => ?_) (fun c_8 => ?_)
        · rw [if_pos c_8] at hf
          cases hf
          exact E22_37 _ _ Y _ (lv_sub hl [1, 2, 3, 4] rfl)
        · rw [if_neg c_8] at hf
          refine lv_iload hx hb dX2_worlds_43 (lv_at hl 5 rfl) ?_
          refine lv_aload_n hx hb dX2_worlds_45 rfl (lv_at hl 0 rfl) ?_
          refine mg (v := .int (G 0 2)) X Y 2 (by decide) q1107 rfl rfl dX2_worlds_46 ?_
          refine lv_iconst (v := (1 : Int32)) hx hb dX2_worlds_49 (by decide) ?_
          refine lv_iadd hx hb dX2_worlds_50 ?_
          obtain ⟨b_9, hf⟩ := gd_s hf
          refine lv_irem hx hb dX2_worlds_51 b_9 ?_
          obtain ⟨x6_10, ex6_10, hf⟩ := nm_s hf
          refine lv_topE ex6_10 ?_
          refine lv_istore (lv' := [(6, .int x6_10), (0, .ref h), (1, .int a1), (2, .int x2_4), (3, .int x3_5), (4, .int x4_6), (5, .int x5_7)]) hx hb dX2_worlds_52 hl (by decide) rfl (fun ls hl => ?_)
          refine lv_iload hx hb dX2_worlds_54 (lv_at hl 6 rfl) ?_
          refine lv_aload_n hx hb dX2_worlds_56 rfl (lv_at hl 1 rfl) ?_
          refine mg (v := .int (G 0 2)) X Y 2 (by decide) q1107 rfl rfl dX2_worlds_57 ?_
          refine lv_iconst (v := (1 : Int32)) hx hb dX2_worlds_60 (by decide) ?_
          refine lv_iadd hx hb dX2_worlds_61 ?_
          obtain ⟨b_11, hf⟩ := gd_s hf
          refine lv_idiv hx hb dX2_worlds_62 b_11 ?_
          refine lv_aload_n hx hb dX2_worlds_63 rfl (lv_at hl 1 rfl) ?_
          refine mg (v := .int (G 0 0)) X Y 0 (by decide) q1105 rfl rfl dX2_worlds_64 ?_
          obtain ⟨b_12, hf⟩ := gd_s hf
          refine lv_irem hx hb dX2_worlds_67 b_12 ?_
          obtain ⟨x7_13, ex7_13, hf⟩ := nm_s hf
          refine lv_topE ex7_13 ?_
          refine lv_istore (lv' := [(7, .int x7_13), (6, .int x6_10), (0, .ref h), (1, .int a1), (2, .int x2_4), (3, .int x3_5), (4, .int x4_6), (5, .int x5_7)]) hx hb dX2_worlds_68 hl (by decide) rfl (fun ls hl => ?_)
          refine lv_iload hx hb dX2_worlds_70 (lv_at hl 7 rfl) ?_
          refine lv_aload_n hx hb dX2_worlds_72 rfl (lv_at hl 2 rfl) ?_
          refine mg (v := .int (G 0 2)) X Y 2 (by decide) q1107 rfl rfl dX2_worlds_73 ?_
          refine lv_iconst (v := (1 : Int32)) hx hb dX2_worlds_76 (by decide) ?_
          refine lv_iadd hx hb dX2_worlds_77 ?_
          obtain ⟨b_14, hf⟩ := gd_s hf
          refine lv_idiv hx hb dX2_worlds_78 b_14 ?_
          refine lv_aload_n hx hb dX2_worlds_79 rfl (lv_at hl 2 rfl) ?_
          refine mg (v := .int (G 0 0)) X Y 0 (by decide) q1105 rfl rfl dX2_worlds_80 ?_
          obtain ⟨b_15, hf⟩ := gd_s hf
          refine lv_idiv hx hb dX2_worlds_83 b_15 ?_
          obtain ⟨x8_16, ex8_16, hf⟩ := nm_s hf
          refine lv_topE ex8_16 ?_
          refine lv_istore (lv' := [(8, .int x8_16), (7, .int x7_13), (6, .int x6_10), (0, .ref h), (1, .int a1), (2, .int x2_4), (3, .int x3_5), (4, .int x4_6), (5, .int x5_7)]) hx hb dX2_worlds_84 hl (by decide) rfl (fun ls hl => ?_)
          refine lv_aload_n hx hb dX2_worlds_86 rfl (lv_at hl 3 rfl) ?_
          refine lv_iload hx hb dX2_worlds_87 (lv_at hl 0 rfl) ?_
          refine lv_iload hx hb dX2_worlds_89 (lv_at hl 1 rfl) ?_
          refine lv_iload hx hb dX2_worlds_91 (lv_at hl 2 rfl) ?_
          obtain ⟨r_17, hq_18, hf⟩ := bd1_s hf
          refine mcI (av := [.int x8_16, .int x7_13, .int x6_10]) (rest := []) 3 X Y (tX2_isWorld l N G x8_16 x7_13 x6_10 r_17 hq_18) (lw_V q1460 q1462 qs64 q70 q1463) ydX2_isWorld ⟨rfl, rfl, by decide, by decide⟩ rfl hl.1 rfl (Nat.le_of_ble_eq_true rfl) ⟨Nat.zero_le _, Nat.zero_le _⟩ dX2_worlds_93 (fun H locs Y => ?_)
          obtain ⟨x2_28, x3_29, x4_30, hj, hf⟩ := bd3_s hf
          have J147_38 : ∀ (H : Heap) (locs : List Loc), WX D A s (mW h ad cA G) H locs → ∀ ls : Array Slot, lv_has ls 9 [(0, .ref h), (1, .int a1), (2, .int x2_28), (3, .int x3_29), (4, .int x4_30), (5, .int x5_7)] → W p l e (mR 1) s m args below meth c H locs 0 0 (MQ below (mQ D cA h ad A (some (.int r)) G) args s 0 0 A) (F0 m 147 ls []) := by
            clear hj
            intro H locs Y ls hl
            obtain ⟨x5_31, ex5_31, hf⟩ := nm_s hf
            refine lv_iinc (v := x5_31) (lv' := [(5, .int x5_31), (0, .ref h), (1, .int a1), (2, .int x2_28), (3, .int x3_29), (4, .int x4_30)]) hx hb dX2_worlds_147 hl (k := 5) rfl (by rw [ex5_31]; rfl) (by decide) rfl (fun ls hl => ?_)
            refine lv_goto (tgt := 22) hx hb dX2_worlds_150 (by decide) ?_
            exact ih _ _ _ _ hf _ _ Y _ (lv_sub hl [1, 2, 3, 4, 5, 0] rfl)
          replace hf := hj
          clear hj
          refine lv_if_eq (tgt := 147) hx hb dX2_worlds_96 (by decide) (fun c_19 => ?_) (fun c_19 => ?_)
          · rw [if_pos c_19] at hf
            cases hf
            exact J147_38 _ _ Y _ (lv_sub hl [3, 4, 5, 6, 7, 8] rfl)
          · rw [if_neg c_19] at hf
            obtain ⟨x2_20, ex2_20, hf⟩ := nm_s hf
            refine lv_iinc (v := x2_20) (lv' := [(2, .int x2_20), (8, .int x8_16), (7, .int x7_13), (6, .int x6_10), (0, .ref h), (1, .int a1), (3, .int x3_5), (4, .int x4_6), (5, .int x5_7)]) hx hb dX2_worlds_99 hl (k := 5) rfl (by rw [ex2_20]; rfl) (by decide) rfl (fun ls hl => ?_)
            refine lv_iload_n hx hb dX2_worlds_102 rfl (lv_at hl 6 rfl) ?_
            refine lv_iconst (v := (1 : Int32)) hx hb dX2_worlds_103 (by decide) ?_
            refine lv_iload hx hb dX2_worlds_104 (lv_at hl 1 rfl) ?_
            refine lv_iload hx hb dX2_worlds_106 (lv_at hl 2 rfl) ?_
            refine lv_aload_n hx hb dX2_worlds_108 rfl (lv_at hl 4 rfl) ?_
            refine mg (v := .ref (ad 8)) X Y 8 (by decide) q1113 rfl rfl dX2_worlds_109 ?_
            refine lv_iconst (v := (0 : Int32)) hx hb dX2_worlds_112 (by decide) ?_
            obtain ⟨b_21, hf⟩ := gd_s hf
            obtain ⟨v_22, ev_22, hf⟩ := nm_s hf
            refine ml (n := 20) X Y 8 4 rfl b_21 ev_22 dX2_worlds_113 ?_
            refine lv_imul hx hb dX2_worlds_114 ?_
            refine lv_iadd hx hb dX2_worlds_115 ?_
            refine lv_aload_n hx hb dX2_worlds_116 rfl (lv_at hl 4 rfl) ?_
            refine mg (v := .int (G 0 0)) X Y 0 (by decide) q1105 rfl rfl dX2_worlds_117 ?_
            obtain ⟨b_23, hf⟩ := gd_s hf
            refine lv_irem hx hb dX2_worlds_120 b_23 ?_
            refine lv_ishl hx hb dX2_worlds_121 ?_
            refine lv_ior hx hb dX2_worlds_122 ?_
            obtain ⟨x3_24, ex3_24, hf⟩ := nm_s hf
            refine lv_topE ex3_24 ?_
            refine lv_istore_n (lv' := [(3, .int x3_24), (2, .int x2_20), (8, .int x8_16), (7, .int x7_13), (6, .int x6_10), (0, .ref h), (1, .int a1), (4, .int x4_6), (5, .int x5_7)]) hx hb dX2_worlds_123 rfl hl (by decide) rfl (fun ls hl => ?_)
            refine lv_iload hx hb dX2_worlds_124 (lv_at hl 7 rfl) ?_
            refine lv_iload hx hb dX2_worlds_126 (lv_at hl 4 rfl) ?_
            refine lv_aload_n hx hb dX2_worlds_128 rfl (lv_at hl 5 rfl) ?_
            refine mg (v := .int (G 0 2)) X Y 2 (by decide) q1107 rfl rfl dX2_worlds_129 ?_
            obtain ⟨j_26, hj, hf⟩ := bd1_s hf
            have J144_39 : ∀ (H : Heap) (locs : List Loc), WX D A s (mW h ad cA G) H locs → ∀ ls : Array Slot, lv_has ls 9 [(0, .ref h), (1, .int a1), (2, .int x2_20), (3, .int x3_24), (5, .int x5_7)] → W p l e (mR 1) s m args below meth c H locs 0 0 (MQ below (mQ D cA h ad A (some (.int r)) G) args s 0 0 A) (F0 m 144 ls [.int j_26, .int x4_6]) := by
              clear hj
              intro H locs Y ls hl
              refine lv_ior hx hb dX2_worlds_144 ?_
              obtain ⟨x4_27, ex4_27, hf⟩ := nm_s hf
              refine lv_topE ex4_27 ?_
              refine lv_istore (lv' := [(4, .int x4_27), (0, .ref h), (1, .int a1), (2, .int x2_20), (3, .int x3_24), (5, .int x5_7)]) hx hb dX2_worlds_145 hl (by decide) rfl (fun ls hl => ?_)
              cases hf
              exact J147_38 _ _ Y _ (lv_sub hl [1, 2, 3, 4, 0, 5] rfl)
            replace hf := hj
            clear hj
            refine lv_icmp_ne (tgt := 140) hx hb dX2_worlds_132 (by decide) (fun c_25 => ?_) (fun c_25 => ?_)
            · rw [if_neg c_25] at hf
              refine lv_iconst (v := (1 : Int32)) hx hb dX2_worlds_140 (by decide) ?_
              refine lv_iload hx hb dX2_worlds_141 (lv_at hl 4 rfl) ?_
              refine lv_ishl hx hb dX2_worlds_143 ?_
              cases hf
              exact J144_39 _ _ Y _ (lv_sub hl [5, 6, 1, 0, 8] rfl)
            · rw [if_pos c_25] at hf
              refine lv_bipush (v := (64 : Int32)) hx hb dX2_worlds_135 (by decide) ?_
              refine lv_goto (tgt := 144) hx hb dX2_worlds_137 (by decide) ?_
              cases hf
              exact J144_39 _ _ Y _ (lv_sub hl [5, 6, 1, 0, 8] rfl)
    exact L22_37 N _ _ _ _ hL _ _ Y _ (lv_sub hl [4, 5, 3, 2, 1, 0] rfl)
  · rw [if_pos c_3] at hf
    refine lv_bipush (v := (-3 : Int32)) hx hb dX2_worlds_9 (by decide) ?_
    cases hf
    exact m_iret X Y dX2_worlds_11

def fX2_dangers_L5 (N : Nat) (G : GS) (a1 : Int32) (a2 : Int32) : Nat → Int32 → Int32 → Option Int32
  | 0, _, _ => none
  | n_ + 1, x3_1, x4_2 =>
    if (((G 0 0) * (G 0 0)) * ((G 0 2) + (1 : Int32))) ≤ x4_2 then (
     some x3_1
    ) else (
     gd (inb ((3 : Int32) * a1) 18) <|
     nm (G 3 (((3 : Int32) * a1)).toNatClampNeg : Int32) fun v_5 =>
     if v_5 = (1 : Int32) then (
      some x3_1
     ) else (
      gd (¬ ((G 0 2) + (1 : Int32)) = (0 : Int32)) <|
      nm ((x4_2 - x4_2 / ((G 0 2) + (1 : Int32)) * ((G 0 2) + (1 : Int32))) : Int32) fun x5_8 =>
      gd (¬ ((G 0 2) + (1 : Int32)) = (0 : Int32)) <|
      gd (¬ (G 0 0) = (0 : Int32)) <|
      nm (((x4_2 / ((G 0 2) + (1 : Int32))) - (x4_2 / ((G 0 2) + (1 : Int32))) / (G 0 0) * (G 0 0)) : Int32) fun x6_11 =>
      gd (¬ ((G 0 2) + (1 : Int32)) = (0 : Int32)) <|
      gd (¬ (G 0 0) = (0 : Int32)) <|
      nm (((x4_2 / ((G 0 2) + (1 : Int32))) / (G 0 0)) : Int32) fun x7_14 =>
      bd1 (
       if x5_8 = a1 then (
        some (0 : Int32)
       ) else (
        gd (inb (0 : Int32) 20) <|
        nm (G 8 ((0 : Int32)).toNatClampNeg : Int32) fun v_17 =>
        gd (¬ (G 0 0) = (0 : Int32)) <|
        if ((x7_14 + (x6_11 * v_17)) - (x7_14 + (x6_11 * v_17)) / (G 0 0) * (G 0 0)) = a2 then (
         bd1 (fX2_isWorld N G x7_14 x6_11 x5_8) fun r_20 =>
         if r_20 = (0 : Int32) then (
          some (0 : Int32)
         ) else (
          some (1 : Int32)
         )
        ) else (
         some (0 : Int32)
        )
       )
      ) fun j_23 =>
      nm ((x3_1 + j_23) : Int32) fun x3_24 =>
      nm ((x4_2 + (1 : Int32)) : Int32) fun x4_25 =>
      fX2_dangers_L5 N G a1 a2 n_ x3_24 x4_25
     )
    )
def fX2_dangers (N : Nat) (G : GS) (a1 : Int32) (a2 : Int32) : Option Int32 :=
  bd1 (fX2_dangers_L5 N G a1 a2 N (0 : Int32) (0 : Int32)) fun x3_26 =>
  some x3_26
theorem ydX2_dangers : yX2_dangers.cls = RX2 ∧ yX2_dangers.cls ≠ "java/lang/invoke/MethodHandle" ∧ yX2_dangers.cls ≠ "java/lang/invoke/VarHandle" ∧ (parseMethodDescriptor yX2_dangers.desc).map (fun d => d.parameters.length) = some 2 := by decide +kernel
set_option maxHeartbeats 4000000 in
theorem tX2_dangers (l : Launch) (N : Nat) (G : GS) (a1 : Int32) (a2 : Int32) (r : Int32) (hf : fX2_dangers N G a1 a2 = some r) : mMet l yX2_dangers cX2_dangers 8 (some .int) (mR 1) [.int a1, .int a2] G (some (.int r)) G := by
  unfold fX2_dangers at hf
  refine mMet_of (by decide +kernel) rfl (Nat.le_of_ble_eq_true rfl) (fun {p e s m args below meth c ls D cA h ad A} X Y hl => ?_)
  have hx := X.1.1
  have hb := X.1.2.1
  have hl : lv_has ls 8 [(0, .ref h), (1, .int a1), (2, .int a2)] := hl
  refine lv_iconst (v := (0 : Int32)) hx hb dX2_dangers_0 (by decide) ?_
  refine lv_istore_n (lv' := [(3, .int (0 : Int32)), (0, .ref h), (1, .int a1), (2, .int a2)]) hx hb dX2_dangers_1 rfl hl (by decide) rfl (fun ls hl => ?_)
  refine lv_iconst (v := (0 : Int32)) hx hb dX2_dangers_2 (by decide) ?_
  refine lv_istore (lv' := [(4, .int (0 : Int32)), (3, .int (0 : Int32)), (0, .ref h), (1, .int a1), (2, .int a2)]) hx hb dX2_dangers_3 hl (by decide) rfl (fun ls hl => ?_)
  obtain ⟨x3_26, hL, hf⟩ := bd1_s hf
  have E5_27 : ∀ (H : Heap) (locs : List Loc), WX D A s (mW h ad cA G) H locs → ∀ ls : Array Slot, lv_has ls 8 [(3, .int x3_26)] → W p l e (mR 1) s m args below meth c H locs 0 0 (MQ below (mQ D cA h ad A (some (.int r)) G) args s 0 0 A) (F0 m 135 ls []) := by
    clear hL
    intro H locs Y ls hl
    refine lv_iload_n hx hb dX2_dangers_135 rfl (lv_at hl 0 rfl) ?_
    cases hf
    exact m_iret X Y dX2_dangers_136
  clear hf
  have L5_27 : ∀ (n_ : Nat) (x3_1 : Int32) (x4_2 : Int32), fX2_dangers_L5 N G a1 a2 n_ x3_1 x4_2 = some x3_26 → ∀ (H : Heap) (locs : List Loc), WX D A s (mW h ad cA G) H locs → ∀ ls : Array Slot, lv_has ls 8 [(0, .ref h), (1, .int a1), (2, .int a2), (3, .int x3_1), (4, .int x4_2)] → W p l e (mR 1) s m args below meth c H locs 0 0 (MQ below (mQ D cA h ad A (some (.int r)) G) args s 0 0 A) (F0 m 5 ls []) := by
    clear hL
    intro n_
    induction n_ with
    | zero =>
      intro x3_1 x4_2 hf
      rw [fX2_dangers_L5.eq_1] at hf
      cases hf
    | succ n_ ih =>
      intro x3_1 x4_2 hf
      intro H locs Y ls hl
      rw [fX2_dangers_L5.eq_2] at hf
      refine lv_iload hx hb dX2_dangers_5 (lv_at hl 4 rfl) ?_
      refine lv_aload_n hx hb dX2_dangers_7 rfl (lv_at hl 0 rfl) ?_
      refine mg (v := .int (G 0 0)) X Y 0 (by decide) q1105 rfl rfl dX2_dangers_8 ?_
      refine lv_aload_n hx hb dX2_dangers_11 rfl (lv_at hl 0 rfl) ?_
      refine mg (v := .int (G 0 0)) X Y 0 (by decide) q1105 rfl rfl dX2_dangers_12 ?_
      refine lv_imul hx hb dX2_dangers_15 ?_
      refine lv_aload_n hx hb dX2_dangers_16 rfl (lv_at hl 0 rfl) ?_
      refine mg (v := .int (G 0 2)) X Y 2 (by decide) q1107 rfl rfl dX2_dangers_17 ?_
      refine lv_iconst (v := (1 : Int32)) hx hb dX2_dangers_20 (by decide) ?_
      refine lv_iadd hx hb dX2_dangers_21 ?_
      refine lv_imul hx hb dX2_dangers_22 ?_
      refine lv_icmp_ge (tgt := 135) hx hb dX2_dangers_23 (by decide) (fun c_3 => ?_) (fun c_3 => ?_)
      · rw [if_pos c_3] at hf
        cases hf
        exact E5_27 _ _ Y _ (lv_sub hl [3] rfl)
      · rw [if_neg c_3] at hf
        refine lv_aload_n hx hb dX2_dangers_26 rfl (lv_at hl 0 rfl) ?_
        refine mg (v := .ref (ad 3)) X Y 3 (by decide) q1108 rfl rfl dX2_dangers_27 ?_
        refine lv_iconst (v := (3 : Int32)) hx hb dX2_dangers_30 (by decide) ?_
        refine lv_iload_n hx hb dX2_dangers_31 rfl (lv_at hl 1 rfl) ?_
        refine lv_imul hx hb dX2_dangers_32 ?_
        obtain ⟨b_4, hf⟩ := gd_s hf
        obtain ⟨v_5, ev_5, hf⟩ := nm_s hf
        refine ml (n := 18) X Y 3 2 rfl b_4 ev_5 dX2_dangers_33 ?_
        refine lv_iconst (v := (1 : Int32)) hx hb dX2_dangers_34 (by decide) ?_
        refine lv_icmp_eq (tgt := 135) hx hb dX2_dangers_35 (by decide) (fun c_6 => ?_) (fun c_6 => ?_)
        · rw [if_pos c_6] at hf
          cases hf
          exact E5_27 _ _ Y _ (lv_sub hl [3] rfl)
        · rw [if_neg c_6] at hf
          refine lv_iload hx hb dX2_dangers_38 (lv_at hl 4 rfl) ?_
          refine lv_aload_n hx hb dX2_dangers_40 rfl (lv_at hl 0 rfl) ?_
          refine mg (v := .int (G 0 2)) X Y 2 (by decide) q1107 rfl rfl dX2_dangers_41 ?_
          refine lv_iconst (v := (1 : Int32)) hx hb dX2_dangers_44 (by decide) ?_
          refine lv_iadd hx hb dX2_dangers_45 ?_
          obtain ⟨b_7, hf⟩ := gd_s hf
          refine lv_irem hx hb dX2_dangers_46 b_7 ?_
          obtain ⟨x5_8, ex5_8, hf⟩ := nm_s hf
          refine lv_topE ex5_8 ?_
          refine lv_istore (lv' := [(5, .int x5_8), (0, .ref h), (1, .int a1), (2, .int a2), (3, .int x3_1), (4, .int x4_2)]) hx hb dX2_dangers_47 hl (by decide) rfl (fun ls hl => ?_)
          refine lv_iload hx hb dX2_dangers_49 (lv_at hl 5 rfl) ?_
          refine lv_aload_n hx hb dX2_dangers_51 rfl (lv_at hl 1 rfl) ?_
          refine mg (v := .int (G 0 2)) X Y 2 (by decide) q1107 rfl rfl dX2_dangers_52 ?_
          refine lv_iconst (v := (1 : Int32)) hx hb dX2_dangers_55 (by decide) ?_
          refine lv_iadd hx hb dX2_dangers_56 ?_
          obtain ⟨b_9, hf⟩ := gd_s hf
          refine lv_idiv hx hb dX2_dangers_57 b_9 ?_
          refine lv_aload_n hx hb dX2_dangers_58 rfl (lv_at hl 1 rfl) ?_
          refine mg (v := .int (G 0 0)) X Y 0 (by decide) q1105 rfl rfl dX2_dangers_59 ?_
          obtain ⟨b_10, hf⟩ := gd_s hf
          refine lv_irem hx hb dX2_dangers_62 b_10 ?_
          obtain ⟨x6_11, ex6_11, hf⟩ := nm_s hf
          refine lv_topE ex6_11 ?_
          refine lv_istore (lv' := [(6, .int x6_11), (5, .int x5_8), (0, .ref h), (1, .int a1), (2, .int a2), (3, .int x3_1), (4, .int x4_2)]) hx hb dX2_dangers_63 hl (by decide) rfl (fun ls hl => ?_)
          refine lv_iload hx hb dX2_dangers_65 (lv_at hl 6 rfl) ?_
          refine lv_aload_n hx hb dX2_dangers_67 rfl (lv_at hl 2 rfl) ?_
          refine mg (v := .int (G 0 2)) X Y 2 (by decide) q1107 rfl rfl dX2_dangers_68 ?_
          refine lv_iconst (v := (1 : Int32)) hx hb dX2_dangers_71 (by decide) ?_
          refine lv_iadd hx hb dX2_dangers_72 ?_
          obtain ⟨b_12, hf⟩ := gd_s hf
          refine lv_idiv hx hb dX2_dangers_73 b_12 ?_
          refine lv_aload_n hx hb dX2_dangers_74 rfl (lv_at hl 2 rfl) ?_
          refine mg (v := .int (G 0 0)) X Y 0 (by decide) q1105 rfl rfl dX2_dangers_75 ?_
          obtain ⟨b_13, hf⟩ := gd_s hf
          refine lv_idiv hx hb dX2_dangers_78 b_13 ?_
          obtain ⟨x7_14, ex7_14, hf⟩ := nm_s hf
          refine lv_topE ex7_14 ?_
          refine lv_istore (lv' := [(7, .int x7_14), (6, .int x6_11), (5, .int x5_8), (0, .ref h), (1, .int a1), (2, .int a2), (3, .int x3_1), (4, .int x4_2)]) hx hb dX2_dangers_79 hl (by decide) rfl (fun ls hl => ?_)
          refine lv_iload_n hx hb dX2_dangers_81 rfl (lv_at hl 6 rfl) ?_
          refine lv_iload hx hb dX2_dangers_82 (lv_at hl 2 rfl) ?_
          refine lv_iload_n hx hb dX2_dangers_84 rfl (lv_at hl 4 rfl) ?_
          obtain ⟨j_23, hj, hf⟩ := bd1_s hf
          have J127_28 : ∀ (H : Heap) (locs : List Loc), WX D A s (mW h ad cA G) H locs → ∀ ls : Array Slot, lv_has ls 8 [(0, .ref h), (1, .int a1), (2, .int a2), (4, .int x4_2)] → W p l e (mR 1) s m args below meth c H locs 0 0 (MQ below (mQ D cA h ad A (some (.int r)) G) args s 0 0 A) (F0 m 127 ls [.int j_23, .int x3_1]) := by
            clear hj
            intro H locs Y ls hl
            refine lv_iadd hx hb dX2_dangers_127 ?_
            obtain ⟨x3_24, ex3_24, hf⟩ := nm_s hf
            refine lv_topE ex3_24 ?_
            refine lv_istore_n (lv' := [(3, .int x3_24), (0, .ref h), (1, .int a1), (2, .int a2), (4, .int x4_2)]) hx hb dX2_dangers_128 rfl hl (by decide) rfl (fun ls hl => ?_)
            obtain ⟨x4_25, ex4_25, hf⟩ := nm_s hf
            refine lv_iinc (v := x4_25) (lv' := [(4, .int x4_25), (3, .int x3_24), (0, .ref h), (1, .int a1), (2, .int a2)]) hx hb dX2_dangers_129 hl (k := 4) rfl (by rw [ex4_25]; rfl) (by decide) rfl (fun ls hl => ?_)
            refine lv_goto (tgt := 5) hx hb dX2_dangers_132 (by decide) ?_
            exact ih _ _ hf _ _ Y _ (lv_sub hl [2, 3, 4, 1, 0] rfl)
          replace hf := hj
          clear hj
          refine lv_icmp_eq (tgt := 126) hx hb dX2_dangers_85 (by decide) (fun c_15 => ?_) (fun c_15 => ?_)
          · rw [if_pos c_15] at hf
            refine lv_iconst (v := (0 : Int32)) hx hb dX2_dangers_126 (by decide) ?_
            cases hf
            exact J127_28 _ _ Y _ (lv_sub hl [3, 4, 5, 7] rfl)
          · rw [if_neg c_15] at hf
            refine lv_iload hx hb dX2_dangers_88 (lv_at hl 0 rfl) ?_
            refine lv_iload hx hb dX2_dangers_90 (lv_at hl 1 rfl) ?_
            refine lv_aload_n hx hb dX2_dangers_92 rfl (lv_at hl 3 rfl) ?_
            refine mg (v := .ref (ad 8)) X Y 8 (by decide) q1113 rfl rfl dX2_dangers_93 ?_
            refine lv_iconst (v := (0 : Int32)) hx hb dX2_dangers_96 (by decide) ?_
            obtain ⟨b_16, hf⟩ := gd_s hf
            obtain ⟨v_17, ev_17, hf⟩ := nm_s hf
            refine ml (n := 20) X Y 8 4 rfl b_16 ev_17 dX2_dangers_97 ?_
            refine lv_imul hx hb dX2_dangers_98 ?_
            refine lv_iadd hx hb dX2_dangers_99 ?_
            refine lv_aload_n hx hb dX2_dangers_100 rfl (lv_at hl 3 rfl) ?_
            refine mg (v := .int (G 0 0)) X Y 0 (by decide) q1105 rfl rfl dX2_dangers_101 ?_
            obtain ⟨b_18, hf⟩ := gd_s hf
            refine lv_irem hx hb dX2_dangers_104 b_18 ?_
            refine lv_iload_n hx hb dX2_dangers_105 rfl (lv_at hl 5 rfl) ?_
            refine lv_icmp_ne (tgt := 126) hx hb dX2_dangers_106 (by decide) (fun c_19 => ?_) (fun c_19 => ?_)
            · rw [if_neg c_19] at hf
              refine lv_iconst (v := (0 : Int32)) hx hb dX2_dangers_126 (by decide) ?_
              cases hf
              exact J127_28 _ _ Y _ (lv_sub hl [3, 4, 5, 7] rfl)
            · rw [if_pos c_19] at hf
              refine lv_aload_n hx hb dX2_dangers_109 rfl (lv_at hl 3 rfl) ?_
              refine lv_iload hx hb dX2_dangers_110 (lv_at hl 0 rfl) ?_
              refine lv_iload hx hb dX2_dangers_112 (lv_at hl 1 rfl) ?_
              refine lv_iload hx hb dX2_dangers_114 (lv_at hl 2 rfl) ?_
              obtain ⟨r_20, hq_21, hf⟩ := bd1_s hf
              refine mcI (av := [.int x7_14, .int x6_11, .int x5_8]) (rest := [.int x3_1]) 3 X Y (tX2_isWorld l N G x7_14 x6_11 x5_8 r_20 hq_21) (lw_V q1460 q1462 qs64 q70 q1463) ydX2_isWorld ⟨rfl, rfl, by decide, by decide⟩ rfl hl.1 rfl (Nat.le_of_ble_eq_true rfl) ⟨Nat.zero_le _, Nat.zero_le _⟩ dX2_dangers_116 (fun H locs Y => ?_)
              refine lv_if_eq (tgt := 126) hx hb dX2_dangers_119 (by decide) (fun c_22 => ?_) (fun c_22 => ?_)
              · rw [if_pos c_22] at hf
                refine lv_iconst (v := (0 : Int32)) hx hb dX2_dangers_126 (by decide) ?_
                cases hf
                exact J127_28 _ _ Y _ (lv_sub hl [3, 4, 5, 7] rfl)
              · rw [if_neg c_22] at hf
                refine lv_iconst (v := (1 : Int32)) hx hb dX2_dangers_122 (by decide) ?_
                refine lv_goto (tgt := 127) hx hb dX2_dangers_123 (by decide) ?_
                cases hf
                exact J127_28 _ _ Y _ (lv_sub hl [3, 4, 5, 7] rfl)
  exact L5_27 N _ _ hL _ _ Y _ (lv_sub hl [2, 3, 4, 1, 0] rfl)

def fX2_safest_L31 (N : Nat) (G : GS) (a1 : Int32) : Nat → Int32 → Int32 → Int32 → Option (Int32 × Int32)
  | 0, _, _, _ => none
  | n_ + 1, x3_7, x4_8, x5_9 =>
    if (G 0 0) ≤ x5_9 then (
     some (x3_7, x4_8)
    ) else (
     bd1 (fX2_fits N G a1 x5_9) fun r_11 =>
     bd2 (
      if r_11 = (0 : Int32) then (
       some (x3_7, x4_8)
      ) else (
       bd1 (fX2_dangers N G a1 x5_9) fun r_14 =>
       bd1 (
        if x3_7 = (-1 : Int32) then (
         some (1 : Int32)
        ) else (
         if x4_8 ≤ r_14 then (
          some (0 : Int32)
         ) else (
          some (1 : Int32)
         )
        )
       ) fun j_18 =>
       bd1 (
        if j_18 = (0 : Int32) then (
         some x3_7
        ) else (
         some x5_9
        )
       ) fun j_20 =>
       bd1 (
        if j_18 = (0 : Int32) then (
         some x4_8
        ) else (
         some r_14
        )
       ) fun j_22 =>
       some (j_20, j_22)
      )
     ) fun x3_23 x4_24 =>
     nm ((x5_9 + (1 : Int32)) : Int32) fun x5_25 =>
     fX2_safest_L31 N G a1 n_ x3_23 x4_24 x5_25
    )
def fX2_safest (N : Nat) (G : GS) (a1 : Int32) (a2 : Int32) : Option Int32 :=
  bd1 (fX2_isKnight N G a1) fun r_1 =>
  if r_1 = (0 : Int32) then (
   some (-2 : Int32)
  ) else (
   bd1 (fX2_in N a2 (0 : Int32) (1 : Int32)) fun r_4 =>
   if r_4 = (0 : Int32) then (
    some (-3 : Int32)
   ) else (
    bd2 (fX2_safest_L31 N G a1 N (-1 : Int32) (0 : Int32) (0 : Int32)) fun x3_26 x4_27 =>
    if x3_26 = (-1 : Int32) then (
     some x3_26
    ) else (
     if a2 = (0 : Int32) then (
      some x3_26
     ) else (
      some x4_27
     )
    )
   )
  )
theorem ydX2_safest : yX2_safest.cls = RX2 ∧ yX2_safest.cls ≠ "java/lang/invoke/MethodHandle" ∧ yX2_safest.cls ≠ "java/lang/invoke/VarHandle" ∧ (parseMethodDescriptor yX2_safest.desc).map (fun d => d.parameters.length) = some 2 := by decide +kernel
set_option maxHeartbeats 4000000 in
theorem tX2_safest (l : Launch) (N : Nat) (G : GS) (a1 : Int32) (a2 : Int32) (r : Int32) (hf : fX2_safest N G a1 a2 = some r) : mMet l yX2_safest cX2_safest 8 (some .int) (mR 2) [.int a1, .int a2] G (some (.int r)) G := by
  unfold fX2_safest at hf
  refine mMet_of (by decide +kernel) rfl (Nat.le_of_ble_eq_true rfl) (fun {p e s m args below meth c ls D cA h ad A} X Y hl => ?_)
  have hx := X.1.1
  have hb := X.1.2.1
  have hl : lv_has ls 8 [(0, .ref h), (1, .int a1), (2, .int a2)] := hl
  refine lv_aload_n hx hb dX2_safest_0 rfl (lv_at hl 0 rfl) ?_
  refine lv_iload_n hx hb dX2_safest_1 rfl (lv_at hl 1 rfl) ?_
  obtain ⟨r_1, hq_2, hf⟩ := bd1_s hf
  refine mcI (av := [.int a1]) (rest := []) 1 X Y (tX2_isKnight l N G a1 r_1 hq_2) (lw_V q1322 q1324 qs48 q70 q1325) ydX2_isKnight ⟨rfl, rfl, by decide, by decide⟩ rfl hl.1 rfl (Nat.le_of_ble_eq_true rfl) ⟨Nat.zero_le _, Nat.zero_le _⟩ dX2_safest_2 (fun H locs Y => ?_)
  refine lv_if_ne (tgt := 11) hx hb dX2_safest_5 (by decide) (fun c_3 => ?_) (fun c_3 => ?_)
  · rw [if_neg c_3] at hf
    refine lv_iload_n hx hb dX2_safest_11 rfl (lv_at hl 2 rfl) ?_
    refine lv_iconst (v := (0 : Int32)) hx hb dX2_safest_12 (by decide) ?_
    refine lv_iconst (v := (1 : Int32)) hx hb dX2_safest_13 (by decide) ?_
    obtain ⟨r_4, hq_5, hf⟩ := bd1_s hf
    refine w_callSI (av := [.int a2, .int (0 : Int32), .int (1 : Int32)]) (rest := []) 3 X Y (tX2_in l N a2 (0 : Int32) (1 : Int32) r_4 hq_5) (lw_S q1225 q1226 q70 q1227) ydX2_in ⟨rfl, rfl, by decide, by decide⟩ rfl hl.1 rfl (Nat.le_of_ble_eq_true rfl) ⟨Nat.zero_le _, Nat.zero_le _⟩ dX2_safest_14 (fun H locs Y => ?_)
    refine lv_if_ne (tgt := 23) hx hb dX2_safest_17 (by decide) (fun c_6 => ?_) (fun c_6 => ?_)
    · rw [if_neg c_6] at hf
      refine lv_iconst (v := (-1 : Int32)) hx hb dX2_safest_23 (by decide) ?_
      refine lv_istore_n (lv' := [(3, .int (-1 : Int32)), (0, .ref h), (1, .int a1), (2, .int a2)]) hx hb dX2_safest_24 rfl hl (by decide) rfl (fun ls hl => ?_)
      refine lv_iconst (v := (0 : Int32)) hx hb dX2_safest_25 (by decide) ?_
      refine lv_istore (lv' := [(4, .int (0 : Int32)), (3, .int (-1 : Int32)), (0, .ref h), (1, .int a1), (2, .int a2)]) hx hb dX2_safest_26 hl (by decide) rfl (fun ls hl => ?_)
      refine lv_iconst (v := (0 : Int32)) hx hb dX2_safest_28 (by decide) ?_
      refine lv_istore (lv' := [(5, .int (0 : Int32)), (4, .int (0 : Int32)), (3, .int (-1 : Int32)), (0, .ref h), (1, .int a1), (2, .int a2)]) hx hb dX2_safest_29 hl (by decide) rfl (fun ls hl => ?_)
      obtain ⟨x3_26, x4_27, hL, hf⟩ := bd2_s hf
      have E31_30 : ∀ (H : Heap) (locs : List Loc), WX D A s (mW h ad cA G) H locs → ∀ ls : Array Slot, lv_has ls 8 [(2, .int a2), (3, .int x3_26), (4, .int x4_27)] → W p l e (mR 2) s m args below meth c H locs 0 0 (MQ below (mQ D cA h ad A (some (.int r)) G) args s 0 0 A) (F0 m 110 ls []) := by
        clear hL
        intro H locs Y ls hl
        refine lv_iload_n hx hb dX2_safest_110 rfl (lv_at hl 1 rfl) ?_
        refine lv_iconst (v := (-1 : Int32)) hx hb dX2_safest_111 (by decide) ?_
        refine lv_icmp_eq (tgt := 119) hx hb dX2_safest_112 (by decide) (fun c_28 => ?_) (fun c_28 => ?_)
        · rw [if_pos c_28] at hf
          refine lv_iload_n hx hb dX2_safest_119 rfl (lv_at hl 1 rfl) ?_
          refine lv_goto (tgt := 125) hx hb dX2_safest_120 (by decide) ?_
          cases hf
          exact m_iret X Y dX2_safest_125
        · rw [if_neg c_28] at hf
          refine lv_iload_n hx hb dX2_safest_115 rfl (lv_at hl 0 rfl) ?_
          refine lv_if_ne (tgt := 123) hx hb dX2_safest_116 (by decide) (fun c_29 => ?_) (fun c_29 => ?_)
          · rw [if_neg c_29] at hf
            refine lv_iload hx hb dX2_safest_123 (lv_at hl 2 rfl) ?_
            cases hf
            exact m_iret X Y dX2_safest_125
          · rw [if_pos c_29] at hf
            refine lv_iload_n hx hb dX2_safest_119 rfl (lv_at hl 1 rfl) ?_
            refine lv_goto (tgt := 125) hx hb dX2_safest_120 (by decide) ?_
            cases hf
            exact m_iret X Y dX2_safest_125
      clear hf
      have L31_30 : ∀ (n_ : Nat) (x3_7 : Int32) (x4_8 : Int32) (x5_9 : Int32), fX2_safest_L31 N G a1 n_ x3_7 x4_8 x5_9 = some (x3_26, x4_27) → ∀ (H : Heap) (locs : List Loc), WX D A s (mW h ad cA G) H locs → ∀ ls : Array Slot, lv_has ls 8 [(0, .ref h), (1, .int a1), (2, .int a2), (3, .int x3_7), (4, .int x4_8), (5, .int x5_9)] → W p l e (mR 2) s m args below meth c H locs 0 0 (MQ below (mQ D cA h ad A (some (.int r)) G) args s 0 0 A) (F0 m 31 ls []) := by
        clear hL
        intro n_
        induction n_ with
        | zero =>
          intro x3_7 x4_8 x5_9 hf
          rw [fX2_safest_L31.eq_1] at hf
          cases hf
        | succ n_ ih =>
          intro x3_7 x4_8 x5_9 hf
          intro H locs Y ls hl
          rw [fX2_safest_L31.eq_2] at hf
          refine lv_iload hx hb dX2_safest_31 (lv_at hl 5 rfl) ?_
          refine lv_aload_n hx hb dX2_safest_33 rfl (lv_at hl 0 rfl) ?_
          refine mg (v := .int (G 0 0)) X Y 0 (by decide) q1105 rfl rfl dX2_safest_34 ?_
          refine lv_icmp_ge (tgt := 110) hx hb dX2_safest_37 (by decide) (fun c_10 => ?_) (fun c_10 => ?_)
          · rw [if_pos c_10] at hf
            cases hf
            exact E31_30 _ _ Y _ (lv_sub hl [2, 3, 4] rfl)
          · rw [if_neg c_10] at hf
            refine lv_aload_n hx hb dX2_safest_40 rfl (lv_at hl 0 rfl) ?_
            refine lv_iload_n hx hb dX2_safest_41 rfl (lv_at hl 1 rfl) ?_
            refine lv_iload hx hb dX2_safest_42 (lv_at hl 5 rfl) ?_
            obtain ⟨r_11, hq_12, hf⟩ := bd1_s hf
            refine mcI (av := [.int a1, .int x5_9]) (rest := []) 2 X Y (tX2_fits l N G a1 x5_9 r_11 hq_12) (lw_V q1333 q1335 qs49 q70 q1336) ydX2_fits ⟨rfl, rfl, by decide, by decide⟩ rfl hl.1 rfl (Nat.le_of_ble_eq_true rfl) ⟨Nat.zero_le _, Nat.zero_le _⟩ dX2_safest_44 (fun H locs Y => ?_)
            obtain ⟨x3_23, x4_24, hj, hf⟩ := bd2_s hf
            have J104_31 : ∀ (H : Heap) (locs : List Loc), WX D A s (mW h ad cA G) H locs → ∀ ls : Array Slot, lv_has ls 8 [(0, .ref h), (1, .int a1), (2, .int a2), (3, .int x3_23), (4, .int x4_24), (5, .int x5_9)] → W p l e (mR 2) s m args below meth c H locs 0 0 (MQ below (mQ D cA h ad A (some (.int r)) G) args s 0 0 A) (F0 m 104 ls []) := by
              clear hj
              intro H locs Y ls hl
              obtain ⟨x5_25, ex5_25, hf⟩ := nm_s hf
              refine lv_iinc (v := x5_25) (lv' := [(5, .int x5_25), (0, .ref h), (1, .int a1), (2, .int a2), (3, .int x3_23), (4, .int x4_24)]) hx hb dX2_safest_104 hl (k := 5) rfl (by rw [ex5_25]; rfl) (by decide) rfl (fun ls hl => ?_)
              refine lv_goto (tgt := 31) hx hb dX2_safest_107 (by decide) ?_
              exact ih _ _ _ hf _ _ Y _ (lv_sub hl [1, 2, 3, 4, 5, 0] rfl)
            replace hf := hj
            clear hj
            refine lv_if_eq (tgt := 104) hx hb dX2_safest_47 (by decide) (fun c_13 => ?_) (fun c_13 => ?_)
            · rw [if_pos c_13] at hf
              cases hf
              exact J104_31 _ _ Y _ (lv_sub hl [0, 1, 2, 3, 4, 5] rfl)
            · rw [if_neg c_13] at hf
              refine lv_aload_n hx hb dX2_safest_50 rfl (lv_at hl 0 rfl) ?_
              refine lv_iload_n hx hb dX2_safest_51 rfl (lv_at hl 1 rfl) ?_
              refine lv_iload hx hb dX2_safest_52 (lv_at hl 5 rfl) ?_
              obtain ⟨r_14, hq_15, hf⟩ := bd1_s hf
              refine mcI (av := [.int a1, .int x5_9]) (rest := []) 2 X Y (tX2_dangers l N G a1 x5_9 r_14 hq_15) (lw_V q1468 q1470 qs65 q70 q1471) ydX2_dangers ⟨rfl, rfl, by decide, by decide⟩ rfl hl.1 rfl (Nat.le_of_ble_eq_true rfl) ⟨Nat.zero_le _, Nat.zero_le _⟩ dX2_safest_54 (fun H locs Y => ?_)
              refine lv_istore (lv' := [(6, .int r_14), (0, .ref h), (1, .int a1), (2, .int a2), (3, .int x3_7), (4, .int x4_8), (5, .int x5_9)]) hx hb dX2_safest_57 hl (by decide) rfl (fun ls hl => ?_)
              refine lv_iload_n hx hb dX2_safest_59 rfl (lv_at hl 4 rfl) ?_
              refine lv_iconst (v := (-1 : Int32)) hx hb dX2_safest_60 (by decide) ?_
              obtain ⟨j_18, hj, hf⟩ := bd1_s hf
              have J76_32 : ∀ (H : Heap) (locs : List Loc), WX D A s (mW h ad cA G) H locs → ∀ ls : Array Slot, lv_has ls 8 [(0, .ref h), (1, .int a1), (2, .int a2), (3, .int x3_7), (4, .int x4_8), (5, .int x5_9), (6, .int r_14)] → W p l e (mR 2) s m args below meth c H locs 0 0 (MQ below (mQ D cA h ad A (some (.int r)) G) args s 0 0 A) (F0 m 76 ls [.int j_18]) := by
                clear hj
                intro H locs Y ls hl
                refine lv_istore (lv' := [(7, .int j_18), (0, .ref h), (1, .int a1), (2, .int a2), (3, .int x3_7), (4, .int x4_8), (5, .int x5_9), (6, .int r_14)]) hx hb dX2_safest_76 hl (by decide) rfl (fun ls hl => ?_)
                refine lv_iload hx hb dX2_safest_78 (lv_at hl 0 rfl) ?_
                obtain ⟨j_20, hj, hf⟩ := bd1_s hf
                have J89_33 : ∀ (H : Heap) (locs : List Loc), WX D A s (mW h ad cA G) H locs → ∀ ls : Array Slot, lv_has ls 8 [(0, .ref h), (1, .int a1), (2, .int a2), (4, .int x4_8), (5, .int x5_9), (6, .int r_14), (7, .int j_18)] → W p l e (mR 2) s m args below meth c H locs 0 0 (MQ below (mQ D cA h ad A (some (.int r)) G) args s 0 0 A) (F0 m 89 ls [.int j_20]) := by
                  clear hj
                  intro H locs Y ls hl
                  refine lv_istore_n (lv' := [(3, .int j_20), (0, .ref h), (1, .int a1), (2, .int a2), (4, .int x4_8), (5, .int x5_9), (6, .int r_14), (7, .int j_18)]) hx hb dX2_safest_89 rfl hl (by decide) rfl (fun ls hl => ?_)
                  refine lv_iload hx hb dX2_safest_90 (lv_at hl 7 rfl) ?_
                  obtain ⟨j_22, hj, hf⟩ := bd1_s hf
                  have J102_34 : ∀ (H : Heap) (locs : List Loc), WX D A s (mW h ad cA G) H locs → ∀ ls : Array Slot, lv_has ls 8 [(0, .ref h), (1, .int a1), (2, .int a2), (3, .int j_20), (5, .int x5_9)] → W p l e (mR 2) s m args below meth c H locs 0 0 (MQ below (mQ D cA h ad A (some (.int r)) G) args s 0 0 A) (F0 m 102 ls [.int j_22]) := by
                    clear hj
                    intro H locs Y ls hl
                    refine lv_istore (lv' := [(4, .int j_22), (0, .ref h), (1, .int a1), (2, .int a2), (3, .int j_20), (5, .int x5_9)]) hx hb dX2_safest_102 hl (by decide) rfl (fun ls hl => ?_)
                    cases hf
                    exact J104_31 _ _ Y _ (lv_sub hl [1, 2, 3, 4, 0, 5] rfl)
                  replace hf := hj
                  clear hj
                  refine lv_if_eq (tgt := 100) hx hb dX2_safest_92 (by decide) (fun c_21 => ?_) (fun c_21 => ?_)
                  · rw [if_pos c_21] at hf
                    refine lv_iload hx hb dX2_safest_100 (lv_at hl 4 rfl) ?_
                    cases hf
                    exact J102_34 _ _ Y _ (lv_sub hl [1, 2, 3, 0, 5] rfl)
                  · rw [if_neg c_21] at hf
                    refine lv_iload hx hb dX2_safest_95 (lv_at hl 6 rfl) ?_
                    refine lv_goto (tgt := 102) hx hb dX2_safest_97 (by decide) ?_
                    cases hf
                    exact J102_34 _ _ Y _ (lv_sub hl [1, 2, 3, 0, 5] rfl)
                replace hf := hj
                clear hj
                refine lv_if_eq (tgt := 88) hx hb dX2_safest_80 (by decide) (fun c_19 => ?_) (fun c_19 => ?_)
                · rw [if_pos c_19] at hf
                  refine lv_iload_n hx hb dX2_safest_88 rfl (lv_at hl 4 rfl) ?_
                  cases hf
                  exact J89_33 _ _ Y _ (lv_sub hl [1, 2, 3, 5, 6, 7, 0] rfl)
                · rw [if_neg c_19] at hf
                  refine lv_iload hx hb dX2_safest_83 (lv_at hl 6 rfl) ?_
                  refine lv_goto (tgt := 89) hx hb dX2_safest_85 (by decide) ?_
                  cases hf
                  exact J89_33 _ _ Y _ (lv_sub hl [1, 2, 3, 5, 6, 7, 0] rfl)
              replace hf := hj
              clear hj
              refine lv_icmp_eq (tgt := 71) hx hb dX2_safest_61 (by decide) (fun c_16 => ?_) (fun c_16 => ?_)
              · rw [if_pos c_16] at hf
                refine lv_iconst (v := (1 : Int32)) hx hb dX2_safest_71 (by decide) ?_
                refine lv_goto (tgt := 76) hx hb dX2_safest_72 (by decide) ?_
                cases hf
                exact J76_32 _ _ Y _ (lv_sub hl [1, 2, 3, 4, 5, 6, 0] rfl)
              · rw [if_neg c_16] at hf
                refine lv_iload hx hb dX2_safest_64 (lv_at hl 0 rfl) ?_
                refine lv_iload hx hb dX2_safest_66 (lv_at hl 5 rfl) ?_
                refine lv_icmp_ge (tgt := 75) hx hb dX2_safest_68 (by decide) (fun c_17 => ?_) (fun c_17 => ?_)
                · rw [if_pos c_17] at hf
                  refine lv_iconst (v := (0 : Int32)) hx hb dX2_safest_75 (by decide) ?_
                  cases hf
                  exact J76_32 _ _ Y _ (lv_sub hl [1, 2, 3, 4, 5, 6, 0] rfl)
                · rw [if_neg c_17] at hf
                  refine lv_iconst (v := (1 : Int32)) hx hb dX2_safest_71 (by decide) ?_
                  refine lv_goto (tgt := 76) hx hb dX2_safest_72 (by decide) ?_
                  cases hf
                  exact J76_32 _ _ Y _ (lv_sub hl [1, 2, 3, 4, 5, 6, 0] rfl)
      exact L31_30 N _ _ _ hL _ _ Y _ (lv_sub hl [3, 4, 5, 2, 1, 0] rfl)
    · rw [if_pos c_6] at hf
      refine lv_bipush (v := (-3 : Int32)) hx hb dX2_safest_20 (by decide) ?_
      cases hf
      exact m_iret X Y dX2_safest_22
  · rw [if_pos c_3] at hf
    refine lv_bipush (v := (-2 : Int32)) hx hb dX2_safest_8 (by decide) ?_
    cases hf
    exact m_iret X Y dX2_safest_10

def fX2_quests_L85 (N : Nat) (a3 : Int32) (a4 : Int32) (x10_17 : Int32) : Nat → Int64 → Int32 → Option Int64
  | 0, _, _ => none
  | n_ + 1, x12_21, x14_22 =>
    if a3 ≤ x14_22 then (
     some x12_21
    ) else (
     bd1 (fX2_has N x10_17 x14_22) fun r_24 =>
     bd1 (
      if r_24 = (0 : Int32) then (
       some (((10 : Int32) - a4)).toInt64
      ) else (
       some (a4).toInt64
      )
     ) fun j_27 =>
     nm ((x12_21 * j_27) : Int64) fun x12_28 =>
     nm ((x14_22 + (1 : Int32)) : Int32) fun x14_29 =>
     fX2_quests_L85 N a3 a4 x10_17 n_ x12_28 x14_29
    )
def fX2_quests_L64 (N : Nat) (G : GS) (a1 : Int32) (a2 : Int32) (a3 : Int32) (a4 : Int32) : Nat → Int64 → Int32 → Option Int64
  | 0, _, _ => none
  | n_ + 1, x6_16, x10_17 =>
    if ((1 : Int32) <<< (a3 &&& 31)) ≤ x10_17 then (
     some x6_16
    ) else (
     bd1 (fX2_bits N x10_17) fun r_19 =>
     bd1 (fX2_quests_L85 N a3 a4 x10_17 N (1 : Int64) (0 : Int32)) fun x12_30 =>
     gd (inb ((2 : Int32) + a1) 20) <|
     nm (G 8 (((2 : Int32) + a1)).toNatClampNeg : Int32) fun v_32 =>
     bd1 (
      if (v_32 + r_19) ≤ (9 : Int32) then (
       gd (inb ((2 : Int32) + a1) 20) <|
       nm (G 8 (((2 : Int32) + a1)).toNatClampNeg : Int32) fun v_35 =>
       some (v_35 + r_19)
      ) else (
       some (9 : Int32)
      )
     ) fun j_36 =>
     bd1 (fX2_fitsBy N G a1 a2 j_36) fun r_37 =>
     bd1 (
      if r_37 = (0 : Int32) then (
       some (0 : Int64)
      ) else (
       some x12_30
      )
     ) fun j_40 =>
     nm ((x6_16 + j_40) : Int64) fun x6_41 =>
     nm ((x10_17 + (1 : Int32)) : Int32) fun x10_42 =>
     fX2_quests_L64 N G a1 a2 a3 a4 n_ x6_41 x10_42
    )
def fX2_quests_L189 (N : Nat) (a3 : Int32) : Nat → Int64 → Int32 → Option Int64
  | 0, _, _ => none
  | n_ + 1, x8_44, x10_45 =>
    if a3 ≤ x10_45 then (
     some x8_44
    ) else (
     nm ((x8_44 * (10 : Int64)) : Int64) fun x8_47 =>
     nm ((x10_45 + (1 : Int32)) : Int32) fun x10_48 =>
     fX2_quests_L189 N a3 n_ x8_47 x10_48
    )
def fX2_quests_L217 (N : Nat) : Nat → Int64 → Int64 → Option Int64
  | 0, _, _ => none
  | n_ + 1, x10_50, x12_51 =>
    if (lg_cmp x12_51 (0 : Int64)) ≤ (0 : Int32) then (
     some x10_50
    ) else (
     gd (¬ x12_51 = (0 : Int64)) <|
     nm ((x10_50 - x10_50 / x12_51 * x12_51) : Int64) fun x14_54 =>
     fX2_quests_L217 N n_ x12_51 x14_54
    )
def fX2_quests (N : Nat) (G : GS) (a1 : Int32) (a2 : Int32) (a3 : Int32) (a4 : Int32) (a5 : Int32) : Option Int64 :=
  bd1 (fX2_isKnight N G a1) fun r_1 =>
  if r_1 = (0 : Int32) then (
   some (-2 : Int64)
  ) else (
   bd1 (fX2_isSeat N G a2) fun r_4 =>
   if r_4 = (0 : Int32) then (
    some (-2 : Int64)
   ) else (
    bd1 (fX2_in N a3 (0 : Int32) (8 : Int32)) fun r_7 =>
    if r_7 = (0 : Int32) then (
     some (-3 : Int64)
    ) else (
     bd1 (fX2_in N a4 (0 : Int32) (10 : Int32)) fun r_10 =>
     if r_10 = (0 : Int32) then (
      some (-3 : Int64)
     ) else (
      bd1 (fX2_in N a5 (0 : Int32) (1 : Int32)) fun r_13 =>
      if r_13 = (0 : Int32) then (
       some (-3 : Int64)
      ) else (
       bd1 (fX2_quests_L64 N G a1 a2 a3 a4 N (0 : Int64) (0 : Int32)) fun x6_43 =>
       bd1 (fX2_quests_L189 N a3 N (1 : Int64) (0 : Int32)) fun x8_49 =>
       bd1 (fX2_quests_L217 N N x6_43 x8_49) fun x10_55 =>
       bd1 (
        if a5 = (0 : Int32) then (
         some x6_43
        ) else (
         some x8_49
        )
       ) fun j_57 =>
       gd (¬ x10_55 = (0 : Int64)) <|
       some (j_57 / x10_55)
      )
     )
    )
   )
  )
theorem ydX2_quests : yX2_quests.cls = RX2 ∧ yX2_quests.cls ≠ "java/lang/invoke/MethodHandle" ∧ yX2_quests.cls ≠ "java/lang/invoke/VarHandle" ∧ (parseMethodDescriptor yX2_quests.desc).map (fun d => d.parameters.length) = some 5 := by decide +kernel
set_option maxHeartbeats 4000000 in
theorem tX2_quests (l : Launch) (N : Nat) (G : GS) (a1 : Int32) (a2 : Int32) (a3 : Int32) (a4 : Int32) (a5 : Int32) (r : Int64) (hf : fX2_quests N G a1 a2 a3 a4 a5 = some r) : mMet l yX2_quests cX2_quests 16 (some .long) (mR 2) [.int a1, .int a2, .int a3, .int a4, .int a5] G (some (.long r)) G := by
  unfold fX2_quests at hf
  refine mMet_of (by decide +kernel) rfl (Nat.le_of_ble_eq_true rfl) (fun {p e s m args below meth c ls D cA h ad A} X Y hl => ?_)
  have hx := X.1.1
  have hb := X.1.2.1
  have hl : lv_has ls 16 [(0, .ref h), (1, .int a1), (2, .int a2), (3, .int a3), (4, .int a4), (5, .int a5)] := hl
  refine lv_aload_n hx hb dX2_quests_0 rfl (lv_at hl 0 rfl) ?_
  refine lv_iload_n hx hb dX2_quests_1 rfl (lv_at hl 1 rfl) ?_
  obtain ⟨r_1, hq_2, hf⟩ := bd1_s hf
  refine mcI (av := [.int a1]) (rest := []) 1 X Y (tX2_isKnight l N G a1 r_1 hq_2) (lw_V q1322 q1324 qs48 q70 q1325) ydX2_isKnight ⟨rfl, rfl, by decide, by decide⟩ rfl hl.1 rfl (Nat.le_of_ble_eq_true rfl) ⟨Nat.zero_le _, Nat.zero_le _⟩ dX2_quests_2 (fun H locs Y => ?_)
  refine lv_if_eq (tgt := 16) hx hb dX2_quests_5 (by decide) (fun c_3 => ?_) (fun c_3 => ?_)
  · rw [if_pos c_3] at hf
    refine lv_ldc2 (v := (-2 : Int64)) hx hb X.1.2.2.2.1 (X.1.2.2.2.2.1 _ q1476) dX2_quests_16 ?_
    cases hf
    exact m_lret X Y dX2_quests_19
  · rw [if_neg c_3] at hf
    refine lv_aload_n hx hb dX2_quests_8 rfl (lv_at hl 0 rfl) ?_
    refine lv_iload_n hx hb dX2_quests_9 rfl (lv_at hl 2 rfl) ?_
    obtain ⟨r_4, hq_5, hf⟩ := bd1_s hf
    refine mcI (av := [.int a2]) (rest := []) 1 X Y (tX2_isSeat l N G a2 r_4 hq_5) (lw_V q1306 q1308 qs45 q70 q1309) ydX2_isSeat ⟨rfl, rfl, by decide, by decide⟩ rfl hl.1 rfl (Nat.le_of_ble_eq_true rfl) ⟨Nat.zero_le _, Nat.zero_le _⟩ dX2_quests_10 (fun H locs Y => ?_)
    refine lv_if_ne (tgt := 20) hx hb dX2_quests_13 (by decide) (fun c_6 => ?_) (fun c_6 => ?_)
    · rw [if_neg c_6] at hf
      refine lv_iload_n hx hb dX2_quests_20 rfl (lv_at hl 3 rfl) ?_
      refine lv_iconst (v := (0 : Int32)) hx hb dX2_quests_21 (by decide) ?_
      refine lv_bipush (v := (8 : Int32)) hx hb dX2_quests_22 (by decide) ?_
      obtain ⟨r_7, hq_8, hf⟩ := bd1_s hf
      refine w_callSI (av := [.int a3, .int (0 : Int32), .int (8 : Int32)]) (rest := []) 3 X Y (tX2_in l N a3 (0 : Int32) (8 : Int32) r_7 hq_8) (lw_S q1225 q1226 q70 q1227) ydX2_in ⟨rfl, rfl, by decide, by decide⟩ rfl hl.1 rfl (Nat.le_of_ble_eq_true rfl) ⟨Nat.zero_le _, Nat.zero_le _⟩ dX2_quests_24 (fun H locs Y => ?_)
      refine lv_if_eq (tgt := 51) hx hb dX2_quests_27 (by decide) (fun c_9 => ?_) (fun c_9 => ?_)
      · rw [if_pos c_9] at hf
        refine lv_ldc2 (v := (-3 : Int64)) hx hb X.1.2.2.2.1 (X.1.2.2.2.2.1 _ q1477) dX2_quests_51 ?_
        cases hf
        exact m_lret X Y dX2_quests_54
      · rw [if_neg c_9] at hf
        refine lv_iload hx hb dX2_quests_30 (lv_at hl 4 rfl) ?_
        refine lv_iconst (v := (0 : Int32)) hx hb dX2_quests_32 (by decide) ?_
        refine lv_bipush (v := (10 : Int32)) hx hb dX2_quests_33 (by decide) ?_
        obtain ⟨r_10, hq_11, hf⟩ := bd1_s hf
        refine w_callSI (av := [.int a4, .int (0 : Int32), .int (10 : Int32)]) (rest := []) 3 X Y (tX2_in l N a4 (0 : Int32) (10 : Int32) r_10 hq_11) (lw_S q1225 q1226 q70 q1227) ydX2_in ⟨rfl, rfl, by decide, by decide⟩ rfl hl.1 rfl (Nat.le_of_ble_eq_true rfl) ⟨Nat.zero_le _, Nat.zero_le _⟩ dX2_quests_35 (fun H locs Y => ?_)
        refine lv_if_eq (tgt := 51) hx hb dX2_quests_38 (by decide) (fun c_12 => ?_) (fun c_12 => ?_)
        · rw [if_pos c_12] at hf
          refine lv_ldc2 (v := (-3 : Int64)) hx hb X.1.2.2.2.1 (X.1.2.2.2.2.1 _ q1477) dX2_quests_51 ?_
          cases hf
          exact m_lret X Y dX2_quests_54
        · rw [if_neg c_12] at hf
          refine lv_iload hx hb dX2_quests_41 (lv_at hl 5 rfl) ?_
          refine lv_iconst (v := (0 : Int32)) hx hb dX2_quests_43 (by decide) ?_
          refine lv_iconst (v := (1 : Int32)) hx hb dX2_quests_44 (by decide) ?_
          obtain ⟨r_13, hq_14, hf⟩ := bd1_s hf
          refine w_callSI (av := [.int a5, .int (0 : Int32), .int (1 : Int32)]) (rest := []) 3 X Y (tX2_in l N a5 (0 : Int32) (1 : Int32) r_13 hq_14) (lw_S q1225 q1226 q70 q1227) ydX2_in ⟨rfl, rfl, by decide, by decide⟩ rfl hl.1 rfl (Nat.le_of_ble_eq_true rfl) ⟨Nat.zero_le _, Nat.zero_le _⟩ dX2_quests_45 (fun H locs Y => ?_)
          refine lv_if_ne (tgt := 55) hx hb dX2_quests_48 (by decide) (fun c_15 => ?_) (fun c_15 => ?_)
          · rw [if_neg c_15] at hf
            refine lv_lconst (v := (0 : Int64)) hx hb dX2_quests_55 (by decide) ?_
            refine lv_lstore (lv' := [(6, .long (0 : Int64)), (0, .ref h), (1, .int a1), (2, .int a2), (3, .int a3), (4, .int a4), (5, .int a5)]) hx hb dX2_quests_56 hl (by decide) rfl (fun ls hl => ?_)
            refine lv_lconst (v := (1 : Int64)) hx hb dX2_quests_58 (by decide) ?_
            refine lv_lstore (lv' := [(8, .long (1 : Int64)), (6, .long (0 : Int64)), (0, .ref h), (1, .int a1), (2, .int a2), (3, .int a3), (4, .int a4), (5, .int a5)]) hx hb dX2_quests_59 hl (by decide) rfl (fun ls hl => ?_)
            refine lv_iconst (v := (0 : Int32)) hx hb dX2_quests_61 (by decide) ?_
            refine lv_istore (lv' := [(10, .int (0 : Int32)), (8, .long (1 : Int64)), (6, .long (0 : Int64)), (0, .ref h), (1, .int a1), (2, .int a2), (3, .int a3), (4, .int a4), (5, .int a5)]) hx hb dX2_quests_62 hl (by decide) rfl (fun ls hl => ?_)
            obtain ⟨x6_43, hL, hf⟩ := bd1_s hf
            have E64_59 : ∀ (H : Heap) (locs : List Loc), WX D A s (mW h ad cA G) H locs → ∀ ls : Array Slot, lv_has ls 16 [(3, .int a3), (5, .int a5), (6, .long x6_43), (8, .long (1 : Int64))] → W p l e (mR 2) s m args below meth c H locs 0 0 (MQ below (mQ D cA h ad A (some (.long r)) G) args s 0 0 A) (F0 m 186 ls []) := by
              clear hL
              intro H locs Y ls hl
              refine lv_iconst (v := (0 : Int32)) hx hb dX2_quests_186 (by decide) ?_
              refine lv_istore (lv' := [(10, .int (0 : Int32)), (3, .int a3), (5, .int a5), (6, .long x6_43), (8, .long (1 : Int64))]) hx hb dX2_quests_187 hl (by decide) rfl (fun ls hl => ?_)
              obtain ⟨x8_49, hL, hf⟩ := bd1_s hf
              have E189_60 : ∀ (H : Heap) (locs : List Loc), WX D A s (mW h ad cA G) H locs → ∀ ls : Array Slot, lv_has ls 16 [(5, .int a5), (6, .long x6_43), (8, .long x8_49)] → W p l e (mR 2) s m args below meth c H locs 0 0 (MQ below (mQ D cA h ad A (some (.long r)) G) args s 0 0 A) (F0 m 209 ls []) := by
                clear hL
                intro H locs Y ls hl
                refine lv_lload hx hb dX2_quests_209 (lv_at hl 1 rfl) ?_
                refine lv_lstore (lv' := [(10, .long x6_43), (5, .int a5), (6, .long x6_43), (8, .long x8_49)]) hx hb dX2_quests_211 hl (by decide) rfl (fun ls hl => ?_)
                refine lv_lload hx hb dX2_quests_213 (lv_at hl 3 rfl) ?_
                refine lv_lstore (lv' := [(12, .long x8_49), (10, .long x6_43), (5, .int a5), (6, .long x6_43), (8, .long x8_49)]) hx hb dX2_quests_215 hl (by decide) rfl (fun ls hl => ?_)
                obtain ⟨x10_55, hL, hf⟩ := bd1_s hf
                have E217_61 : ∀ (H : Heap) (locs : List Loc), WX D A s (mW h ad cA G) H locs → ∀ ls : Array Slot, lv_has ls 16 [(5, .int a5), (6, .long x6_43), (8, .long x8_49), (10, .long x10_55)] → W p l e (mR 2) s m args below meth c H locs 0 0 (MQ below (mQ D cA h ad A (some (.long r)) G) args s 0 0 A) (F0 m 242 ls []) := by
                  clear hL
                  intro H locs Y ls hl
                  refine lv_iload hx hb dX2_quests_242 (lv_at hl 0 rfl) ?_
                  obtain ⟨j_57, hj, hf⟩ := bd1_s hf
                  have J254_62 : ∀ (H : Heap) (locs : List Loc), WX D A s (mW h ad cA G) H locs → ∀ ls : Array Slot, lv_has ls 16 [(10, .long x10_55)] → W p l e (mR 2) s m args below meth c H locs 0 0 (MQ below (mQ D cA h ad A (some (.long r)) G) args s 0 0 A) (F0 m 254 ls [.long j_57]) := by
                    clear hj
                    intro H locs Y ls hl
                    refine lv_lload hx hb dX2_quests_254 (lv_at hl 0 rfl) ?_
                    obtain ⟨b_58, hf⟩ := gd_s hf
                    refine lv_ldiv hx hb dX2_quests_256 b_58 ?_
                    cases hf
                    exact m_lret X Y dX2_quests_257
                  replace hf := hj
                  clear hj
                  refine lv_if_ne (tgt := 252) hx hb dX2_quests_244 (by decide) (fun c_56 => ?_) (fun c_56 => ?_)
                  · rw [if_neg c_56] at hf
                    refine lv_lload hx hb dX2_quests_252 (lv_at hl 2 rfl) ?_
                    cases hf
                    exact J254_62 _ _ Y _ (lv_sub hl [3] rfl)
                  · rw [if_pos c_56] at hf
                    refine lv_lload hx hb dX2_quests_247 (lv_at hl 1 rfl) ?_
                    refine lv_goto (tgt := 254) hx hb dX2_quests_249 (by decide) ?_
                    cases hf
                    exact J254_62 _ _ Y _ (lv_sub hl [3] rfl)
                clear hf
                have L217_61 : ∀ (n_ : Nat) (x10_50 : Int64) (x12_51 : Int64), fX2_quests_L217 N n_ x10_50 x12_51 = some x10_55 → ∀ (H : Heap) (locs : List Loc), WX D A s (mW h ad cA G) H locs → ∀ ls : Array Slot, lv_has ls 16 [(5, .int a5), (6, .long x6_43), (8, .long x8_49), (10, .long x10_50), (12, .long x12_51)] → W p l e (mR 2) s m args below meth c H locs 0 0 (MQ below (mQ D cA h ad A (some (.long r)) G) args s 0 0 A) (F0 m 217 ls []) := by
                  clear hL
                  intro n_
                  induction n_ with
                  | zero =>
                    intro x10_50 x12_51 hf
                    rw [fX2_quests_L217.eq_1] at hf
                    cases hf
                  | succ n_ ih =>
                    intro x10_50 x12_51 hf
                    intro H locs Y ls hl
                    rw [fX2_quests_L217.eq_2] at hf
                    refine lv_lload hx hb dX2_quests_217 (lv_at hl 4 rfl) ?_
                    refine lv_lconst (v := (0 : Int64)) hx hb dX2_quests_219 (by decide) ?_
                    refine W.lcmp hx hb dX2_quests_220 ?_
                    refine lv_if_le (tgt := 242) hx hb dX2_quests_221 (by decide) (fun c_52 => ?_) (fun c_52 => ?_)
                    · rw [if_pos c_52] at hf
                      cases hf
                      exact E217_61 _ _ Y _ (lv_sub hl [0, 1, 2, 3] rfl)
                    · rw [if_neg c_52] at hf
                      refine lv_lload hx hb dX2_quests_224 (lv_at hl 3 rfl) ?_
                      refine lv_lload hx hb dX2_quests_226 (lv_at hl 4 rfl) ?_
                      obtain ⟨b_53, hf⟩ := gd_s hf
                      refine lv_lrem hx hb dX2_quests_228 b_53 ?_
                      obtain ⟨x14_54, ex14_54, hf⟩ := nm_s hf
                      refine lv_topEl ex14_54 ?_
                      refine lv_lstore (lv' := [(14, .long x14_54), (5, .int a5), (6, .long x6_43), (8, .long x8_49), (10, .long x10_50), (12, .long x12_51)]) hx hb dX2_quests_229 hl (by decide) rfl (fun ls hl => ?_)
                      refine lv_lload hx hb dX2_quests_231 (lv_at hl 5 rfl) ?_
                      refine lv_lstore (lv' := [(10, .long x12_51), (14, .long x14_54), (5, .int a5), (6, .long x6_43), (8, .long x8_49), (12, .long x12_51)]) hx hb dX2_quests_233 hl (by decide) rfl (fun ls hl => ?_)
                      refine lv_lload hx hb dX2_quests_235 (lv_at hl 1 rfl) ?_
                      refine lv_lstore (lv' := [(12, .long x14_54), (10, .long x12_51), (14, .long x14_54), (5, .int a5), (6, .long x6_43), (8, .long x8_49)]) hx hb dX2_quests_237 hl (by decide) rfl (fun ls hl => ?_)
                      refine lv_goto (tgt := 217) hx hb dX2_quests_239 (by decide) ?_
                      exact ih _ _ hf _ _ Y _ (lv_sub hl [3, 4, 5, 1, 0] rfl)
                exact L217_61 N _ _ hL _ _ Y _ (lv_sub hl [2, 3, 4, 1, 0] rfl)
              clear hf
              have L189_60 : ∀ (n_ : Nat) (x8_44 : Int64) (x10_45 : Int32), fX2_quests_L189 N a3 n_ x8_44 x10_45 = some x8_49 → ∀ (H : Heap) (locs : List Loc), WX D A s (mW h ad cA G) H locs → ∀ ls : Array Slot, lv_has ls 16 [(3, .int a3), (5, .int a5), (6, .long x6_43), (8, .long x8_44), (10, .int x10_45)] → W p l e (mR 2) s m args below meth c H locs 0 0 (MQ below (mQ D cA h ad A (some (.long r)) G) args s 0 0 A) (F0 m 189 ls []) := by
                clear hL
                intro n_
                induction n_ with
                | zero =>
                  intro x8_44 x10_45 hf
                  rw [fX2_quests_L189.eq_1] at hf
                  cases hf
                | succ n_ ih =>
                  intro x8_44 x10_45 hf
                  intro H locs Y ls hl
                  rw [fX2_quests_L189.eq_2] at hf
                  refine lv_iload hx hb dX2_quests_189 (lv_at hl 4 rfl) ?_
                  refine lv_iload_n hx hb dX2_quests_191 rfl (lv_at hl 0 rfl) ?_
                  refine lv_icmp_ge (tgt := 209) hx hb dX2_quests_192 (by decide) (fun c_46 => ?_) (fun c_46 => ?_)
                  · rw [if_pos c_46] at hf
                    cases hf
                    exact E189_60 _ _ Y _ (lv_sub hl [1, 2, 3] rfl)
                  · rw [if_neg c_46] at hf
                    refine lv_lload hx hb dX2_quests_195 (lv_at hl 3 rfl) ?_
                    refine lv_ldc2 (v := (10 : Int64)) hx hb X.1.2.2.2.1 (X.1.2.2.2.2.1 _ q1478) dX2_quests_197 ?_
                    refine lv_lmul hx hb dX2_quests_200 ?_
                    obtain ⟨x8_47, ex8_47, hf⟩ := nm_s hf
                    refine lv_topEl ex8_47 ?_
                    refine lv_lstore (lv' := [(8, .long x8_47), (3, .int a3), (5, .int a5), (6, .long x6_43), (10, .int x10_45)]) hx hb dX2_quests_201 hl (by decide) rfl (fun ls hl => ?_)
                    obtain ⟨x10_48, ex10_48, hf⟩ := nm_s hf
                    refine lv_iinc (v := x10_48) (lv' := [(10, .int x10_48), (8, .long x8_47), (3, .int a3), (5, .int a5), (6, .long x6_43)]) hx hb dX2_quests_203 hl (k := 4) rfl (by rw [ex10_48]; rfl) (by decide) rfl (fun ls hl => ?_)
                    refine lv_goto (tgt := 189) hx hb dX2_quests_206 (by decide) ?_
                    exact ih _ _ hf _ _ Y _ (lv_sub hl [2, 3, 4, 1, 0] rfl)
              exact L189_60 N _ _ hL _ _ Y _ (lv_sub hl [1, 2, 3, 4, 0] rfl)
            clear hf
            have L64_59 : ∀ (n_ : Nat) (x6_16 : Int64) (x10_17 : Int32), fX2_quests_L64 N G a1 a2 a3 a4 n_ x6_16 x10_17 = some x6_43 → ∀ (H : Heap) (locs : List Loc), WX D A s (mW h ad cA G) H locs → ∀ ls : Array Slot, lv_has ls 16 [(0, .ref h), (1, .int a1), (2, .int a2), (3, .int a3), (4, .int a4), (5, .int a5), (6, .long x6_16), (8, .long (1 : Int64)), (10, .int x10_17)] → W p l e (mR 2) s m args below meth c H locs 0 0 (MQ below (mQ D cA h ad A (some (.long r)) G) args s 0 0 A) (F0 m 64 ls []) := by
              clear hL
              intro n_
              induction n_ with
              | zero =>
                intro x6_16 x10_17 hf
                rw [fX2_quests_L64.eq_1] at hf
                cases hf
              | succ n_ ih =>
                intro x6_16 x10_17 hf
                intro H locs Y ls hl
                rw [fX2_quests_L64.eq_2] at hf
                refine lv_iload hx hb dX2_quests_64 (lv_at hl 8 rfl) ?_
                refine lv_iconst (v := (1 : Int32)) hx hb dX2_quests_66 (by decide) ?_
                refine lv_iload_n hx hb dX2_quests_67 rfl (lv_at hl 3 rfl) ?_
                refine lv_ishl hx hb dX2_quests_68 ?_
                refine lv_icmp_ge (tgt := 186) hx hb dX2_quests_69 (by decide) (fun c_18 => ?_) (fun c_18 => ?_)
                · rw [if_pos c_18] at hf
                  cases hf
                  exact E64_59 _ _ Y _ (lv_sub hl [3, 5, 6, 7] rfl)
                · rw [if_neg c_18] at hf
                  refine lv_iload hx hb dX2_quests_72 (lv_at hl 8 rfl) ?_
                  obtain ⟨r_19, hq_20, hf⟩ := bd1_s hf
                  refine w_callSI (av := [.int x10_17]) (rest := []) 1 X Y (tX2_bits l N x10_17 r_19 hq_20) (lw_S q1361 q1362 q70 q1363) ydX2_bits ⟨rfl, rfl, by decide, by decide⟩ rfl hl.1 rfl (Nat.le_of_ble_eq_true rfl) ⟨Nat.zero_le _, Nat.zero_le _⟩ dX2_quests_74 (fun H locs Y => ?_)
                  refine lv_istore (lv' := [(11, .int r_19), (0, .ref h), (1, .int a1), (2, .int a2), (3, .int a3), (4, .int a4), (5, .int a5), (6, .long x6_16), (8, .long (1 : Int64)), (10, .int x10_17)]) hx hb dX2_quests_77 hl (by decide) rfl (fun ls hl => ?_)
                  refine lv_lconst (v := (1 : Int64)) hx hb dX2_quests_79 (by decide) ?_
                  refine lv_lstore (lv' := [(12, .long (1 : Int64)), (11, .int r_19), (0, .ref h), (1, .int a1), (2, .int a2), (3, .int a3), (4, .int a4), (5, .int a5), (6, .long x6_16), (8, .long (1 : Int64)), (10, .int x10_17)]) hx hb dX2_quests_80 hl (by decide) rfl (fun ls hl => ?_)
                  refine lv_iconst (v := (0 : Int32)) hx hb dX2_quests_82 (by decide) ?_
                  refine lv_istore (lv' := [(14, .int (0 : Int32)), (12, .long (1 : Int64)), (11, .int r_19), (0, .ref h), (1, .int a1), (2, .int a2), (3, .int a3), (4, .int a4), (5, .int a5), (6, .long x6_16), (8, .long (1 : Int64)), (10, .int x10_17)]) hx hb dX2_quests_83 hl (by decide) rfl (fun ls hl => ?_)
                  obtain ⟨x12_30, hL, hf⟩ := bd1_s hf
                  have E85_63 : ∀ (H : Heap) (locs : List Loc), WX D A s (mW h ad cA G) H locs → ∀ ls : Array Slot, lv_has ls 16 [(0, .ref h), (1, .int a1), (2, .int a2), (3, .int a3), (4, .int a4), (5, .int a5), (6, .long x6_16), (8, .long (1 : Int64)), (10, .int x10_17), (11, .int r_19), (12, .long x12_30)] → W p l e (mR 2) s m args below meth c H locs 0 0 (MQ below (mQ D cA h ad A (some (.long r)) G) args s 0 0 A) (F0 m 124 ls []) := by
                    clear hL
                    intro H locs Y ls hl
                    refine lv_aload_n hx hb dX2_quests_124 rfl (lv_at hl 0 rfl) ?_
                    refine mg (v := .ref (ad 8)) X Y 8 (by decide) q1113 rfl rfl dX2_quests_125 ?_
                    refine lv_iconst (v := (2 : Int32)) hx hb dX2_quests_128 (by decide) ?_
                    refine lv_iload_n hx hb dX2_quests_129 rfl (lv_at hl 1 rfl) ?_
                    refine lv_iadd hx hb dX2_quests_130 ?_
                    obtain ⟨b_31, hf⟩ := gd_s hf
                    obtain ⟨v_32, ev_32, hf⟩ := nm_s hf
                    refine ml (n := 20) X Y 8 4 rfl b_31 ev_32 dX2_quests_131 ?_
                    refine lv_iload hx hb dX2_quests_132 (lv_at hl 9 rfl) ?_
                    refine lv_iadd hx hb dX2_quests_134 ?_
                    refine lv_bipush (v := (9 : Int32)) hx hb dX2_quests_135 (by decide) ?_
                    obtain ⟨j_36, hj, hf⟩ := bd1_s hf
                    have J156_64 : ∀ (H : Heap) (locs : List Loc), WX D A s (mW h ad cA G) H locs → ∀ ls : Array Slot, lv_has ls 16 [(0, .ref h), (1, .int a1), (2, .int a2), (3, .int a3), (4, .int a4), (5, .int a5), (6, .long x6_16), (8, .long (1 : Int64)), (10, .int x10_17), (12, .long x12_30)] → W p l e (mR 2) s m args below meth c H locs 0 0 (MQ below (mQ D cA h ad A (some (.long r)) G) args s 0 0 A) (F0 m 156 ls [.int j_36]) := by
                      clear hj
                      intro H locs Y ls hl
                      refine lv_istore (lv' := [(14, .int j_36), (0, .ref h), (1, .int a1), (2, .int a2), (3, .int a3), (4, .int a4), (5, .int a5), (6, .long x6_16), (8, .long (1 : Int64)), (10, .int x10_17), (12, .long x12_30)]) hx hb dX2_quests_156 hl (by decide) rfl (fun ls hl => ?_)
                      refine lv_lload hx hb dX2_quests_158 (lv_at hl 7 rfl) ?_
                      refine lv_aload_n hx hb dX2_quests_160 rfl (lv_at hl 1 rfl) ?_
                      refine lv_iload_n hx hb dX2_quests_161 rfl (lv_at hl 2 rfl) ?_
                      refine lv_iload_n hx hb dX2_quests_162 rfl (lv_at hl 3 rfl) ?_
                      refine lv_iload hx hb dX2_quests_163 (lv_at hl 0 rfl) ?_
                      obtain ⟨r_37, hq_38, hf⟩ := bd1_s hf
                      refine mcI (av := [.int a1, .int a2, .int j_36]) (rest := [.long x6_16]) 3 X Y (tX2_fitsBy l N G a1 a2 j_36 r_37 hq_38) (lw_V q1337 q1339 qs50 q70 q1340) ydX2_fitsBy ⟨rfl, rfl, by decide, by decide⟩ rfl hl.1 rfl (Nat.le_of_ble_eq_true rfl) ⟨Nat.zero_le _, Nat.zero_le _⟩ dX2_quests_165 (fun H locs Y => ?_)
                      obtain ⟨j_40, hj, hf⟩ := bd1_s hf
                      have J177_65 : ∀ (H : Heap) (locs : List Loc), WX D A s (mW h ad cA G) H locs → ∀ ls : Array Slot, lv_has ls 16 [(0, .ref h), (1, .int a1), (2, .int a2), (3, .int a3), (4, .int a4), (5, .int a5), (8, .long (1 : Int64)), (10, .int x10_17)] → W p l e (mR 2) s m args below meth c H locs 0 0 (MQ below (mQ D cA h ad A (some (.long r)) G) args s 0 0 A) (F0 m 177 ls [.long j_40, .long x6_16]) := by
                        clear hj
                        intro H locs Y ls hl
                        refine lv_ladd hx hb dX2_quests_177 ?_
                        obtain ⟨x6_41, ex6_41, hf⟩ := nm_s hf
                        refine lv_topEl ex6_41 ?_
                        refine lv_lstore (lv' := [(6, .long x6_41), (0, .ref h), (1, .int a1), (2, .int a2), (3, .int a3), (4, .int a4), (5, .int a5), (8, .long (1 : Int64)), (10, .int x10_17)]) hx hb dX2_quests_178 hl (by decide) rfl (fun ls hl => ?_)
                        obtain ⟨x10_42, ex10_42, hf⟩ := nm_s hf
                        refine lv_iinc (v := x10_42) (lv' := [(10, .int x10_42), (6, .long x6_41), (0, .ref h), (1, .int a1), (2, .int a2), (3, .int a3), (4, .int a4), (5, .int a5), (8, .long (1 : Int64))]) hx hb dX2_quests_180 hl (k := 8) rfl (by rw [ex10_42]; rfl) (by decide) rfl (fun ls hl => ?_)
                        refine lv_goto (tgt := 64) hx hb dX2_quests_183 (by decide) ?_
                        exact ih _ _ hf _ _ Y _ (lv_sub hl [2, 3, 4, 5, 6, 7, 1, 8, 0] rfl)
                      replace hf := hj
                      clear hj
                      refine lv_if_eq (tgt := 176) hx hb dX2_quests_168 (by decide) (fun c_39 => ?_) (fun c_39 => ?_)
                      · rw [if_pos c_39] at hf
                        refine lv_lconst (v := (0 : Int64)) hx hb dX2_quests_176 (by decide) ?_
                        cases hf
                        exact J177_65 _ _ Y _ (lv_sub hl [1, 2, 3, 4, 5, 6, 8, 9] rfl)
                      · rw [if_neg c_39] at hf
                        refine lv_lload hx hb dX2_quests_171 (lv_at hl 10 rfl) ?_
                        refine lv_goto (tgt := 177) hx hb dX2_quests_173 (by decide) ?_
                        cases hf
                        exact J177_65 _ _ Y _ (lv_sub hl [1, 2, 3, 4, 5, 6, 8, 9] rfl)
                    replace hf := hj
                    clear hj
                    refine lv_icmp_le (tgt := 145) hx hb dX2_quests_137 (by decide) (fun c_33 => ?_) (fun c_33 => ?_)
                    · rw [if_pos c_33] at hf
                      refine lv_aload_n hx hb dX2_quests_145 rfl (lv_at hl 0 rfl) ?_
                      refine mg (v := .ref (ad 8)) X Y 8 (by decide) q1113 rfl rfl dX2_quests_146 ?_
                      refine lv_iconst (v := (2 : Int32)) hx hb dX2_quests_149 (by decide) ?_
                      refine lv_iload_n hx hb dX2_quests_150 rfl (lv_at hl 1 rfl) ?_
                      refine lv_iadd hx hb dX2_quests_151 ?_
                      obtain ⟨b_34, hf⟩ := gd_s hf
                      obtain ⟨v_35, ev_35, hf⟩ := nm_s hf
                      refine ml (n := 20) X Y 8 4 rfl b_34 ev_35 dX2_quests_152 ?_
                      refine lv_iload hx hb dX2_quests_153 (lv_at hl 9 rfl) ?_
                      refine lv_iadd hx hb dX2_quests_155 ?_
                      cases hf
                      exact J156_64 _ _ Y _ (lv_sub hl [0, 1, 2, 3, 4, 5, 6, 7, 8, 10] rfl)
                    · rw [if_neg c_33] at hf
                      refine lv_bipush (v := (9 : Int32)) hx hb dX2_quests_140 (by decide) ?_
                      refine lv_goto (tgt := 156) hx hb dX2_quests_142 (by decide) ?_
                      cases hf
                      exact J156_64 _ _ Y _ (lv_sub hl [0, 1, 2, 3, 4, 5, 6, 7, 8, 10] rfl)
                  clear hf
                  have L85_63 : ∀ (n_ : Nat) (x12_21 : Int64) (x14_22 : Int32), fX2_quests_L85 N a3 a4 x10_17 n_ x12_21 x14_22 = some x12_30 → ∀ (H : Heap) (locs : List Loc), WX D A s (mW h ad cA G) H locs → ∀ ls : Array Slot, lv_has ls 16 [(0, .ref h), (1, .int a1), (2, .int a2), (3, .int a3), (4, .int a4), (5, .int a5), (6, .long x6_16), (8, .long (1 : Int64)), (10, .int x10_17), (11, .int r_19), (12, .long x12_21), (14, .int x14_22)] → W p l e (mR 2) s m args below meth c H locs 0 0 (MQ below (mQ D cA h ad A (some (.long r)) G) args s 0 0 A) (F0 m 85 ls []) := by
                    clear hL
                    intro n_
                    induction n_ with
                    | zero =>
                      intro x12_21 x14_22 hf
                      rw [fX2_quests_L85.eq_1] at hf
                      cases hf
                    | succ n_ ih =>
                      intro x12_21 x14_22 hf
                      intro H locs Y ls hl
                      rw [fX2_quests_L85.eq_2] at hf
                      refine lv_iload hx hb dX2_quests_85 (lv_at hl 11 rfl) ?_
                      refine lv_iload_n hx hb dX2_quests_87 rfl (lv_at hl 3 rfl) ?_
                      refine lv_icmp_ge (tgt := 124) hx hb dX2_quests_88 (by decide) (fun c_23 => ?_) (fun c_23 => ?_)
                      · rw [if_pos c_23] at hf
                        cases hf
                        exact E85_63 _ _ Y _ (lv_sub hl [0, 1, 2, 3, 4, 5, 6, 7, 8, 9, 10] rfl)
                      · rw [if_neg c_23] at hf
                        refine lv_lload hx hb dX2_quests_91 (lv_at hl 10 rfl) ?_
                        refine lv_iload hx hb dX2_quests_93 (lv_at hl 8 rfl) ?_
                        refine lv_iload hx hb dX2_quests_95 (lv_at hl 11 rfl) ?_
                        obtain ⟨r_24, hq_25, hf⟩ := bd1_s hf
                        refine w_callSI (av := [.int x10_17, .int x14_22]) (rest := [.long x12_21]) 2 X Y (tX2_has l N x10_17 x14_22 r_24 hq_25) (lw_S q1326 q1327 q70 q1328) ydX2_has ⟨rfl, rfl, by decide, by decide⟩ rfl hl.1 rfl (Nat.le_of_ble_eq_true rfl) ⟨Nat.zero_le _, Nat.zero_le _⟩ dX2_quests_97 (fun H locs Y => ?_)
                        obtain ⟨j_27, hj, hf⟩ := bd1_s hf
                        have J115_66 : ∀ (H : Heap) (locs : List Loc), WX D A s (mW h ad cA G) H locs → ∀ ls : Array Slot, lv_has ls 16 [(0, .ref h), (1, .int a1), (2, .int a2), (3, .int a3), (4, .int a4), (5, .int a5), (6, .long x6_16), (8, .long (1 : Int64)), (10, .int x10_17), (11, .int r_19), (14, .int x14_22)] → W p l e (mR 2) s m args below meth c H locs 0 0 (MQ below (mQ D cA h ad A (some (.long r)) G) args s 0 0 A) (F0 m 115 ls [.long j_27, .long x12_21]) := by
                          clear hj
                          intro H locs Y ls hl
                          refine lv_lmul hx hb dX2_quests_115 ?_
                          obtain ⟨x12_28, ex12_28, hf⟩ := nm_s hf
                          refine lv_topEl ex12_28 ?_
                          refine lv_lstore (lv' := [(12, .long x12_28), (0, .ref h), (1, .int a1), (2, .int a2), (3, .int a3), (4, .int a4), (5, .int a5), (6, .long x6_16), (8, .long (1 : Int64)), (10, .int x10_17), (11, .int r_19), (14, .int x14_22)]) hx hb dX2_quests_116 hl (by decide) rfl (fun ls hl => ?_)
                          obtain ⟨x14_29, ex14_29, hf⟩ := nm_s hf
                          refine lv_iinc (v := x14_29) (lv' := [(14, .int x14_29), (12, .long x12_28), (0, .ref h), (1, .int a1), (2, .int a2), (3, .int a3), (4, .int a4), (5, .int a5), (6, .long x6_16), (8, .long (1 : Int64)), (10, .int x10_17), (11, .int r_19)]) hx hb dX2_quests_118 hl (k := 11) rfl (by rw [ex14_29]; rfl) (by decide) rfl (fun ls hl => ?_)
                          refine lv_goto (tgt := 85) hx hb dX2_quests_121 (by decide) ?_
                          exact ih _ _ hf _ _ Y _ (lv_sub hl [2, 3, 4, 5, 6, 7, 8, 9, 10, 11, 1, 0] rfl)
                        replace hf := hj
                        clear hj
                        refine lv_if_eq (tgt := 109) hx hb dX2_quests_100 (by decide) (fun c_26 => ?_) (fun c_26 => ?_)
                        · rw [if_pos c_26] at hf
                          refine lv_bipush (v := (10 : Int32)) hx hb dX2_quests_109 (by decide) ?_
                          refine lv_iload hx hb dX2_quests_111 (lv_at hl 4 rfl) ?_
                          refine lv_isub hx hb dX2_quests_113 ?_
                          refine lv_i2l (v := (((10 : Int32) - a4)).toInt64) hx hb dX2_quests_114 rfl ?_
                          cases hf
                          exact J115_66 _ _ Y _ (lv_sub hl [0, 1, 2, 3, 4, 5, 6, 7, 8, 9, 11] rfl)
                        · rw [if_neg c_26] at hf
                          refine lv_iload hx hb dX2_quests_103 (lv_at hl 4 rfl) ?_
                          refine lv_i2l (v := (a4).toInt64) hx hb dX2_quests_105 rfl ?_
                          refine lv_goto (tgt := 115) hx hb dX2_quests_106 (by decide) ?_
                          cases hf
                          exact J115_66 _ _ Y _ (lv_sub hl [0, 1, 2, 3, 4, 5, 6, 7, 8, 9, 11] rfl)
                  exact L85_63 N _ _ hL _ _ Y _ (lv_sub hl [3, 4, 5, 6, 7, 8, 9, 10, 11, 2, 1, 0] rfl)
            exact L64_59 N _ _ hL _ _ Y _ (lv_sub hl [3, 4, 5, 6, 7, 8, 2, 1, 0] rfl)
          · rw [if_pos c_15] at hf
            refine lv_ldc2 (v := (-3 : Int64)) hx hb X.1.2.2.2.1 (X.1.2.2.2.2.1 _ q1477) dX2_quests_51 ?_
            cases hf
            exact m_lret X Y dX2_quests_54
    · rw [if_pos c_6] at hf
      refine lv_ldc2 (v := (-2 : Int64)) hx hb X.1.2.2.2.1 (X.1.2.2.2.2.1 _ q1476) dX2_quests_16 ?_
      cases hf
      exact m_lret X Y dX2_quests_19

def fX2_lent (N : Nat) (G : GS) (a1 : Int32) : Option (Int32 × GS) :=
  bd1 (fX2_isSeat N G a1) fun r_1 =>
  if r_1 = (0 : Int32) then (
   some ((-2 : Int32), G)
  ) else (
   bd1 (fX2_findSeatings N G (0 : Int32)) fun G_4 =>
   nm ((G_4 0 34) : Int32) fun x2_6 =>
   nm (gu G_4 0 33 a1 : GS) fun G_7 =>
   bd1 (fX2_findSeatings N G_7 (0 : Int32)) fun G_8 =>
   nm (gu G_8 0 33 (-1 : Int32) : GS) fun G_10 =>
   some (((G_10 0 34) - x2_6), G_10)
  )
theorem ydX2_lent : yX2_lent.cls = RX2 ∧ yX2_lent.cls ≠ "java/lang/invoke/MethodHandle" ∧ yX2_lent.cls ≠ "java/lang/invoke/VarHandle" ∧ (parseMethodDescriptor yX2_lent.desc).map (fun d => d.parameters.length) = some 1 := by decide +kernel
set_option maxHeartbeats 4000000 in
theorem tX2_lent (l : Launch) (N : Nat) (G : GS) (a1 : Int32) (r : Int32) (G' : GS) (hf : fX2_lent N G a1 = some (r, G')) : mMet l yX2_lent cX2_lent 3 (some .int) (mR 5) [.int a1] G (some (.int r)) G' := by
  unfold fX2_lent at hf
  refine mMet_of (by decide +kernel) rfl (Nat.le_of_ble_eq_true rfl) (fun {p e s m args below meth c ls D cA h ad A} X Y hl => ?_)
  have hx := X.1.1
  have hb := X.1.2.1
  have hl : lv_has ls 3 [(0, .ref h), (1, .int a1)] := hl
  refine lv_aload_n hx hb dX2_lent_0 rfl (lv_at hl 0 rfl) ?_
  refine lv_iload_n hx hb dX2_lent_1 rfl (lv_at hl 1 rfl) ?_
  obtain ⟨r_1, hq_2, hf⟩ := bd1_s hf
  refine mcI (av := [.int a1]) (rest := []) 1 X Y (tX2_isSeat l N G a1 r_1 hq_2) (lw_V q1306 q1308 qs45 q70 q1309) ydX2_isSeat ⟨rfl, rfl, by decide, by decide⟩ rfl hl.1 rfl (Nat.le_of_ble_eq_true rfl) ⟨Nat.zero_le _, Nat.zero_le _⟩ dX2_lent_2 (fun H locs Y => ?_)
  refine lv_if_ne (tgt := 11) hx hb dX2_lent_5 (by decide) (fun c_3 => ?_) (fun c_3 => ?_)
  · rw [if_neg c_3] at hf
    refine lv_aload_n hx hb dX2_lent_11 rfl (lv_at hl 0 rfl) ?_
    refine lv_iconst (v := (0 : Int32)) hx hb dX2_lent_12 (by decide) ?_
    obtain ⟨G_4, hq_5, hf⟩ := bd1_s hf
    refine mcV (av := [.int (0 : Int32)]) (rest := []) 1 X Y (tX2_findSeatings l N G (0 : Int32) G_4 hq_5) (lw_V q1412 q1414 qs59 q70 q1415) ydX2_findSeatings ⟨rfl, rfl, by decide, by decide⟩ rfl hl.1 rfl (Nat.le_of_ble_eq_true rfl) ⟨Nat.zero_le _, Nat.zero_le _⟩ dX2_lent_13 (fun H locs Y => ?_)
    refine lv_aload_n hx hb dX2_lent_16 rfl (lv_at hl 0 rfl) ?_
    refine mg (v := .int (G_4 0 34)) X Y 34 (by decide) q1139 rfl rfl dX2_lent_17 ?_
    obtain ⟨x2_6, ex2_6, hf⟩ := nm_s hf
    refine lv_topE ex2_6 ?_
    refine lv_istore_n (lv' := [(2, .int x2_6), (0, .ref h), (1, .int a1)]) hx hb dX2_lent_20 rfl hl (by decide) rfl (fun ls hl => ?_)
    refine lv_aload_n hx hb dX2_lent_21 rfl (lv_at hl 1 rfl) ?_
    refine lv_iload_n hx hb dX2_lent_22 rfl (lv_at hl 2 rfl) ?_
    obtain ⟨G_7, eG_7, hf⟩ := nm_s hf
    refine mp X Y 33 (by decide) q1138 ⟨rfl, rfl⟩ rfl mz0_33 eG_7 dX2_lent_23 (fun H locs Y => ?_)
    refine lv_aload_n hx hb dX2_lent_26 rfl (lv_at hl 1 rfl) ?_
    refine lv_iconst (v := (0 : Int32)) hx hb dX2_lent_27 (by decide) ?_
    obtain ⟨G_8, hq_9, hf⟩ := bd1_s hf
    refine mcV (av := [.int (0 : Int32)]) (rest := []) 1 X Y (tX2_findSeatings l N G_7 (0 : Int32) G_8 hq_9) (lw_V q1412 q1414 qs59 q70 q1415) ydX2_findSeatings ⟨rfl, rfl, by decide, by decide⟩ rfl hl.1 rfl (Nat.le_of_ble_eq_true rfl) ⟨Nat.zero_le _, Nat.zero_le _⟩ dX2_lent_28 (fun H locs Y => ?_)
    refine lv_aload_n hx hb dX2_lent_31 rfl (lv_at hl 1 rfl) ?_
    refine lv_iconst (v := (-1 : Int32)) hx hb dX2_lent_32 (by decide) ?_
    obtain ⟨G_10, eG_10, hf⟩ := nm_s hf
    refine mp X Y 33 (by decide) q1138 ⟨rfl, rfl⟩ rfl mz0_33 eG_10 dX2_lent_33 (fun H locs Y => ?_)
    refine lv_aload_n hx hb dX2_lent_36 rfl (lv_at hl 1 rfl) ?_
    refine mg (v := .int (G_10 0 34)) X Y 34 (by decide) q1139 rfl rfl dX2_lent_37 ?_
    refine lv_iload_n hx hb dX2_lent_40 rfl (lv_at hl 0 rfl) ?_
    refine lv_isub hx hb dX2_lent_41 ?_
    cases hf
    exact m_iret X Y dX2_lent_42
  · rw [if_pos c_3] at hf
    refine lv_bipush (v := (-2 : Int32)) hx hb dX2_lent_8 (by decide) ?_
    cases hf
    exact m_iret X Y dX2_lent_10

def fX2_count_L99 (N : Nat) (G : GS) : Nat → Int32 → Int32 → Option Int32
  | 0, _, _ => none
  | n_ + 1, x2_10, x3_11 =>
    if (G 0 2) ≤ x3_11 then (
     some x2_10
    ) else (
     gd (inb x3_11 6) <|
     nm (G 4 (x3_11).toNatClampNeg : Int32) fun v_14 =>
     bd1 (fX2_bits N v_14) fun r_15 =>
     nm ((x2_10 + r_15) : Int32) fun x2_17 =>
     nm ((x3_11 + (1 : Int32)) : Int32) fun x3_18 =>
     fX2_count_L99 N G n_ x2_17 x3_18
    )
def fX2_count (N : Nat) (G : GS) (a1 : Int32) : Option Int32 :=
  if a1 = (0 : Int32) then (
   some (G 0 0)
  ) else (
  if a1 = (1 : Int32) then (
   some (G 0 2)
  ) else (
  if a1 = (2 : Int32) then (
   gd (inb (0 : Int32) 20) <|
   nm (G 8 ((0 : Int32)).toNatClampNeg : Int32) fun v_3 =>
   some v_3
  ) else (
  if a1 = (3 : Int32) then (
   bd1 (fX2_perilOn N G) fun r_4 =>
   some r_4
  ) else (
  if a1 = (4 : Int32) then (
   gd (inb (1 : Int32) 20) <|
   nm (G 8 ((1 : Int32)).toNatClampNeg : Int32) fun v_7 =>
   some v_7
  ) else (
  if a1 = (5 : Int32) then (
   bd1 (fX2_sitting N G) fun r_8 =>
   some r_8
  ) else (
  if a1 = (6 : Int32) then (
   some (G 0 13)
  ) else (
  if a1 = (7 : Int32) then (
   bd1 (fX2_count_L99 N G N (0 : Int32) (0 : Int32)) fun x2_19 =>
   gd (¬ (2 : Int32) = (0 : Int32)) <|
   some (x2_19 / (2 : Int32))
  ) else (
  if a1 = (8 : Int32) then (
   some (G 0 9)
  ) else (
  if a1 = (9 : Int32) then (
   some (G 0 16)
  ) else (
   some (-3 : Int32)
  ))))))))))
theorem ydX2_count : yX2_count.cls = RX2 ∧ yX2_count.cls ≠ "java/lang/invoke/MethodHandle" ∧ yX2_count.cls ≠ "java/lang/invoke/VarHandle" ∧ (parseMethodDescriptor yX2_count.desc).map (fun d => d.parameters.length) = some 1 := by decide +kernel
set_option maxHeartbeats 4000000 in
theorem tX2_count (l : Launch) (N : Nat) (G : GS) (a1 : Int32) (r : Int32) (hf : fX2_count N G a1 = some r) : mMet l yX2_count cX2_count 4 (some .int) (mR 1) [.int a1] G (some (.int r)) G := by
  unfold fX2_count at hf
  refine mMet_of (by decide +kernel) rfl (Nat.le_of_ble_eq_true rfl) (fun {p e s m args below meth c ls D cA h ad A} X Y hl => ?_)
  have hx := X.1.1
  have hb := X.1.2.1
  have hl : lv_has ls 4 [(0, .ref h), (1, .int a1)] := hl
  refine lv_iload_n hx hb dX2_count_0 rfl (lv_at hl 1 rfl) ?_
  by_cases c_1_0 : a1 = (0 : Int32)
  · rw [if_pos c_1_0] at hf
    refine lv_tableIn (off := 55) (tgt := 56) hx hb dX2_count_1 (by rw [c_1_0]; decide) (by rw [c_1_0]; decide) (by rw [c_1_0]; rfl) (by decide) ?_
    refine lv_aload_n hx hb dX2_count_56 rfl (lv_at hl 0 rfl) ?_
    refine mg (v := .int (G 0 0)) X Y 0 (by decide) q1105 rfl rfl dX2_count_57 ?_
    cases hf
    exact m_iret X Y dX2_count_60
  rw [if_neg c_1_0] at hf
  by_cases c_1_1 : a1 = (1 : Int32)
  · rw [if_pos c_1_1] at hf
    refine lv_tableIn (off := 60) (tgt := 61) hx hb dX2_count_1 (by rw [c_1_1]; decide) (by rw [c_1_1]; decide) (by rw [c_1_1]; rfl) (by decide) ?_
    refine lv_aload_n hx hb dX2_count_61 rfl (lv_at hl 0 rfl) ?_
    refine mg (v := .int (G 0 2)) X Y 2 (by decide) q1107 rfl rfl dX2_count_62 ?_
    cases hf
    exact m_iret X Y dX2_count_65
  rw [if_neg c_1_1] at hf
  by_cases c_1_2 : a1 = (2 : Int32)
  · rw [if_pos c_1_2] at hf
    refine lv_tableIn (off := 65) (tgt := 66) hx hb dX2_count_1 (by rw [c_1_2]; decide) (by rw [c_1_2]; decide) (by rw [c_1_2]; rfl) (by decide) ?_
    refine lv_aload_n hx hb dX2_count_66 rfl (lv_at hl 0 rfl) ?_
    refine mg (v := .ref (ad 8)) X Y 8 (by decide) q1113 rfl rfl dX2_count_67 ?_
    refine lv_iconst (v := (0 : Int32)) hx hb dX2_count_70 (by decide) ?_
    obtain ⟨b_2, hf⟩ := gd_s hf
    obtain ⟨v_3, ev_3, hf⟩ := nm_s hf
    refine ml (n := 20) X Y 8 4 rfl b_2 ev_3 dX2_count_71 ?_
    cases hf
    exact m_iret X Y dX2_count_72
  rw [if_neg c_1_2] at hf
  by_cases c_1_3 : a1 = (3 : Int32)
  · rw [if_pos c_1_3] at hf
    refine lv_tableIn (off := 72) (tgt := 73) hx hb dX2_count_1 (by rw [c_1_3]; decide) (by rw [c_1_3]; decide) (by rw [c_1_3]; rfl) (by decide) ?_
    refine lv_aload_n hx hb dX2_count_73 rfl (lv_at hl 0 rfl) ?_
    obtain ⟨r_4, hq_5, hf⟩ := bd1_s hf
    refine mcI (av := []) (rest := []) 0 X Y (tX2_perilOn l N G r_4 hq_5) (lw_V q1314 q1316 qs47 q70 q1317) ydX2_perilOn ⟨rfl, rfl, by decide, by decide⟩ rfl hl.1 rfl (Nat.le_of_ble_eq_true rfl) ⟨Nat.zero_le _, Nat.zero_le _⟩ dX2_count_74 (fun H locs Y => ?_)
    cases hf
    exact m_iret X Y dX2_count_77
  rw [if_neg c_1_3] at hf
  by_cases c_1_4 : a1 = (4 : Int32)
  · rw [if_pos c_1_4] at hf
    refine lv_tableIn (off := 77) (tgt := 78) hx hb dX2_count_1 (by rw [c_1_4]; decide) (by rw [c_1_4]; decide) (by rw [c_1_4]; rfl) (by decide) ?_
    refine lv_aload_n hx hb dX2_count_78 rfl (lv_at hl 0 rfl) ?_
    refine mg (v := .ref (ad 8)) X Y 8 (by decide) q1113 rfl rfl dX2_count_79 ?_
    refine lv_iconst (v := (1 : Int32)) hx hb dX2_count_82 (by decide) ?_
    obtain ⟨b_6, hf⟩ := gd_s hf
    obtain ⟨v_7, ev_7, hf⟩ := nm_s hf
    refine ml (n := 20) X Y 8 4 rfl b_6 ev_7 dX2_count_83 ?_
    cases hf
    exact m_iret X Y dX2_count_84
  rw [if_neg c_1_4] at hf
  by_cases c_1_5 : a1 = (5 : Int32)
  · rw [if_pos c_1_5] at hf
    refine lv_tableIn (off := 84) (tgt := 85) hx hb dX2_count_1 (by rw [c_1_5]; decide) (by rw [c_1_5]; decide) (by rw [c_1_5]; rfl) (by decide) ?_
    refine lv_aload_n hx hb dX2_count_85 rfl (lv_at hl 0 rfl) ?_
    obtain ⟨r_8, hq_9, hf⟩ := bd1_s hf
    refine mcI (av := []) (rest := []) 0 X Y (tX2_sitting l N G r_8 hq_9) (lw_V q1357 q1359 qs53 q70 q1360) ydX2_sitting ⟨rfl, rfl, by decide, by decide⟩ rfl hl.1 rfl (Nat.le_of_ble_eq_true rfl) ⟨Nat.zero_le _, Nat.zero_le _⟩ dX2_count_86 (fun H locs Y => ?_)
    cases hf
    exact m_iret X Y dX2_count_89
  rw [if_neg c_1_5] at hf
  by_cases c_1_6 : a1 = (6 : Int32)
  · rw [if_pos c_1_6] at hf
    refine lv_tableIn (off := 89) (tgt := 90) hx hb dX2_count_1 (by rw [c_1_6]; decide) (by rw [c_1_6]; decide) (by rw [c_1_6]; rfl) (by decide) ?_
    refine lv_aload_n hx hb dX2_count_90 rfl (lv_at hl 0 rfl) ?_
    refine mg (v := .int (G 0 13)) X Y 13 (by decide) q1118 rfl rfl dX2_count_91 ?_
    cases hf
    exact m_iret X Y dX2_count_94
  rw [if_neg c_1_6] at hf
  by_cases c_1_7 : a1 = (7 : Int32)
  · rw [if_pos c_1_7] at hf
    refine lv_tableIn (off := 94) (tgt := 95) hx hb dX2_count_1 (by rw [c_1_7]; decide) (by rw [c_1_7]; decide) (by rw [c_1_7]; rfl) (by decide) ?_
    refine lv_iconst (v := (0 : Int32)) hx hb dX2_count_95 (by decide) ?_
    refine lv_istore_n (lv' := [(2, .int (0 : Int32)), (0, .ref h), (1, .int a1)]) hx hb dX2_count_96 rfl hl (by decide) rfl (fun ls hl => ?_)
    refine lv_iconst (v := (0 : Int32)) hx hb dX2_count_97 (by decide) ?_
    refine lv_istore_n (lv' := [(3, .int (0 : Int32)), (2, .int (0 : Int32)), (0, .ref h), (1, .int a1)]) hx hb dX2_count_98 rfl hl (by decide) rfl (fun ls hl => ?_)
    obtain ⟨x2_19, hL, hf⟩ := bd1_s hf
    have E99_21 : ∀ (H : Heap) (locs : List Loc), WX D A s (mW h ad cA G) H locs → ∀ ls : Array Slot, lv_has ls 4 [(2, .int x2_19)] → W p l e (mR 1) s m args below meth c H locs 0 0 (MQ below (mQ D cA h ad A (some (.int r)) G) args s 0 0 A) (F0 m 125 ls []) := by
      clear hL
      intro H locs Y ls hl
      refine lv_iload_n hx hb dX2_count_125 rfl (lv_at hl 0 rfl) ?_
      refine lv_iconst (v := (2 : Int32)) hx hb dX2_count_126 (by decide) ?_
      obtain ⟨b_20, hf⟩ := gd_s hf
      refine lv_idiv hx hb dX2_count_127 b_20 ?_
      cases hf
      exact m_iret X Y dX2_count_128
    clear hf
    have L99_21 : ∀ (n_ : Nat) (x2_10 : Int32) (x3_11 : Int32), fX2_count_L99 N G n_ x2_10 x3_11 = some x2_19 → ∀ (H : Heap) (locs : List Loc), WX D A s (mW h ad cA G) H locs → ∀ ls : Array Slot, lv_has ls 4 [(0, .ref h), (2, .int x2_10), (3, .int x3_11)] → W p l e (mR 1) s m args below meth c H locs 0 0 (MQ below (mQ D cA h ad A (some (.int r)) G) args s 0 0 A) (F0 m 99 ls []) := by
      clear hL
      intro n_
      induction n_ with
      | zero =>
        intro x2_10 x3_11 hf
        rw [fX2_count_L99.eq_1] at hf
        cases hf
      | succ n_ ih =>
        intro x2_10 x3_11 hf
        intro H locs Y ls hl
        rw [fX2_count_L99.eq_2] at hf
        refine lv_iload_n hx hb dX2_count_99 rfl (lv_at hl 2 rfl) ?_
        refine lv_aload_n hx hb dX2_count_100 rfl (lv_at hl 0 rfl) ?_
        refine mg (v := .int (G 0 2)) X Y 2 (by decide) q1107 rfl rfl dX2_count_101 ?_
        refine lv_icmp_ge (tgt := 125) hx hb dX2_count_104 (by decide) (fun c_12 => ?_) (fun c_12 => ?_)
        · rw [if_pos c_12] at hf
          cases hf
          exact E99_21 _ _ Y _ (lv_sub hl [1] rfl)
        · rw [if_neg c_12] at hf
          refine lv_iload_n hx hb dX2_count_107 rfl (lv_at hl 1 rfl) ?_
          refine lv_aload_n hx hb dX2_count_108 rfl (lv_at hl 0 rfl) ?_
          refine mg (v := .ref (ad 4)) X Y 4 (by decide) q1109 rfl rfl dX2_count_109 ?_
          refine lv_iload_n hx hb dX2_count_112 rfl (lv_at hl 2 rfl) ?_
          obtain ⟨b_13, hf⟩ := gd_s hf
          obtain ⟨v_14, ev_14, hf⟩ := nm_s hf
          refine ml (n := 6) X Y 4 3 rfl b_13 ev_14 dX2_count_113 ?_
          obtain ⟨r_15, hq_16, hf⟩ := bd1_s hf
          refine w_callSI (av := [.int v_14]) (rest := [.int x2_10]) 1 X Y (tX2_bits l N v_14 r_15 hq_16) (lw_S q1361 q1362 q70 q1363) ydX2_bits ⟨rfl, rfl, by decide, by decide⟩ rfl hl.1 rfl (Nat.le_of_ble_eq_true rfl) ⟨Nat.zero_le _, Nat.zero_le _⟩ dX2_count_114 (fun H locs Y => ?_)
          refine lv_iadd hx hb dX2_count_117 ?_
          obtain ⟨x2_17, ex2_17, hf⟩ := nm_s hf
          refine lv_topE ex2_17 ?_
          refine lv_istore_n (lv' := [(2, .int x2_17), (0, .ref h), (3, .int x3_11)]) hx hb dX2_count_118 rfl hl (by decide) rfl (fun ls hl => ?_)
          obtain ⟨x3_18, ex3_18, hf⟩ := nm_s hf
          refine lv_iinc (v := x3_18) (lv' := [(3, .int x3_18), (2, .int x2_17), (0, .ref h)]) hx hb dX2_count_119 hl (k := 2) rfl (by rw [ex3_18]; rfl) (by decide) rfl (fun ls hl => ?_)
          refine lv_goto (tgt := 99) hx hb dX2_count_122 (by decide) ?_
          exact ih _ _ hf _ _ Y _ (lv_sub hl [2, 1, 0] rfl)
    exact L99_21 N _ _ hL _ _ Y _ (lv_sub hl [2, 1, 0] rfl)
  rw [if_neg c_1_7] at hf
  by_cases c_1_8 : a1 = (8 : Int32)
  · rw [if_pos c_1_8] at hf
    refine lv_tableIn (off := 128) (tgt := 129) hx hb dX2_count_1 (by rw [c_1_8]; decide) (by rw [c_1_8]; decide) (by rw [c_1_8]; rfl) (by decide) ?_
    refine lv_aload_n hx hb dX2_count_129 rfl (lv_at hl 0 rfl) ?_
    refine mg (v := .int (G 0 9)) X Y 9 (by decide) q1114 rfl rfl dX2_count_130 ?_
    cases hf
    exact m_iret X Y dX2_count_133
  rw [if_neg c_1_8] at hf
  by_cases c_1_9 : a1 = (9 : Int32)
  · rw [if_pos c_1_9] at hf
    refine lv_tableIn (off := 133) (tgt := 134) hx hb dX2_count_1 (by rw [c_1_9]; decide) (by rw [c_1_9]; decide) (by rw [c_1_9]; rfl) (by decide) ?_
    refine lv_aload_n hx hb dX2_count_134 rfl (lv_at hl 0 rfl) ?_
    refine mg (v := .int (G 0 16)) X Y 16 (by decide) q1121 rfl rfl dX2_count_135 ?_
    cases hf
    exact m_iret X Y dX2_count_138
  rw [if_neg c_1_9] at hf
  refine lv_tableOut (tgt := 139) hx hb dX2_count_1 (sw_z (hi := 9) (sw_s (a := 9) (b := 10) (by decide) (by decide) c_1_9 (sw_s (a := 8) (b := 9) (by decide) (by decide) c_1_8 (sw_s (a := 7) (b := 8) (by decide) (by decide) c_1_7 (sw_s (a := 6) (b := 7) (by decide) (by decide) c_1_6 (sw_s (a := 5) (b := 6) (by decide) (by decide) c_1_5 (sw_s (a := 4) (b := 5) (by decide) (by decide) c_1_4 (sw_s (a := 3) (b := 4) (by decide) (by decide) c_1_3 (sw_s (a := 2) (b := 3) (by decide) (by decide) c_1_2 (sw_s (a := 1) (b := 2) (by decide) (by decide) c_1_1 (sw_s (a := 0) (b := 1) (by decide) (by decide) c_1_0 (sw_0 _ 0))))))))))) (by decide)) (by decide) ?_
  refine lv_bipush (v := (-3 : Int32)) hx hb dX2_count_139 (by decide) ?_
  cases hf
  exact m_iret X Y dX2_count_141

