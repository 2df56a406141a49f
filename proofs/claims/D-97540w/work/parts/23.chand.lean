/-! Methods of the component whose functional forms are written by hand: states kept and put back -/
set_option maxRecDepth 100000
def fX0_note (N : Nat) (G : GS) : Option GS :=
  gd (0 ≤ (G 0 11).toInt ∧ (G 0 11).toInt ≤ 8) <|
  nm (if G 0 11 = 8 then gu (shiftG G) 0 11 7 else G) fun G1 =>
  nm (grow (gu G1 36 (G1 0 11).toNatClampNeg 1) (50 + (G1 0 11).toNatClampNeg) (snap G1)) fun G2 =>
  some (gu G2 0 11 (G1 0 11 + 1))
theorem ydX0_note : yX0_note.cls = RX0 ∧ yX0_note.cls ≠ "java/lang/invoke/MethodHandle" ∧ yX0_note.cls ≠ "java/lang/invoke/VarHandle" ∧ (parseMethodDescriptor yX0_note.desc).map (fun d => d.parameters.length) = some 0 := by decide +kernel
theorem tX0_note (l : Launch) (N : Nat) (G : GS) (G' : GS) (hf : fX0_note N G = some G') : cMet l yX0_note cX0_note 2 none (cR 3 4 25) [] G none G' false := by
  unfold fX0_note at hf
  obtain ⟨b0, hf⟩ := gd_s hf
  obtain ⟨G1, eG1, hf⟩ := nm_s hf
  obtain ⟨G2, eG2, hf⟩ := nm_s hf
  refine cMet_of (by decide +kernel) rfl (Nat.le_of_ble_eq_true rfl) (fun {p e s m args below meth c ls D cA h ad A Z0} X Y hl => ?_)
  have hx := X.1.1.1
  have hb := X.1.1.2.1
  have hZ : ∀ Z : ZT, false = true → Z = Z0 := fun _ h => by cases h
  have hl : lv_has ls 2 [(0, .ref h)] := hl
  have hn8 : inb (G1 0 11) 8 := by
    rw [eG1]
    by_cases c8 : G 0 11 = 8
    · rw [if_pos c8, gu_ap, if_pos ⟨rfl, rfl⟩]; decide
    · rw [if_neg c8]
      have h8 : (G 0 11).toInt ≠ 8 := fun e => c8 (Int32.toInt_inj.mp (by rw [e]; rfl))
      exact ⟨b0.1, by omega⟩
  obtain ⟨nn, hnn⟩ : ∃ nn, nn = (G1 0 11).toNatClampNeg := ⟨_, rfl⟩
  have hlt : nn < 8 := by rw [hnn]; exact ix_lt hn8
  rw [← hnn] at eG2
  have E77 : ∀ (G3 : GS) (Z : ZT) (H : Heap) (locs : List Loc) (q r n w : Nat) (f : Nat → Int32), CY D cA A s h ad G3 Z H locs → Z.1 10 nn = some q → FrSt cA G3 Z q r n w f → (∀ k, k < 30 → G3 k = G1 k) → grow G3 (50 + nn) (snap G1) = G2 → ∀ ls : Array Slot, lv_has ls 2 [(0, .ref h)] → W p l e (cR 3 4 25) s m args below meth c H locs 4 25 (MQ below (cQ D cA h ad A Z0 false none G') args s 4 25 A) (F0 m 77 ls []) := by
    intro G3 Z H locs q r n w f Y hz hF e30 eG3 ls hl
    have e11 : G3 0 11 = G1 0 11 := by rw [e30 0 (by decide)]
    refine lv_aload_n hx hb dX0_note_77 rfl (lv_at hl 0 rfl) ?_
    refine cg (v := .ref (ad 10)) X Y 10 (by decide) q167 rfl rfl dX0_note_78 ?_
    refine lv_aload_n hx hb dX0_note_81 rfl (lv_at hl 0 rfl) ?_
    refine lv_dup hx hb dX0_note_82 rfl ?_
    refine cg (v := .int (G1 0 11)) X Y 11 (by decide) q168 rfl (by rw [← e11]; rfl) dX0_note_83 ?_
    refine lv_dup_x1 hx hb dX0_note_86 rfl rfl ?_
    refine lv_iconst (v := 1) hx hb dX0_note_87 (by decide) ?_
    refine lv_iadd hx hb dX0_note_88 ?_
    refine cp (G1 := gu G3 0 11 (G1 0 11 + 1)) X Y 11 (by decide) q168 ⟨rfl, rfl⟩ rfl cz0_11 rfl dX0_note_89 (fun H locs Y => ?_)
    have hF := hF.low (G1 := gu G3 0 11 (G1 0 11 + 1)) (fun k hk => gu_far (by decide) hk)
    refine c_backLd (v := .ref q) X Y hn8 (by rw [← hnn, hz]; rfl) dX0_note_92 ?_
    refine lv_aload_n hx hb dX0_note_93 rfl (lv_at hl 0 rfl) ?_
    refine cg (v := .ref (ad 8)) X Y 8 (by decide) q165 rfl rfl dX0_note_94 ?_
    have hs : snap (gu G3 0 11 (G1 0 11 + 1)) = snap G1 := by
      have e : ∀ k, k < 30 → k ≠ 0 → gu G3 0 11 (G1 0 11 + 1) k = G1 k := fun k hk h0 => by
        rw [← e30 k hk]; funext b; rw [gu_ap, if_neg (fun e => h0 e.1)]
      exact snap_low (e 8 (by decide) (by decide)) (e 20 (by decide) (by decide)) (e 21 (by decide) (by decide)) (e 22 (by decide) (by decide))
    obtain ⟨own', ow, ⟨-, -, s3, s4, -⟩, -⟩ := id hF
    refine c_setSt (G1 := grow (gu G3 0 11 (G1 0 11 + 1)) (50 + nn) (snap (gu G3 0 11 (G1 0 11 + 1)))) X Y hF (fun k hk => grow_ne (by omega)) (fun k hk => grow_ne (by omega)) (fun i hi => ⟨fun e => (s4 i nn q hi hlt e hz).elim, fun _ => grow_ne (by omega)⟩) (fun i hi => ⟨fun e => by rw [s3 i nn q hi hlt e hz]; exact grow_self, fun e => grow_ne (fun e2 => e (by rw [show i = nn from by omega]; exact hz))⟩) q915 ⟨by decide, by decide⟩ hl.1 (Nat.le_of_ble_eq_true rfl) ⟨by decide, by decide⟩ dX0_note_97 (fun H locs Z1 _ Y _ => ?_)
    refine lv_pop hx hb dX0_note_100 rfl ?_
    have eG' : grow (gu G3 0 11 (G1 0 11 + 1)) (50 + nn) (snap (gu G3 0 11 (G1 0 11 + 1))) = G' := by
      cases hf
      rw [hs, grow_gu (by omega), eG3]
    rw [eG'] at Y
    exact c_vret X (hZ Z1) Y dX0_note_101
  have E49 : ∀ (Z : ZT) (H : Heap) (locs : List Loc), CY D cA A s h ad G1 Z H locs → ∀ ls : Array Slot, lv_has ls 2 [(0, .ref h)] → W p l e (cR 3 4 25) s m args below meth c H locs 0 0 (MQ below (cQ D cA h ad A Z0 false none G') args s 4 25 A) (F0 m 49 ls []) := by
    intro Z H locs Y ls hl
    refine lv_aload_n hx hb dX0_note_49 rfl (lv_at hl 0 rfl) ?_
    refine cg (v := .ref (ad 10)) X Y 10 (by decide) q167 rfl rfl dX0_note_50 ?_
    refine lv_aload_n hx hb dX0_note_53 rfl (lv_at hl 0 rfl) ?_
    refine cg (v := .int (G1 0 11)) X Y 11 (by decide) q168 rfl rfl dX0_note_54 ?_
    obtain ⟨-, -, -, own', ow, s1, s2, s3⟩ := Y.2
    rcases s2 nn hlt with ⟨h1, h2⟩ | ⟨b, h1, h2, -⟩
    · refine c_backLd (v := .null) X Y hn8 (by rw [← hnn, h1]; rfl) dX0_note_57 ?_
      refine lv_ifnonnullN hx hb dX0_note_58 ?_
      refine lv_aload_n hx hb dX0_note_61 rfl (lv_at hl 0 rfl) ?_
      refine cg (v := .ref (ad 10)) X Y 10 (by decide) q167 rfl rfl dX0_note_62 ?_
      refine lv_aload_n hx hb dX0_note_65 rfl (lv_at hl 0 rfl) ?_
      refine cg (v := .int (G1 0 11)) X Y 11 (by decide) q168 rfl rfl dX0_note_66 ?_
      refine c_newState X Y q112 (i2 := 102) (by decide) ⟨by decide, by decide⟩ hl.1 (Nat.le_of_ble_eq_true rfl) ⟨by decide, by decide⟩ dX0_note_69 dX0_note_72 dX0_note_73 (fun H locs Z1 q r n w eZ Y hF h9 h10 => ?_)
      refine c_backSt (G1 := grow (gu G1 36 nn 1) (50 + nn) (fun _ => 0)) X Y hF h9 h10 hn8 (by rw [← hnn]) dX0_note_76 (fun H locs Z2 eZ2 Y hF => ?_)
      refine E77 _ Z2 H locs q r n w _ Y ?_ hF (fun k hk => ?_) ?_ ls hl
      · rw [eZ2, ← hnn]
        exact va_up_self _ _ _
      · rw [grow_ne (by omega)]
        exact (funext fun b => by rw [gu_ap, if_neg (fun e => by omega)])
      · rw [grow_grow, eG2]
    · refine c_backLd (v := .ref b) X Y hn8 (by rw [← hnn, h1]; rfl) dX0_note_57 ?_
      refine lv_ifnonnull (tgt := 77) hx hb dX0_note_58 (by decide) ?_
      refine W.widen (k := 4) (n := 25) (by decide) (by decide) ?_
      obtain ⟨v, r, n, w, hv, hF⟩ := Y.frBack hlt h2
      refine E77 G1 Z H locs v r n w _ Y hv hF (fun _ _ => rfl) ?_ ls hl
      rw [eG2]
      congr 1
      funext a b
      rw [gu_ap]
      by_cases hab : a = 36 ∧ b = nn
      · rw [if_pos hab, hab.1, hab.2, h2]
      · rw [if_neg hab]
  refine lv_aload_n hx hb dX0_note_0 rfl (lv_at hl 0 rfl) ?_
  refine cg (v := .int (G 0 11)) X Y 11 (by decide) q168 rfl rfl dX0_note_1 ?_
  refine lv_bipush (v := 8) hx hb dX0_note_4 (by decide) ?_
  refine lv_icmp_ne (x := G 0 11) (y := 8) (tgt := 49) hx hb dX0_note_6 (by decide) (fun c_ => ?_) (fun c_ => ?_)
  · rw [if_neg c_] at eG1
    subst eG1
    exact E49 _ _ _ Y ls hl
  · rw [if_pos c_] at eG1
    refine lv_aload_n hx hb dX0_note_9 rfl (lv_at hl 0 rfl) ?_
    refine cg (v := .ref (ad 10)) X Y 10 (by decide) q167 rfl rfl dX0_note_10 ?_
    refine lv_iconst (v := 0) hx hb dX0_note_13 (by decide) ?_
    refine c_backLd (v := va_rf (Z0.1 10 0)) X Y (show inb 0 8 from by decide) rfl dX0_note_14 ?_
    refine lv_astore_r (lv' := [(1, va_rf (Z0.1 10 0)), (0, .ref h)]) hx hb dX0_note_15 rfl hl (by decide) rfl (fun ls hl => ?_)
    refine lv_aload_n hx hb dX0_note_16 rfl (lv_at hl 1 rfl) ?_
    refine cg (v := .ref (ad 10)) X Y 10 (by decide) q167 rfl rfl dX0_note_17 ?_
    refine lv_iconst (v := 1) hx hb dX0_note_20 (by decide) ?_
    refine lv_aload_n hx hb dX0_note_21 rfl (lv_at hl 1 rfl) ?_
    refine cg (v := .ref (ad 10)) X Y 10 (by decide) q167 rfl rfl dX0_note_22 ?_
    refine lv_iconst (v := 0) hx hb dX0_note_25 (by decide) ?_
    refine lv_bipush (v := 7) hx hb dX0_note_26 (by decide) ?_
    refine c_rotate X Y hl hl.1 ⟨by decide, by decide⟩ (fun H locs Z1 Y => ?_)
    refine lv_aload_n hx hb dX0_note_39 rfl (lv_at hl 1 rfl) ?_
    refine lv_dup hx hb dX0_note_40 rfl ?_
    refine cg (v := .int 8) X Y 11 (by decide) q168 rfl (by rw [← c_]; rfl) dX0_note_41 ?_
    refine lv_iconst (v := 1) hx hb dX0_note_44 (by decide) ?_
    refine lv_isub hx hb dX0_note_45 ?_
    refine cp X Y 11 (by decide) q168 ⟨rfl, rfl⟩ rfl cz0_11 (show G1 = gu (shiftG G) 0 11 (8 - 1) from eG1) dX0_note_46 (fun H locs Y => ?_)
    exact E49 _ _ _ Y ls (lv_sub hl [1] rfl)
def fX0_undo (N : Nat) (G : GS) : Option (Int32 × GS) :=
  if G 0 11 = 0 then some (-4, G) else
  nm (gu G 0 11 (G 0 11 + (-1))) fun G1 =>
  gd (inb (G1 0 11) 8 ∧ G 36 (G1 0 11).toNatClampNeg = 1) <|
  nm (load G1 (G1 (50 + (G1 0 11).toNatClampNeg))) fun G2 =>
  some (G2 0 11, G2)
theorem ydX0_undo : yX0_undo.cls = RX0 ∧ yX0_undo.cls ≠ "java/lang/invoke/MethodHandle" ∧ yX0_undo.cls ≠ "java/lang/invoke/VarHandle" ∧ (parseMethodDescriptor yX0_undo.desc).map (fun d => d.parameters.length) = some 0 := by decide +kernel
theorem tX0_undo (l : Launch) (N : Nat) (G : GS) (r : Int32) (G' : GS) (hf : fX0_undo N G = some (r, G')) : cMet l yX0_undo cX0_undo 1 (some .int) (cR 3 0 0) [] G (some (.int r)) G' true := by
  unfold fX0_undo at hf
  refine cMet_of (by decide +kernel) rfl (Nat.le_of_ble_eq_true rfl) (fun {p e s m args below meth c ls D cA h ad A Z} X Y hl => ?_)
  have hx := X.1.1.1
  have hb := X.1.1.2.1
  have hZ : true = true → Z = Z := fun _ => rfl
  have hl : lv_has ls 1 [(0, .ref h)] := hl
  refine lv_aload_n hx hb dX0_undo_0 rfl (lv_at hl 0 rfl) ?_
  refine cg (v := .int (G 0 11)) X Y 11 (by decide) q168 rfl rfl dX0_undo_1 ?_
  refine lv_if_ne (x := G 0 11) (tgt := 10) hx hb dX0_undo_4 (by decide) (fun c_ => ?_) (fun c_ => ?_)
  · rw [if_neg c_] at hf
    obtain ⟨G1, eG1, hf⟩ := nm_s hf
    obtain ⟨b1, hf⟩ := gd_s hf
    obtain ⟨G2, eG2, hf⟩ := nm_s hf
    refine lv_aload_n hx hb dX0_undo_10 rfl (lv_at hl 0 rfl) ?_
    refine cg (v := .ref (ad 8)) X Y 8 (by decide) q165 rfl rfl dX0_undo_11 ?_
    refine lv_aload_n hx hb dX0_undo_14 rfl (lv_at hl 0 rfl) ?_
    refine cg (v := .ref (ad 10)) X Y 10 (by decide) q167 rfl rfl dX0_undo_15 ?_
    refine lv_aload_n hx hb dX0_undo_18 rfl (lv_at hl 0 rfl) ?_
    refine lv_dup hx hb dX0_undo_19 rfl ?_
    refine cg (v := .int (G 0 11)) X Y 11 (by decide) q168 rfl rfl dX0_undo_20 ?_
    refine lv_iconst (v := 1) hx hb dX0_undo_23 (by decide) ?_
    refine lv_isub hx hb dX0_undo_24 ?_
    refine lv_dup_x1 hx hb dX0_undo_25 rfl rfl ?_
    have eG1' : G1 = gu G 0 11 (G 0 11 - 1) := by rw [eG1, Int32.sub_eq_add_neg]
    refine cp X Y 11 (by decide) q168 ⟨rfl, rfl⟩ rfl cz0_11 eG1' dX0_undo_26 (fun H locs Y => ?_)
    have e11 : G1 0 11 = G 0 11 - 1 := by rw [eG1', gu_ap, if_pos ⟨rfl, rfl⟩]
    rw [e11] at b1 eG2
    obtain ⟨v, r1, n1, w1, hv, hst, hrn⟩ := Y.backAt (ix_lt b1.1) (by rw [eG1', gu_far (by decide) (by decide)]; exact b1.2)
    refine c_backLd (v := .ref v) X Y b1.1 (by rw [hv]; rfl) dX0_undo_29 ?_
    refine c_setNow X Y hst hrn eG2 q915 ⟨by decide, by decide⟩ hl.1 (Nat.le_of_ble_eq_true rfl) ⟨Nat.zero_le _, Nat.zero_le _⟩ dX0_undo_30 (fun H locs Y => ?_)
    refine lv_pop hx hb dX0_undo_33 rfl ?_
    refine lv_aload_n hx hb dX0_undo_34 rfl (lv_at hl 0 rfl) ?_
    refine cg (v := .int (G2 0 11)) X Y 11 (by decide) q168 rfl rfl dX0_undo_35 ?_
    cases hf
    exact c_iret X hZ Y dX0_undo_38
  · rw [if_pos c_] at hf
    refine lv_bipush (v := -4) hx hb dX0_undo_7 (by decide) ?_
    cases hf
    exact c_iret X hZ Y dX0_undo_9
def fX0_keep (N : Nat) (G : GS) (a1 : Int32) : Option (Int32 × GS) :=
  bd1 (fX0_in N a1.toInt64 0 1) fun r1 =>
  if r1 = 0 then some (-2, G) else
  gd (inb a1 2) <|
  nm (grow (gu G 35 a1.toNatClampNeg 1) (40 + a1.toNatClampNeg) (snap G)) fun G1 =>
  some (G1 8 4, G1)
theorem ydX0_keep : yX0_keep.cls = RX0 ∧ yX0_keep.cls ≠ "java/lang/invoke/MethodHandle" ∧ yX0_keep.cls ≠ "java/lang/invoke/VarHandle" ∧ (parseMethodDescriptor yX0_keep.desc).map (fun d => d.parameters.length) = some 1 := by decide +kernel
theorem tX0_keep (l : Launch) (N : Nat) (G : GS) (a1 : Int32) (r : Int32) (G' : GS) (hf : fX0_keep N G a1 = some (r, G')) : cMet l yX0_keep cX0_keep 2 (some .int) (cR 3 4 25) [.int a1] G (some (.int r)) G' false := by
  unfold fX0_keep at hf
  refine cMet_of (by decide +kernel) rfl (Nat.le_of_ble_eq_true rfl) (fun {p e s m args below meth c ls D cA h ad A Z0} X Y hl => ?_)
  have hx := X.1.1.1
  have hb := X.1.1.2.1
  have hZ : ∀ Z : ZT, false = true → Z = Z0 := fun _ h => by cases h
  have hl : lv_has ls 2 [(0, .ref h), (1, .int a1)] := hl
  obtain ⟨r_1, hq_2, hf⟩ := bd1_s hf
  refine lv_iload_n hx hb dX0_keep_0 rfl (lv_at hl 1 rfl) ?_
  refine lv_i2l (v := (a1).toInt64) hx hb dX0_keep_1 rfl ?_
  refine lv_lconst (v := (0 : Int64)) hx hb dX0_keep_2 (by decide) ?_
  refine lv_lconst (v := (1 : Int64)) hx hb dX0_keep_3 (by decide) ?_
  refine c_callSI (av := [.long (a1).toInt64, .long (0 : Int64), .long (1 : Int64)]) (rest := []) 3 X Y (tX0_in l N (a1).toInt64 (0 : Int64) (1 : Int64) r_1 hq_2) (lw_S q235 q236 q67 q237) ydX0_in ⟨rfl, rfl, by decide, by decide⟩ rfl hl.1 rfl (Nat.le_of_ble_eq_true rfl) (by decide) dX0_keep_4 (fun H locs Y => ?_)
  refine lv_if_ne (tgt := 13) hx hb dX0_keep_7 (by decide) (fun c_ => ?_) (fun c_ => ?_)
  · rw [if_neg c_] at hf
    obtain ⟨b1, hf⟩ := gd_s hf
    obtain ⟨G1, eG1, hf⟩ := nm_s hf
    refine lv_aload_n hx hb dX0_keep_13 rfl (lv_at hl 0 rfl) ?_
    refine cg (v := .ref (ad 9)) X Y 9 (by decide) q166 rfl rfl dX0_keep_14 ?_
    refine lv_iload_n hx hb dX0_keep_17 rfl (lv_at hl 1 rfl) ?_
    refine c_newState X Y q112 (i2 := 102) (by decide) ⟨by decide, by decide⟩ hl.1 (Nat.le_of_ble_eq_true rfl) ⟨by decide, by decide⟩ dX0_keep_18 dX0_keep_21 dX0_keep_22 (fun H locs Z1 q r n w eZ Y hF h9 h10 => ?_)
    refine lv_aload_n hx hb dX0_keep_25 rfl (lv_at hl 0 rfl) ?_
    refine cg (v := .ref (ad 8)) X Y 8 (by decide) q165 rfl rfl dX0_keep_26 ?_
    refine c_setSt (G1 := G) X Y hF (fun k hk => rfl) (fun k hk => rfl) (fun i hi => ⟨fun e => (h9 i hi e).elim, fun _ => rfl⟩) (fun i hi => ⟨fun e => (h10 i hi e).elim, fun _ => rfl⟩) q915 ⟨by decide, by decide⟩ hl.1 (Nat.le_of_ble_eq_true rfl) ⟨by decide, by decide⟩ dX0_keep_29 (fun H locs Z2 eZ2 Y hF => ?_)
    rw [← eZ2] at h9 h10
    refine c_keptSt X Y hF h9 h10 b1 eG1 dX0_keep_32 (fun H locs Z3 _ Y _ => ?_)
    refine lv_aload_n hx hb dX0_keep_33 rfl (lv_at hl 0 rfl) ?_
    refine cg (v := .ref (ad 8)) X Y 8 (by decide) q165 rfl rfl dX0_keep_34 ?_
    refine cgn (v := .int (G1 8 4)) X Y 4 (by decide) q127 rfl rfl dX0_keep_37 ?_
    cases hf
    exact c_iret X (hZ Z3) Y dX0_keep_40
  · rw [if_pos c_] at hf
    refine lv_bipush (v := -2) hx hb dX0_keep_10 (by decide) ?_
    refine W.widen (k := 4) (n := 25) (by decide) (by decide) ?_
    cases hf
    exact c_iret X (hZ Z0) Y dX0_keep_12
/-- a contract of a method with handlers -/
def cMetW (l : Launch) (y : MethodName) (cc : ByteArray) (nL : Nat) (rt : Option FieldType) (hh : List (Nat × Nat × Nat × Nat)) (rm : Room) (av : List Value) (G : GS) (o : Option Value) (G' : GS) (sm : Bool) : Prop :=
  ∀ (D : va_G) (cA : Nat → ClassId) (h : Nat) (ad : Nat → Nat) (Z : ZT) (sz : Nat), Rp cA G Z → Met l y (wsW_ y cc nL rt hh) rm (cPc D cA h ad sz av G Z) (cQ D cA h ad (va_A (cW h ad cA G Z) sz) Z sm o G') rm.cells rm.slots (va_A (cW h ad cA G Z) sz)
def fX0_back (N : Nat) (G : GS) (a1 : Int32) : Option (Int32 × GS) :=
  bd1 (fX0_in N a1.toInt64 0 1) fun r1 =>
  if r1 = 0 then some (-2, G) else
  gd (inb a1 2) <|
  if G 35 a1.toNatClampNeg = 0 then some (-4, G) else
  gd (G 35 a1.toNatClampNeg = 1) <|
  nm (gu (load G (G (40 + a1.toNatClampNeg))) 0 11 0) fun G1 =>
  some (G1 8 4, G1)
abbrev hhX0_back : List (Nat × Nat × Nat × Nat) := [(13, 27, 30, 287)]
theorem ydX0_back : yX0_back.cls = RX0 ∧ yX0_back.cls ≠ "java/lang/invoke/MethodHandle" ∧ yX0_back.cls ≠ "java/lang/invoke/VarHandle" ∧ (parseMethodDescriptor yX0_back.desc).map (fun d => d.parameters.length) = some 1 := by decide +kernel
theorem tX0_back (l : Launch) (hl : l.flags = flags0) (N : Nat) (G : GS) (a1 : Int32) (r : Int32) (G' : GS) (hf : fX0_back N G a1 = some (r, G')) : cMetW l yX0_back cX0_back 3 (some .int) hhX0_back (cR 10 10 1000) [.int a1] G (some (.int r)) G' true := by
  sorry
def fX0_seen (N : Nat) (G : GS) (a1 a2 a3 a4 : Int32) : Option (Int32 × GS) :=
  bd1 (fX0_isKnight N G a1) fun r1 => if r1 = 0 then some (-2, G) else
  bd1 (fX0_isSeat N G a2) fun r2 => if r2 = 0 then some (-2, G) else
  bd1 (fX0_in N a3.toInt64 0 (G 8 4).toInt64) fun r3 => if r3 = 0 then some (-3, G) else
  bd1 (fX0_in N a4.toInt64 0 1) fun r4 => if r4 = 0 then some (-3, G) else
  if G 0 13 = 8 then some (-5, G) else
  gd (inb (G 0 13) 8) <|
  nm (grow (gu G 37 (G 0 13).toNatClampNeg 1) (60 + (G 0 13).toNatClampNeg) (fun j => if j = 0 then a1 else if j = 1 then a2 else if j = 2 then a3 else a4)) fun G1 =>
  some (G 0 13 + 1, gu G1 0 13 (G 0 13 + 1))
theorem ydX0_seen : yX0_seen.cls = RX0 ∧ yX0_seen.cls ≠ "java/lang/invoke/MethodHandle" ∧ yX0_seen.cls ≠ "java/lang/invoke/VarHandle" ∧ (parseMethodDescriptor yX0_seen.desc).map (fun d => d.parameters.length) = some 4 := by decide +kernel
theorem tX0_seen (l : Launch) (N : Nat) (G : GS) (a1 a2 a3 a4 : Int32) (r : Int32) (G' : GS) (hf : fX0_seen N G a1 a2 a3 a4 = some (r, G')) : cMet l yX0_seen cX0_seen 5 (some .int) (cR 3 1 4) [.int a1, .int a2, .int a3, .int a4] G (some (.int r)) G' false := by
  unfold fX0_seen at hf
  refine cMet_of (by decide +kernel) rfl (Nat.le_of_ble_eq_true rfl) (fun {p e s m args below meth c ls D cA h ad A Z0} X Y hl => ?_)
  have hx := X.1.1.1
  have hb := X.1.1.2.1
  have hZ : ∀ Z : ZT, false = true → Z = Z0 := fun _ h => by cases h
  have hl : lv_has ls 5 [(0, .ref h), (1, .int a1), (2, .int a2), (3, .int a3), (4, .int a4)] := hl
  have E16 : ∀ (H : Heap) (locs : List Loc), some ((-2 : Int32), G) = some (r, G') → CY D cA A s h ad G Z0 H locs → W p l e (cR 3 1 4) s m args below meth c H locs 0 0 (MQ below (cQ D cA h ad A Z0 false (some (.int r)) G') args s 1 4 A) (F0 m 16 ls []) := by
    intro H locs hf Y
    refine W.widen (k := 1) (n := 4) (by decide) (by decide) ?_
    refine lv_bipush (v := -2) hx hb dX0_seen_16 (by decide) ?_
    cases hf
    exact c_iret X (hZ Z0) Y dX0_seen_18
  have E47 : ∀ (H : Heap) (locs : List Loc), some ((-3 : Int32), G) = some (r, G') → CY D cA A s h ad G Z0 H locs → W p l e (cR 3 1 4) s m args below meth c H locs 0 0 (MQ below (cQ D cA h ad A Z0 false (some (.int r)) G') args s 1 4 A) (F0 m 47 ls []) := by
    intro H locs hf Y
    refine W.widen (k := 1) (n := 4) (by decide) (by decide) ?_
    refine lv_bipush (v := -3) hx hb dX0_seen_47 (by decide) ?_
    cases hf
    exact c_iret X (hZ Z0) Y dX0_seen_49
  obtain ⟨r1, hq1, hf⟩ := bd1_s hf
  refine lv_aload_n hx hb dX0_seen_0 rfl (lv_at hl 0 rfl) ?_
  refine lv_iload_n hx hb dX0_seen_1 rfl (lv_at hl 1 rfl) ?_
  refine ccI (av := [.int a1]) (rest := []) 1 X Y (tX0_isKnight l N G a1 r1 hq1) (lw_V q794 q796 qs15 q67 q797) ydX0_isKnight ⟨by decide, by decide⟩ rfl hl.1 rfl (Nat.le_of_ble_eq_true rfl) (by decide) dX0_seen_2 (fun H locs Y => ?_)
  refine lv_if_eq (tgt := 16) hx hb dX0_seen_5 (by decide) (fun c_ => ?_) (fun c_ => ?_)
  · rw [if_pos c_] at hf
    exact E16 _ _ hf Y
  rw [if_neg c_] at hf
  obtain ⟨r2, hq2, hf⟩ := bd1_s hf
  refine lv_aload_n hx hb dX0_seen_8 rfl (lv_at hl 0 rfl) ?_
  refine lv_iload_n hx hb dX0_seen_9 rfl (lv_at hl 2 rfl) ?_
  refine ccI (av := [.int a2]) (rest := []) 1 X Y (tX0_isSeat l N G a2 r2 hq2) (lw_V q757 q759 qs12 q67 q760) ydX0_isSeat ⟨by decide, by decide⟩ rfl hl.1 rfl (Nat.le_of_ble_eq_true rfl) (by decide) dX0_seen_10 (fun H locs Y => ?_)
  refine lv_if_ne (tgt := 19) hx hb dX0_seen_13 (by decide) (fun c_ => ?_) (fun c_ => ?_)
  rotate_left
  · rw [if_pos c_] at hf
    exact E16 _ _ hf Y
  rw [if_neg c_] at hf
  obtain ⟨r3, hq3, hf⟩ := bd1_s hf
  refine lv_iload_n hx hb dX0_seen_19 rfl (lv_at hl 3 rfl) ?_
  refine lv_i2l (v := (a3).toInt64) hx hb dX0_seen_20 rfl ?_
  refine lv_lconst (v := (0 : Int64)) hx hb dX0_seen_21 (by decide) ?_
  refine lv_aload_n hx hb dX0_seen_22 rfl (lv_at hl 0 rfl) ?_
  refine cg (v := .ref (ad 8)) X Y 8 (by decide) q165 rfl rfl dX0_seen_23 ?_
  refine cgn (v := .int (G 8 4)) X Y 4 (by decide) q127 rfl rfl dX0_seen_26 ?_
  refine lv_i2l (v := (G 8 4).toInt64) hx hb dX0_seen_29 rfl ?_
  refine c_callSI (av := [.long (a3).toInt64, .long (0 : Int64), .long (G 8 4).toInt64]) (rest := []) 3 X Y (tX0_in l N (a3).toInt64 (0 : Int64) (G 8 4).toInt64 r3 hq3) (lw_S q235 q236 q67 q237) ydX0_in ⟨rfl, rfl, by decide, by decide⟩ rfl hl.1 rfl (Nat.le_of_ble_eq_true rfl) (by decide) dX0_seen_30 (fun H locs Y => ?_)
  refine lv_if_eq (tgt := 47) hx hb dX0_seen_33 (by decide) (fun c_ => ?_) (fun c_ => ?_)
  · rw [if_pos c_] at hf
    exact E47 _ _ hf Y
  rw [if_neg c_] at hf
  obtain ⟨r4, hq4, hf⟩ := bd1_s hf
  refine lv_iload hx hb dX0_seen_36 (lv_at hl 4 rfl) ?_
  refine lv_i2l (v := (a4).toInt64) hx hb dX0_seen_38 rfl ?_
  refine lv_lconst (v := (0 : Int64)) hx hb dX0_seen_39 (by decide) ?_
  refine lv_lconst (v := (1 : Int64)) hx hb dX0_seen_40 (by decide) ?_
  refine c_callSI (av := [.long (a4).toInt64, .long (0 : Int64), .long (1 : Int64)]) (rest := []) 3 X Y (tX0_in l N (a4).toInt64 (0 : Int64) (1 : Int64) r4 hq4) (lw_S q235 q236 q67 q237) ydX0_in ⟨rfl, rfl, by decide, by decide⟩ rfl hl.1 rfl (Nat.le_of_ble_eq_true rfl) (by decide) dX0_seen_41 (fun H locs Y => ?_)
  refine lv_if_ne (tgt := 50) hx hb dX0_seen_44 (by decide) (fun c_ => ?_) (fun c_ => ?_)
  rotate_left
  · rw [if_pos c_] at hf
    exact E47 _ _ hf Y
  rw [if_neg c_] at hf
  refine lv_aload_n hx hb dX0_seen_50 rfl (lv_at hl 0 rfl) ?_
  refine cg (v := .int (G 0 13)) X Y 13 (by decide) q170 rfl rfl dX0_seen_51 ?_
  refine lv_bipush (v := 8) hx hb dX0_seen_54 (by decide) ?_
  refine lv_icmp_ne (x := G 0 13) (y := 8) (tgt := 62) hx hb dX0_seen_56 (by decide) (fun c_ => ?_) (fun c_ => ?_)
  rotate_left
  · rw [if_pos c_] at hf
    refine W.widen (k := 1) (n := 4) (by decide) (by decide) ?_
    refine lv_bipush (v := -5) hx hb dX0_seen_59 (by decide) ?_
    cases hf
    exact c_iret X (hZ Z0) Y dX0_seen_61
  rw [if_neg c_] at hf
  obtain ⟨b1, hf⟩ := gd_s hf
  obtain ⟨G1, eG1, hf⟩ := nm_s hf
  have e13 : G1 0 13 = G 0 13 := by rw [eG1, grow_ne (by omega), gu_ap, if_neg (by omega)]
  refine lv_aload_n hx hb dX0_seen_62 rfl (lv_at hl 0 rfl) ?_
  refine cg (v := .ref (ad 12)) X Y 12 (by decide) q169 rfl rfl dX0_seen_63 ?_
  refine lv_aload_n hx hb dX0_seen_66 rfl (lv_at hl 0 rfl) ?_
  refine cg (v := .int (G 0 13)) X Y 13 (by decide) q170 rfl rfl dX0_seen_67 ?_
  refine lv_iconst (v := 4) hx hb dX0_seen_70 (by decide) ?_
  have RXX : RX RX0 cX0_seen 5 (some .int) D cA p s m args meth c := ⟨X.1.1, X.1.2.1, X.2.1⟩
  refine n_newI (n := 4) (N := 4) RXX Y.1 X.1.2.2 (by decide) (by decide) (by decide) (by decide) (by decide) dX0_seen_71 (fun q H1 Y1 => ?_)
  have hqk : ∀ (x : va_E), (cW h ad cA G Z0 ++ [(q, x)])[(cW h ad cA G Z0).length]? = some (q, x) := fun x => by simp
  have hset : ∀ (x y : va_E), (cW h ad cA G Z0 ++ [(q, x)]).set (cW h ad cA G Z0).length (q, y) = cW h ad cA G Z0 ++ [(q, y)] := fun x y => by simp
  refine lv_dup hx hb dX0_seen_73 rfl ?_
  refine lv_iconst (v := 0) hx hb dX0_seen_74 (by decide) ?_
  refine lv_iload_n hx hb dX0_seen_75 rfl (lv_at hl 1 rfl) ?_
  refine va_iast hx hb X.1.2.1 Y1.1 Y1.2.1 Y1.2.2 _ 0 (hqk _) rfl (inb_in (show inb 0 4 from by decide)) dX0_seen_76 (fun H locs hP hD hS => ?_)
  rw [hset] at hP hD
  refine lv_dup hx hb dX0_seen_77 rfl ?_
  refine lv_iconst (v := 1) hx hb dX0_seen_78 (by decide) ?_
  refine lv_iload_n hx hb dX0_seen_79 rfl (lv_at hl 2 rfl) ?_
  refine va_iast hx hb X.1.2.1 hP hD hS _ 0 (hqk _) rfl (inb_in (show inb 1 4 from by decide)) dX0_seen_80 (fun H locs hP hD hS => ?_)
  rw [hset] at hP hD
  refine lv_dup hx hb dX0_seen_81 rfl ?_
  refine lv_iconst (v := 2) hx hb dX0_seen_82 (by decide) ?_
  refine lv_iload_n hx hb dX0_seen_83 rfl (lv_at hl 3 rfl) ?_
  refine va_iast hx hb X.1.2.1 hP hD hS _ 0 (hqk _) rfl (inb_in (show inb 2 4 from by decide)) dX0_seen_84 (fun H locs hP hD hS => ?_)
  rw [hset] at hP hD
  refine lv_dup hx hb dX0_seen_85 rfl ?_
  refine lv_iconst (v := 3) hx hb dX0_seen_86 (by decide) ?_
  refine lv_iload hx hb dX0_seen_87 (lv_at hl 4 rfl) ?_
  refine va_iast hx hb X.1.2.1 hP hD hS _ 0 (hqk _) rfl (inb_in (show inb 3 4 from by decide)) dX0_seen_89 (fun H locs hP hD hS => ?_)
  rw [hset] at hP hD
  obtain ⟨g, hg⟩ : ∃ g : Nat → Int32, g = upd (upd (upd (upd (fun _ => 0) (0 : Int32).toNatClampNeg a1) (1 : Int32).toNatClampNeg a2) (2 : Int32).toNatClampNeg a3) (3 : Int32).toNatClampNeg a4 := ⟨_, rfl⟩
  rw [← hg] at hP hD
  refine w_astI hx hb X.1.2.1 X.2.1.2.2.2.2.2.2.2.2.2 ⟨hP, hD, hS⟩ (show (cW h ad cA G Z0 ++ [(q, (.inl (cA 0, 4, .inl g) : va_E))])[10]? = some (ad 12, .inl (cA 5, 8, oref (Z0.1 12))) from rfl) (hqk _) (inb_in b1) dX0_seen_90 (fun H locs Y2 => ?_)
  have hqL : q ∉ Z0.2.1 := fun hm => by
    obtain ⟨k, hk⟩ := Y.pool hm
    have hkl := (List.getElem?_eq_some_iff.mp hk).1
    have h1 : (cW h ad cA G Z0 ++ [(q, (.inl (cA 0, 4, .inl g) : va_E))])[k]? = some (q, Z0.2.2 q) := by rw [List.getElem?_append_left hkl]; exact hk
    have := hD.1 k _ _ _ h1 (hqk _) rfl
    omega
  obtain ⟨Z1, hZ1⟩ : ∃ Z1 : ZT, Z1 = (fun k => bif Nat.beq k 12 then va_up (Z0.1 12) (G 0 13).toNatClampNeg (some q) else Z0.1 k, Z0.2.1 ++ [q], va_up Z0.2.2 q (.inl (cA 0, 4, .inl g))) := ⟨_, rfl⟩
  have hw : (cW h ad cA G Z0 ++ [(q, (.inl (cA 0, 4, .inl g) : va_E))]).set 10 (ad 12, .inl (cA 5, 8, oref (va_up (Z0.1 12) (G 0 13).toNatClampNeg (some q)))) = cW h ad cA G1 Z1 := by
    have h1 : cX0W h ad cA G1 Z1 = cX0W h ad cA G Z1 := cX0W_eq (fun k hk => by
      rw [eG1, grow_ne (by omega)]
      exact (funext fun b => by rw [gu_ap, if_neg (fun e => by omega)])) rfl
    unfold cW
    rw [h1, hZ1, List.append_assoc, va_pl_push hqL]
    rfl
  rw [hw] at Y2
  have Y : CY D cA A s h ad G1 Z1 H locs := ⟨Y2, Rp.sight (f := fun j => if j = 0 then a1 else if j = 1 then a2 else if j = 2 then a3 else a4) (g := g) Y.2 hqL (ix_lt b1) (fun j hj => by
    rw [hg]
    match j, hj with
    | 0, _ => rfl
    | 1, _ => rfl
    | 2, _ => rfl
    | 3, _ => rfl
    | j + 4, hj => omega) eG1 hZ1⟩
  refine lv_aload_n hx hb dX0_seen_91 rfl (lv_at hl 0 rfl) ?_
  refine lv_dup hx hb dX0_seen_92 rfl ?_
  refine cg (v := .int (G 0 13)) X Y 13 (by decide) q170 rfl (by rw [← e13]; rfl) dX0_seen_93 ?_
  refine lv_iconst (v := 1) hx hb dX0_seen_96 (by decide) ?_
  refine lv_iadd hx hb dX0_seen_97 ?_
  refine lv_dup_x1 hx hb dX0_seen_98 rfl rfl ?_
  refine cp X Y 13 (by decide) q170 ⟨rfl, rfl⟩ rfl cz0_13 (show gu G1 0 13 (G 0 13 + 1) = _ from rfl) dX0_seen_99 (fun H locs Y => ?_)
  cases hf
  exact c_iret X (hZ Z1) Y dX0_seen_102
def fX0_lent (N : Nat) (G : GS) (a1 : Int32) : Option (Int32 × GS) :=
  bd1 (fX0_isSeat N G a1) fun r1 => if r1 = 0 then some (-2, G) else
  bd2 (fX0_search N G 0) fun r2 G1 =>
  gd (inb a1 8) <|
  nm (gu (gu G1 30 a1.toNatClampNeg 0) 31 a1.toNatClampNeg 0) fun G2 =>
  bd2 (fX0_search N G2 0) fun r3 G3 =>
  some (r3 - r2, gu (gu G3 30 a1.toNatClampNeg (G1 30 a1.toNatClampNeg)) 31 a1.toNatClampNeg (G1 31 a1.toNatClampNeg))
abbrev hhX0_lent : List (Nat × Nat × Nat × Nat) := [(24, 44, 54, 0), (54, 56, 54, 0)]
theorem ydX0_lent : yX0_lent.cls = RX0 ∧ yX0_lent.cls ≠ "java/lang/invoke/MethodHandle" ∧ yX0_lent.cls ≠ "java/lang/invoke/VarHandle" ∧ (parseMethodDescriptor yX0_lent.desc).map (fun d => d.parameters.length) = some 1 := by decide +kernel
theorem tX0_lent (l : Launch) (N : Nat) (G : GS) (a1 : Int32) (r : Int32) (G' : GS) (hf : fX0_lent N G a1 = some (r, G')) : cMetW l yX0_lent cX0_lent 6 (some .int) hhX0_lent (cR 24 1 1) [.int a1] G (some (.int r)) G' false := by
  sorry
/-- a knight of kind ok taken as a kind (0 .. 3); a name of kind nk taken as one (0 .. 5) -/
def castO (ok k : Int32) : Prop := k = 0 ∨ (k = 1 ∧ (ok = 0 ∨ ok = 2)) ∨ (k = 2 ∧ ok = 1) ∨ (k = 3 ∧ ok = 2)
def castN (nk k : Int32) : Prop := k = 0 ∨ (k = 1 ∧ (nk = 0 ∨ nk = 1 ∨ nk = 2)) ∨ (k = 2 ∧ nk = 1) ∨ (k = 3 ∧ nk = 2) ∨ (k = 4 ∧ nk = 3) ∨ (k = 5 ∧ nk = 4)
def castOb (ok k : Int32) : Bool := k == 0 || (k == 1 && (ok == 0 || ok == 2)) || (k == 2 && ok == 1) || (k == 3 && ok == 2)
def castNb (nk k : Int32) : Bool := k == 0 || (k == 1 && (nk == 0 || nk == 1 || nk == 2)) || (k == 2 && nk == 1) || (k == 3 && nk == 2) || (k == 4 && nk == 3) || (k == 5 && nk == 4)
def fX0_as_L (G : GS) (k : Nat) : Nat → Int32 → Int32 → Option Int32
  | 0, _, _ => none
  | n_ + 1, set, s =>
    if G 0 1 ≤ s then some set else
    gd (inb s 8 ∧ ¬ G 30 s.toNatClampNeg = -1) <|
    fX0_as_L G k n_ (set ||| (if fitV (G 32 k) (G 34 k) (G 30 s.toNatClampNeg) (G 31 s.toNatClampNeg) (G 20 k) = 0 then (0 : Int32) else ((1 : Int32) <<< (s &&& 31)))) (s + 1)
def fX0_as (N : Nat) (G : GS) (a1 a2 : Int32) : Option Int32 :=
  bd1 (fX0_isKnight N G a1) fun r1 => if r1 = 0 then some (-2) else
  bd1 (fX0_in N a2.toInt64 0 3) fun r2 => if r2 = 0 then some (-3) else
  gd (inb a1 6 ∧ ¬ G 32 a1.toNatClampNeg = -1) <|
  if castOb (G 32 a1.toNatClampNeg) a2 = true then fX0_as_L G a1.toNatClampNeg N 0 0 else some (-4)
abbrev hhX0_as : List (Nat × Nat × Nat × Nat) := [(26, 95, 96, 240)]
theorem ydX0_as : yX0_as.cls = RX0 ∧ yX0_as.cls ≠ "java/lang/invoke/MethodHandle" ∧ yX0_as.cls ≠ "java/lang/invoke/VarHandle" ∧ (parseMethodDescriptor yX0_as.desc).map (fun d => d.parameters.length) = some 2 := by decide +kernel
theorem tX0_as (l : Launch) (hl : l.flags = flags0) (N : Nat) (G : GS) (a1 a2 : Int32) (r : Int32) (hf : fX0_as N G a1 a2 = some r) : cMetW l yX0_as cX0_as 6 (some .int) hhX0_as (cR 10 20 4000) [.int a1, .int a2] G (some (.int r)) G true := by
  sorry
def fX0_seatAs_L (G : GS) (s : Nat) : Nat → Int32 → Int32 → Option Int32
  | 0, _, _ => none
  | n_ + 1, set, k =>
    if G 0 3 ≤ k then some set else
    gd (inb k 6 ∧ ¬ G 32 k.toNatClampNeg = -1) <|
    fX0_seatAs_L G s n_ (set ||| (if (G 8 3 >>> (k &&& 31)) &&& 1 = 1 ∧ ¬ fitV (G 32 k.toNatClampNeg) (G 34 k.toNatClampNeg) (G 30 s) (G 31 s) (G 20 k.toNatClampNeg) = 0 then ((1 : Int32) <<< (k &&& 31)) else (0 : Int32))) (k + 1)
def fX0_seatAs (N : Nat) (G : GS) (a1 a2 : Int32) : Option Int32 :=
  bd1 (fX0_isSeat N G a1) fun r1 => if r1 = 0 then some (-2) else
  bd1 (fX0_in N a2.toInt64 0 5) fun r2 => if r2 = 0 then some (-3) else
  gd (inb a1 8 ∧ ¬ G 30 a1.toNatClampNeg = -1) <|
  if castNb (G 30 a1.toNatClampNeg) a2 = true then fX0_seatAs_L G a1.toNatClampNeg N 0 0 else some (-4)
abbrev hhX0_seatAs : List (Nat × Nat × Nat × Nat) := [(26, 111, 112, 240)]
theorem ydX0_seatAs : yX0_seatAs.cls = RX0 ∧ yX0_seatAs.cls ≠ "java/lang/invoke/MethodHandle" ∧ yX0_seatAs.cls ≠ "java/lang/invoke/VarHandle" ∧ (parseMethodDescriptor yX0_seatAs.desc).map (fun d => d.parameters.length) = some 2 := by decide +kernel
theorem tX0_seatAs (l : Launch) (hl : l.flags = flags0) (N : Nat) (G : GS) (a1 a2 : Int32) (r : Int32) (hf : fX0_seatAs N G a1 a2 = some r) : cMetW l yX0_seatAs cX0_seatAs 6 (some .int) hhX0_seatAs (cR 10 20 4000) [.int a1, .int a2] G (some (.int r)) G true := by
  sorry
