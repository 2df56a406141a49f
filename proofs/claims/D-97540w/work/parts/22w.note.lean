/-! THE BACKS turned by one: in note() -/
set_option maxRecDepth 100000
def sg8 (k : Nat) : Nat := if k < 7 then k + 1 else 0
theorem sg8_lt {k : Nat} (hk : k < 8) : sg8 k < 8 := by unfold sg8; split <;> omega
theorem sg8_inj {j k : Nat} (hj : j < 8) (hk : k < 8) (h : sg8 j = sg8 k) : j = k := by
  unfold sg8 at h
  split at h <;> split at h <;> omega
section NOTE
variable {p : Program} {l : Launch} {e : Env} {R : Room} {s : State} {m : MethodId} {args : Array Value} {below : List Frame} {meth : Method} {c : Code} {H : Heap} {locs : List Loc} {cells slots : Nat} {Q : State → Prop}
variable {nL : Nat} {rt : Option FieldType} {pc : Nat} {ls : Array Slot} {rest : List Value} {D : va_G} {cA : Nat → ClassId} {h : Nat} {ad : Nat → Nat} {A : Nat → Prop} {G G1 : GS} {Z Z0 Z1 : ZT}
theorem Rp.rot {cA : Nat → ClassId} {G : GS} {Z Z1 : ZT} {F : Nat → Option Nat} (hR : Rp cA G Z) (hF : ∀ k, k < 8 → F k = Z.1 10 (sg8 k)) (hZ1 : Z1 = (fun k => bif Nat.beq k 10 then F else Z.1 k, Z.2)) : Rp cA (shiftG G) Z1 := by
  subst hZ1
  obtain ⟨hN, hO, hV, own', ow, s1, s2, s3, s4, s5⟩ := hR
  have hG : ∀ k, k ≠ 36 → (k < 50 ∨ 58 ≤ k) → shiftG G k = G k := fun k h1 h2 => by
    funext b
    unfold shiftG
    rw [if_neg (by omega), if_neg (by omega), if_neg h1]
  have h36 : ∀ k, k < 8 → shiftG G 36 k = G 36 (sg8 k) := fun k hk => by
    unfold shiftG sg8
    rw [if_neg (by omega), if_neg (by omega), if_pos rfl]
    by_cases h : k < 7
    · rw [if_pos h, if_pos h]
    · rw [if_neg h, if_neg h, if_pos (by omega)]
  have h50 : ∀ k, k < 8 → shiftG G (50 + k) = G (50 + sg8 k) := fun k hk => by
    funext b
    unfold shiftG sg8
    by_cases h : k < 7
    · rw [if_pos (by omega), if_pos h]; rfl
    · rw [if_neg (by omega), if_pos (by omega), if_neg h]
  refine ⟨hN.mv (fun i _ => by rw [hG 30 (by decide) (by omega)]) (fun i _ => by rw [hG 31 (by decide) (by omega)]) (fun _ _ => rfl) (fun _ h => h) (fun _ _ _ _ _ _ => rfl), hO.mv (fun i _ => by rw [hG 32 (by decide) (by omega)]) (fun i _ => by rw [hG 33 (by decide) (by omega)]) (fun i _ => by rw [hG 34 (by decide) (by omega)]) (fun _ _ => rfl) (fun _ h => h) (fun _ _ _ _ _ _ => rfl), hV.mv (fun i _ => by rw [hG 37 (by decide) (by omega)]) (fun i _ j _ => by rw [hG (60 + i) (by omega) (by omega)]) (fun _ _ => rfl) (fun _ h => h) (fun _ _ _ _ => rfl), own', ow, ?_, ?_, ?_, ?_, ?_⟩
  · intro k hk
    rw [hG 35 (by decide) (by omega), hG (40 + k) (by omega) (by omega)]
    exact s1 k hk
  · intro k hk
    rw [h36 k hk, h50 k hk]
    have e : (fun k => bif Nat.beq k 10 then F else Z.1 k) 10 k = Z.1 10 (sg8 k) := hF k hk
    rcases s2 (sg8 k) (sg8_lt hk) with q | ⟨b, q1, q2⟩
    · exact Or.inl ⟨e.trans q.1, q.2⟩
    · exact Or.inr ⟨b, e.trans q1, q2⟩
  · intro i j a hi hj h1 h2
    exact sg8_inj hi hj (s3 _ _ a (sg8_lt hi) (sg8_lt hj) ((hF i hi).symm.trans h1) ((hF j hj).symm.trans h2))
  · intro i j a hi hj h1 h2
    exact s4 i _ a hi (sg8_lt hj) h1 ((hF j hj).symm.trans h2)
  · rw [hG 38 (by decide) (by omega)]
    exact s5
theorem cpy8 {f : Nat → Option Nat} {x : Option Nat} (hx : x = f 0) : ∀ k, k < 8 → va_up (va_cpy f f 1 0 7) 7 x k = f (sg8 k) := fun k hk => by
  unfold sg8
  by_cases h : k < 7
  · rw [va_up_ne _ _ (by omega), if_pos h]
    unfold va_cpy
    rw [if_pos ⟨Nat.zero_le _, by omega⟩, show 1 + (k - 0) = k + 1 from by omega]
  · rw [if_neg h, show k = 7 from by omega, va_up_self, hx]
set_option maxHeartbeats 1000000 in
theorem c_rotate (X : CC RX0 cX0_note nL rt D cA A p s m args meth c) (Y : CY D cA A s h ad G Z H locs) (hl : lv_has ls 2 [(1, va_rf (Z.1 10 0)), (0, .ref h)]) (hls : ls.size = nL) (hR : 1 ≤ R.frames ∧ 40 ≤ R.locals)
    (kk : ∀ (H1 : Heap) (locs1 : List Loc) (Z1 : ZT), CY D cA A s h ad (shiftG G) Z1 H1 locs1 → W p l e R s m args below meth c H1 locs1 cells slots Q (F0 m 39 ls [])) : W p l e R s m args below meth c H locs cells slots Q (F0 m 28 ls [.int 7, .int 0, .ref (ad 10), .int 1, .ref (ad 10)]) := by
  obtain ⟨hx, hb, hml, hown, hts, hrt, hlk⟩ := X.1.1
  refine va_copyq (C := "PerilSeat$State") (E0 := "PerilSeat$State") (E1 := "PerilSeat$State") hx hb (hml.trans hls.symm) hown (hts _ q914) (hts _ q375) (hts _ q374) (hts _ q78) X.1.2.1 Y.1.1 Y.1.2.1 Y.1.2.2 9 9 4 4 (show (cW h ad cA G Z)[9]? = some (ad 10, .inl (cA 4, 8, oref (Z.1 10))) from rfl) (show (cW h ad cA G Z)[9]? = some (ad 10, .inl (cA 4, 8, oref (Z.1 10))) from rfl) rfl rfl (by decide) (by decide) (by decide) (Nat.le_of_ble_eq_true rfl) (Nat.le_of_ble_eq_true rfl) (fun i hi y hy => ?_) (fun comp c0 h1 h2 => ?_) hR.1 ?_ dX0_note_28 (fun H1 locs1 hP hD hS => ?_)
  · obtain ⟨-, -, -, own', ow, s1, s2, -⟩ := Y.2
    have hi : i < 7 := hi
    have hy : Z.1 10 (1 + i) = some y := hy
    rcases s2 (1 + i) (by omega) with q | ⟨b, q1, q2, q3, -⟩
    · rw [q.1] at hy; cases hy
    · rw [q1] at hy; cases hy
      obtain ⟨k, hk⟩ := Y.pool q3.1
      rw [q3.2.2.2.2.1] at hk
      exact va_recv X.1.2.1 Y.1.1 (ci := 2) (q := (RX1, TX1, 5)) rfl hk
  · cases h1.symm.trans h2
    unfold Vm.assignable Vm.assignableAux
    simp only [beq_self_eq_true, Bool.true_or, if_true]
  · have e : nativeFrameWords "java/lang/System" "arraycopy" 5 = 7 := by decide
    rw [e]
    exact Nat.le_trans (by decide) hR.2
  obtain ⟨Za, hZa⟩ : ∃ Za : ZT, Za = (fun k => bif Nat.beq k 10 then va_cpy (Z.1 10) (Z.1 10) 1 0 7 else Z.1 k, Z.2) := ⟨_, rfl⟩
  have hset : (cW h ad cA G Z).set 9 (ad 10, .inl (cA 4, 8, .inr (.inr (.inr (.inr (va_cpy (Z.1 10) (Z.1 10) 1 0 7)))))) = cW h ad cA G Za := by rw [hZa]; rfl
  have hP : va_P D cls (cW h ad cA G Za) H1 := by rw [← hset]; exact hP
  have hD : va_D A (cW h ad cA G Za) := by rw [← hset]; exact hD
  refine lv_aload_n hx hb dX0_note_31 rfl (lv_at hl 1 rfl) ?_
  refine va_get (D := D) (ci := 1) (v := .ref (ad 10)) (C := RX0) (T := TX0) (N := 23) (ref := RX0) hx hb hts in_X0 hown X.1.2.1 hP 0 rfl rfl 10 (by decide) (hts _ q167) (fun _ h9 => h9) rfl dX0_note_32 ?_
  refine lv_bipush (v := 7) hx hb dX0_note_35 (by decide) ?_
  have eZ : ∀ x : Option Nat, (cW h ad cA G Za).set 9 (ad 10, .inl (cA 4, 8, oref (va_up (va_cpy (Z.1 10) (Z.1 10) 1 0 7) 7 x))) = cW h ad cA (shiftG G) (fun k => bif Nat.beq k 10 then va_up (va_cpy (Z.1 10) (Z.1 10) 1 0 7) 7 x else Z.1 k, Z.2) := fun x => by
    have h1 : cX0W h ad cA (shiftG G) (fun k => bif Nat.beq k 10 then va_up (va_cpy (Z.1 10) (Z.1 10) 1 0 7) 7 x else Z.1 k, Z.2) = cX0W h ad cA G (fun k => bif Nat.beq k 10 then va_up (va_cpy (Z.1 10) (Z.1 10) 1 0 7) 7 x else Z.1 k, Z.2) := cX0W_eq (fun k hk => by
      funext b
      unfold shiftG
      rw [if_neg (by omega), if_neg (by omega), if_neg (by omega)]) rfl
    unfold cW
    rw [h1, hZa]
    rfl
  cases h0 : Z.1 10 0 with
  | none =>
    rw [h0] at hl
    refine lv_aload_nN hx hb dX0_note_37 rfl (lv_at hl 0 rfl) ?_
    refine va_astqN hx hb X.1.2.1 hP hD hS 9 4 (show (cW h ad cA G Za)[9]? = some (ad 10, .inl (cA 4, 8, oref (va_cpy (Z.1 10) (Z.1 10) 1 0 7))) from by rw [hZa]; rfl) rfl (inb_in (show inb 7 8 from by decide)) dX0_note_38 (fun H2 locs2 hP2 hD2 hS2 => ?_)
    refine kk H2 locs2 (fun k => bif Nat.beq k 10 then va_up (va_cpy (Z.1 10) (Z.1 10) 1 0 7) 7 none else Z.1 k, Z.2) ⟨⟨?_, ?_, hS2⟩, Y.2.rot (cpy8 h0.symm) rfl⟩
    · rw [← eZ]; exact hP2
    · rw [← eZ]; exact hD2
  | some a =>
    rw [h0] at hl
    refine lv_aload_n hx hb dX0_note_37 rfl (lv_at hl 0 rfl) ?_
    obtain ⟨-, -, -, own', ow, s1, s2, -⟩ := Y.2
    rcases s2 0 (by decide) with q | ⟨b, q1, q2, q3, -⟩
    · rw [q.1] at h0; cases h0
    · have eb : b = a := Option.some.inj (q1.symm.trans h0)
      subst eb
      have hpa : b ∈ Za.2.1 := by rw [hZa]; exact q3.1
      obtain ⟨k, hk⟩ := va_pl_get (X := cX0W h ad cA G Za) (f := Za.2.2) hpa
      have hk2 : (cW h ad cA G Za)[k]? = some (b, .inr (2, [.ref (own' b).1, .ref (own' b).2.1, .ref (own' b).2.2, .int (G (50 + 0) 20), .int (G (50 + 0) 21)])) := by
        rw [← q3.2.2.2.2.1, show Z.2.2 b = Za.2.2 b from by rw [hZa]]; exact hk
      refine va_astq (r := (RX1, TX1, 5)) hx hb X.1.2.1 hP hD hS 9 4 k 2 (show (cW h ad cA G Za)[9]? = some (ad 10, .inl (cA 4, 8, oref (va_cpy (Z.1 10) (Z.1 10) 1 0 7))) from by rw [hZa]; rfl) rfl hk2 rfl (inb_in (show inb 7 8 from by decide)) dX0_note_38 (fun H2 locs2 hP2 hD2 hS2 => ?_)
      refine kk H2 locs2 (fun k => bif Nat.beq k 10 then va_up (va_cpy (Z.1 10) (Z.1 10) 1 0 7) 7 (some b) else Z.1 k, Z.2) ⟨⟨?_, ?_, hS2⟩, Y.2.rot (cpy8 q1.symm) rfl⟩
      · rw [← eZ]; exact hP2
      · rw [← eZ]; exact hD2
theorem FrSt.low {cA : Nat → ClassId} {G G1 : GS} {Z : ZT} {q r n w : Nat} {f : Nat → Int32} (e : ∀ k, 30 ≤ k → G1 k = G k) (h : FrSt cA G Z q r n w f) : FrSt cA G1 Z q r n w f := by
  obtain ⟨own', ow, so, h2⟩ := h
  refine ⟨own', ow, ?_, h2⟩
  have e40 : ∀ n, G1 (40 + n) = G (40 + n) := fun n => e _ (by omega)
  have e50 : ∀ n, G1 (50 + n) = G (50 + n) := fun n => e _ (by omega)
  unfold RpSo at so ⊢
  simp only [e 35 (by decide), e 36 (by decide), e 38 (by decide), e40, e50]
  exact so
theorem grow_gu {G : GS} {j i k : Nat} {v : Int32} {f : Nat → Int32} (h : j ≠ k) : grow (gu G j i v) k f = gu (grow G k f) j i v := by
  funext a b
  by_cases ha : a = k
  · subst ha
    rw [grow_self, gu_ap, if_neg (fun e => h e.1.symm), grow_self]
  · rw [grow_ne ha, gu_ap, gu_ap, grow_ne ha]
theorem grow_grow {G : GS} {k : Nat} {f g : Nat → Int32} : grow (grow G k f) k g = grow G k g := by
  funext a b
  by_cases ha : a = k
  · subst ha
    rw [grow_self, grow_self]
  · rw [grow_ne ha, grow_ne ha, grow_ne ha]
theorem snap_low {G G1 : GS} (e8 : G1 8 = G 8) (e20 : G1 20 = G 20) (e21 : G1 21 = G 21) (e22 : G1 22 = G 22) : snap G1 = snap G := by
  unfold snap
  rw [e8, e20, e21, e22]
theorem lv_astore_r (hexec : p.tables.exec = Jvm.exec) {cc : ByteArray} (hb : c.code = cc) {k : Fin 4} {i nL : Nat} {x : Option Nat} {lv lv' : List (Nat × Value)} (hdg : decode cc pc = .ok (.astore_n k, 1)) (hi : (k : Nat) = i) (h : lv_has ls nL lv) (hn : i < nL) (hl : (i, va_rf x) :: lv.filter (fun q => !(q.1 == i) && !(q.1 + 1 == i && q.2.category == 2)) = lv')
    (kk : ∀ ls : Array Slot, lv_has ls nL lv' → W p l e R s m args below meth c H locs cells slots Q (F0 m (pc + 1) ls rest)) : W p l e R s m args below meth c H locs cells slots Q (F0 m pc ls (va_rf x :: rest)) := by
  cases x with
  | none => exact lv_astore_nN hexec hb hdg hi h hn hl kk
  | some a => exact lv_astore_n hexec hb hdg hi h hn hl kk
theorem lv_aload_r (hexec : p.tables.exec = Jvm.exec) {cc : ByteArray} (hb : c.code = cc) {k : Fin 4} {i : Nat} {x : Option Nat} (hdg : decode cc pc = .ok (.aload_n k, 1)) (hi : (k : Nat) = i) (hl : ls[i]? = some (.val (va_rf x)))
    (kk : W p l e R s m args below meth c H locs cells slots Q (F0 m (pc + 1) ls (va_rf x :: rest))) : W p l e R s m args below meth c H locs cells slots Q (F0 m pc ls rest) := by
  cases x with
  | none => exact lv_aload_nN hexec hb hdg hi hl kk
  | some a => exact lv_aload_n hexec hb hdg hi hl kk
end NOTE
