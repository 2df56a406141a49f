/-! MADE OBJECTS of the component: names and knights as the picture tells them (rows 30 .. 34); rows for the calls through them -/
set_option maxRecDepth 100000
/-- the address in place i of the array of references j -/
def zr (Z : ZT) (j i : Nat) : Nat := (Z.1 j i).getD 0
/-- a whole row of the picture set to x -/
def gfill (G : GS) (j : Nat) (x : Int32) : GS := fun a b => bif Nat.beq a j then x else G a b
/-- a whole row of the picture set to f -/
def grow (G : GS) (j : Nat) (f : Nat → Int32) : GS := fun a b => bif Nat.beq a j then f b else G a b
theorem ix_lt {i : Int32} {n : Nat} (h : inb i n) : i.toNatClampNeg < n := by
  have := inb_in h
  exact Nat.not_le.mp fun q => this (Or.inr q)
/-- does a name of kind nk, number nn fit a knight of kind ok, house oh, of so much renown -/
def fitV (ok oh nk nn now : Int32) : Int32 :=
  if nk = 0 then 1
  else if nk = 4 then 0
  else if ok = 2 then 1
  else if nk = 1 then (if nn ≤ now then 1 else 0)
  else if nk = 2 then (if now ≤ nn then 1 else 0)
  else if oh = nn then 1 else 0
def sparedV (ok : Int32) : Int32 := if ok = 1 then 1 else 0
theorem fitV_zb (ok oh nk nn now : Int32) : zb (fitV ok oh nk nn now) := by
  unfold fitV
  repeat' split
  all_goals first | exact Or.inl rfl | exact Or.inr rfl
theorem fitV_B {ok oh nk nn now : Int32} (h2 : ok ≠ 2) (hkn : kN nk) : fitV ok oh nk nn now = fitB oh nk nn now := by
  unfold fitV fitB
  rw [if_neg h2]
  rcases hkn with e | e | e | e | e <;> subst e <;> simp
theorem fitV_K {oh nk nn now : Int32} (hkn : kN nk) : fitV 2 oh nk nn now = if nk = 4 then 0 else 1 := by
  unfold fitV
  rcases hkn with e | e | e | e | e <;> subst e <;> simp
section COBJ
variable {p : Program} {l : Launch} {e : Env} {R : Room} {s : State} {m : MethodId} {args : Array Value} {below : List Frame} {meth : Method} {c : Code} {H : Heap} {locs : List Loc} {cells slots : Nat} {Q : State → Prop}
variable {own : String} {cc : ByteArray} {nL : Nat} {rt : Option FieldType} {pc : Nat} {ls : Array Slot} {rest : List Value} {D : va_G} {cA : Nat → ClassId} {h : Nat} {ad : Nat → Nat} {A : Nat → Prop} {G G1 : GS} {Z Z0 : ZT}
theorem CY.oneAt {i : Nat} (Y : CY D cA A s h ad G Z H locs) (hi : i < 6) (hn : ¬ G 32 i = -1) : Z.1 2 i = some (zr Z 2 i) ∧ kO (G 32 i) ∧ ∃ q : Nat, (cW h ad cA G Z)[q]? = some (zr Z 2 i, .inr (oneCi (G 32 i), [.int (G 33 i), .int (G 34 i)])) := by
  rcases Y.2.2.1 i hi with ⟨-, h2⟩ | ⟨a, h1, h2, h3, h4⟩
  · exact absurd h2 hn
  · have e : zr Z 2 i = a := by unfold zr; rw [h1]; rfl
    obtain ⟨q, hq⟩ := va_pl_get (X := cX0W h ad cA G Z) (f := Z.2.2) h2
    rw [h4] at hq
    exact ⟨by rw [e]; exact h1, h3, q, by rw [e]; exact hq⟩
theorem CY.nameAt {i : Nat} (Y : CY D cA A s h ad G Z H locs) (hi : i < 8) (hn : ¬ G 30 i = -1) : Z.1 0 i = some (zr Z 0 i) ∧ kN (G 30 i) ∧ ∃ q : Nat, (cW h ad cA G Z)[q]? = some (zr Z 0 i, .inr (nameCi (G 30 i), [.int (G 31 i)])) := by
  rcases Y.2.1 i hi with ⟨-, h2⟩ | ⟨a, h1, h2, h3, h4⟩
  · exact absurd h2 hn
  · have e : zr Z 0 i = a := by unfold zr; rw [h1]; rfl
    obtain ⟨q, hq⟩ := va_pl_get (X := cX0W h ad cA G Z) (f := Z.2.2) h2
    rw [h4] at hq
    exact ⟨by rw [e]; exact h1, h3, q, by rw [e]; exact hq⟩
theorem CY.kept (Y : CY D cA A s h ad G Z H locs) {H1 : Heap} {locs1 : List Loc} (hk : ∀ q : Nat, q < H.size → H1[q]? = H[q]?) (hS : va_S A s.heap H1 locs1) : CY D cA A s h ad G Z H1 locs1 := ⟨⟨Y.1.1.kept (fun k q hq => hk q.1 (Y.1.1 k q hq).lt), Y.1.2.1, hS⟩, Y.2⟩
/-- one(k), of the cells that it reads -/
theorem rOne (l : Launch) {k : Int32} {a ci : Nat} {fs : List Value} {f : Nat → Option Nat} (hk : inb k 6) (hf : f k.toNatClampNeg = some a) (hci : ci = 8 ∨ ci = 9 ∨ ci = 10) : rMet l yX0_one cX0_one 2 (some (.object "PerilSeat$One")) (cR 0 0 0) [.ref h, .int k] D cA [(h, .inr (1, cF ad G)), (ad 2, .inl (cA 3, 6, oref f)), (a, .inr (ci, fs))] (some (.ref a)) := by
  refine rMet_of (by decide +kernel) (Nat.le_of_ble_eq_true rfl) (fun {p e s m args below meth c ls} X Y hl => ?_)
  have hx := X.1.1
  have hb := X.1.2.1
  have hl : lv_has ls 2 [(0, .ref h), (1, .int k)] := hl
  refine lv_aload_n hx hb dX0_one_0 rfl (lv_at hl 0 rfl) ?_
  refine va_get (D := D) (ci := 1) (v := .ref (ad 2)) (C := RX0) (T := TX0) (N := 23) hx hb X.1.2.2.2.2.1 in_X0 X.1.2.2.2.1 X.2.1 Y.1 0 rfl rfl 2 (by decide) (X.1.2.2.2.2.1 _ q158) (fun _ h9 => h9) rfl dX0_one_1 ?_
  refine lv_iload_n hx hb dX0_one_4 rfl (lv_at hl 1 rfl) ?_
  refine va_aldq hx hb X.2.1 Y.1 1 3 rfl rfl (inb_in hk) dX0_one_5 ?_
  rw [hf]
  rcases hci with rfl | rfl | rfl
  · refine va_castY (C := RX12) (nm := "PerilSeat$One") (own := RX0) hx hb X.1.2.2.2.1 (X.1.2.2.2.2.1 _ q154) (X.2.2.1 ("PerilSeat$Knight", "PerilSeat$One") (by decide)) (va_recv X.2.1 Y.1 (ci := 8) (q0 := 2) (q := (RX12, TX12, 2)) rfl rfl) dX0_one_6 ?_
    exact r_aret X.1 Y.2 (Or.inl ⟨_, rfl⟩) dX0_one_9
  · refine va_castY (C := RX13) (nm := "PerilSeat$One") (own := RX0) hx hb X.1.2.2.2.1 (X.1.2.2.2.2.1 _ q154) (X.2.2.1 ("PerilSeat$Squire", "PerilSeat$One") (by decide)) (va_recv X.2.1 Y.1 (ci := 9) (q0 := 2) (q := (RX13, TX13, 2)) rfl rfl) dX0_one_6 ?_
    exact r_aret X.1 Y.2 (Or.inl ⟨_, rfl⟩) dX0_one_9
  · refine va_castY (C := RX14) (nm := "PerilSeat$One") (own := RX0) hx hb X.1.2.2.2.1 (X.1.2.2.2.2.1 _ q154) (X.2.2.1 ("PerilSeat$King", "PerilSeat$One") (by decide)) (va_recv X.2.1 Y.1 (ci := 10) (q0 := 2) (q := (RX14, TX14, 2)) rfl rfl) dX0_one_6 ?_
    exact r_aret X.1 Y.2 (Or.inl ⟨_, rfl⟩) dX0_one_9
theorem rName (l : Launch) {k : Int32} {a ci : Nat} {fs : List Value} {f : Nat → Option Nat} (hk : inb k 8) (hf : f k.toNatClampNeg = some a) (hci : ci = 3 ∨ ci = 4 ∨ ci = 5 ∨ ci = 6 ∨ ci = 7) : rMet l yX0_name cX0_name 2 (some (.object "PerilSeat$Name")) (cR 0 0 0) [.ref h, .int k] D cA [(h, .inr (1, cF ad G)), (ad 0, .inl (cA 3, 8, oref f)), (a, .inr (ci, fs))] (some (.ref a)) := by
  refine rMet_of (by decide +kernel) (Nat.le_of_ble_eq_true rfl) (fun {p e s m args below meth c ls} X Y hl => ?_)
  have hx := X.1.1
  have hb := X.1.2.1
  have hl : lv_has ls 2 [(0, .ref h), (1, .int k)] := hl
  refine lv_aload_n hx hb dX0_name_0 rfl (lv_at hl 0 rfl) ?_
  refine va_get (D := D) (ci := 1) (v := .ref (ad 0)) (C := RX0) (T := TX0) (N := 23) hx hb X.1.2.2.2.2.1 in_X0 X.1.2.2.2.1 X.2.1 Y.1 0 rfl rfl 0 (by decide) (X.1.2.2.2.2.1 _ q155) (fun _ h9 => h9) rfl dX0_name_1 ?_
  refine lv_iload_n hx hb dX0_name_4 rfl (lv_at hl 1 rfl) ?_
  refine va_aldq hx hb X.2.1 Y.1 1 3 rfl rfl (inb_in hk) dX0_name_5 ?_
  rw [hf]
  rcases hci with rfl | rfl | rfl | rfl | rfl
  · refine va_castY (C := RX6) (nm := "PerilSeat$Name") (own := RX0) hx hb X.1.2.2.2.1 (X.1.2.2.2.2.1 _ q765) (X.2.2.1 ("PerilSeat$Open", "PerilSeat$Name") (by decide)) (va_recv X.2.1 Y.1 (ci := 3) (q0 := 2) (q := (RX6, TX6, 1)) rfl rfl) dX0_name_6 ?_
    exact r_aret X.1 Y.2 (Or.inl ⟨_, rfl⟩) dX0_name_9
  · refine va_castY (C := RX7) (nm := "PerilSeat$Name") (own := RX0) hx hb X.1.2.2.2.1 (X.1.2.2.2.2.1 _ q765) (X.2.2.1 ("PerilSeat$Gold", "PerilSeat$Name") (by decide)) (va_recv X.2.1 Y.1 (ci := 4) (q0 := 2) (q := (RX7, TX7, 1)) rfl rfl) dX0_name_6 ?_
    exact r_aret X.1 Y.2 (Or.inl ⟨_, rfl⟩) dX0_name_9
  · refine va_castY (C := RX8) (nm := "PerilSeat$Name") (own := RX0) hx hb X.1.2.2.2.1 (X.1.2.2.2.2.1 _ q765) (X.2.2.1 ("PerilSeat$Meek", "PerilSeat$Name") (by decide)) (va_recv X.2.1 Y.1 (ci := 5) (q0 := 2) (q := (RX8, TX8, 1)) rfl rfl) dX0_name_6 ?_
    exact r_aret X.1 Y.2 (Or.inl ⟨_, rfl⟩) dX0_name_9
  · refine va_castY (C := RX9) (nm := "PerilSeat$Name") (own := RX0) hx hb X.1.2.2.2.1 (X.1.2.2.2.2.1 _ q765) (X.2.2.1 ("PerilSeat$Kin", "PerilSeat$Name") (by decide)) (va_recv X.2.1 Y.1 (ci := 6) (q0 := 2) (q := (RX9, TX9, 1)) rfl rfl) dX0_name_6 ?_
    exact r_aret X.1 Y.2 (Or.inl ⟨_, rfl⟩) dX0_name_9
  · refine va_castY (C := RX10) (nm := "PerilSeat$Name") (own := RX0) hx hb X.1.2.2.2.1 (X.1.2.2.2.2.1 _ q765) (X.2.2.1 ("PerilSeat$Mourning", "PerilSeat$Name") (by decide)) (va_recv X.2.1 Y.1 (ci := 7) (q0 := 2) (q := (RX10, TX10, 1)) rfl rfl) dX0_name_6 ?_
    exact r_aret X.1 Y.2 (Or.inl ⟨_, rfl⟩) dX0_name_9
theorem kO_ci {k : Int32} (h : kO k) : oneCi k = 8 ∨ oneCi k = 9 ∨ oneCi k = 10 := by
  rcases h with h | h | h <;> subst h <;> decide
theorem kN_ci {k : Int32} (h : kN k) : nameCi k = 3 ∨ nameCi k = 4 ∨ nameCi k = 5 ∨ nameCi k = 6 ∨ nameCi k = 7 := by
  rcases h with h | h | h | h | h <;> subst h <;> decide
theorem three {α : Type} {a b c : α} {P : α → Prop} (ha : P a) (hb : P b) (hc : P c) : ∀ (k : Nat) (z : α), [a, b, c][k]? = some z → P z := by
  intro k z hz
  match k, hz with
  | 0, hz => cases hz; exact ha
  | 1, hz => cases hz; exact hb
  | 2, hz => cases hz; exact hc
  | k + 3, hz => simp at hz
/-- a call of one(k): the knight k, that is there -/
theorem c_one {k : Int32} {index : Nat} (X : CC RX0 cc nL rt D cA A p s m args meth c) (Y : CY D cA A s h ad G Z H locs) (hk : inb k 6) (hn : ¬ G 32 k.toNatClampNeg = -1) (hq : Cond.methodLink RX0 index yX0_one ∈ lw_all) (hR : 1 ≤ R.frames ∧ 21 ≤ R.locals) (hl : ls.size = nL) (hW : (rest.map fun v => v.category).sum ≤ 8) (hc : cells ≤ R.cells ∧ slots ≤ R.slots) (hdg : decode cc pc = .ok (.invokevirtual index, 3))
    (kk : ∀ (H1 : Heap) (locs1 : List Loc), CY D cA A s h ad G Z H1 locs1 → W p l e R s m args below meth c H1 locs1 cells slots Q (F0 m (pc + 3) ls (.ref (zr Z 2 k.toNatClampNeg) :: rest))) : W p l e R s m args below meth c H locs cells slots Q (F0 m pc ls (.int k :: .ref h :: rest)) := by
  obtain ⟨hz, hk2, q, hq2⟩ := Y.oneAt (ix_lt hk) hn
  obtain ⟨⟨⟨hx, hb, hml, hown, hts, hrt, hlk⟩, hK, hA⟩, hE⟩ := X
  have hPc : va_P D cls [(h, .inr (1, cF ad G)), (ad 2, .inl (cA 3, 6, oref (Z.1 2))), (zr Z 2 k.toNatClampNeg, _)] H := three (P := fun z => va_at D cls z H) (Y.1.1 0 _ rfl) (Y.1.1 2 _ rfl) (Y.1.1 q _ hq2)
  refine r_tail (va_runV (l := l) (e := e) (R := R) (below := below) (meth := meth) (H := H) (locs := locs) (cells := cells) (slots := slots) (mc := 0) (ms := 0) (rest := rest) (As := [.int k]) (Ts := lw_all) (cc := cc) (nL := nL) ⟨hx, hb, hml, hown, hts⟩ (rOne (ad := ad) (G := G) (h := h) (D := D) (cA := cA) l hk hz (kO_ci hk2))
    (cwV 1 hts (lw_V hq q152 qs1 q67 q153) rfl rfl rfl (by decide +kernel) ⟨hR.1, by show 8 + (2 + 11) + 40 * 0 ≤ R.locals; omega⟩)
    ⟨fun a U g mk q => ⟨q.1, q.2.1, va_K.moved (u := U) (U := U.calling g mk a) (Vm.Alike.refl U.vm) q.2.2.1, q.2.2.2.same (u := U) rfl⟩, va_recv hK Y.1.1 (ci := 1) (q0 := 0) rfl rfl, fun U hU hW => ⟨rfl, by rw [hU]; exact hPc, va_K.moved hW.alike hK, hE.1.warm hW⟩⟩ rfl rfl hl rfl (lv_room hW) hdg hc) Y.1.2.2 (fun H1 locs1 _ hk3 hS => ?_)
  exact kk H1 locs1 (Y.kept hk3 hS)
theorem c_name {k : Int32} {index : Nat} (X : CC RX0 cc nL rt D cA A p s m args meth c) (Y : CY D cA A s h ad G Z H locs) (hk : inb k 8) (hn : ¬ G 30 k.toNatClampNeg = -1) (hq : Cond.methodLink RX0 index yX0_name ∈ lw_all) (hR : 1 ≤ R.frames ∧ 21 ≤ R.locals) (hl : ls.size = nL) (hW : (rest.map fun v => v.category).sum ≤ 8) (hc : cells ≤ R.cells ∧ slots ≤ R.slots) (hdg : decode cc pc = .ok (.invokevirtual index, 3))
    (kk : ∀ (H1 : Heap) (locs1 : List Loc), CY D cA A s h ad G Z H1 locs1 → W p l e R s m args below meth c H1 locs1 cells slots Q (F0 m (pc + 3) ls (.ref (zr Z 0 k.toNatClampNeg) :: rest))) : W p l e R s m args below meth c H locs cells slots Q (F0 m pc ls (.int k :: .ref h :: rest)) := by
  obtain ⟨hz, hk2, q, hq2⟩ := Y.nameAt (ix_lt hk) hn
  obtain ⟨⟨⟨hx, hb, hml, hown, hts, hrt, hlk⟩, hK, hA⟩, hE⟩ := X
  have hPc : va_P D cls [(h, .inr (1, cF ad G)), (ad 0, .inl (cA 3, 8, oref (Z.1 0))), (zr Z 0 k.toNatClampNeg, _)] H := three (P := fun z => va_at D cls z H) (Y.1.1 0 _ rfl) (Y.1.1 1 _ rfl) (Y.1.1 q _ hq2)
  refine r_tail (va_runV (l := l) (e := e) (R := R) (below := below) (meth := meth) (H := H) (locs := locs) (cells := cells) (slots := slots) (mc := 0) (ms := 0) (rest := rest) (As := [.int k]) (Ts := lw_all) (cc := cc) (nL := nL) ⟨hx, hb, hml, hown, hts⟩ (rName (ad := ad) (G := G) (h := h) (D := D) (cA := cA) l hk hz (kN_ci hk2))
    (cwV 1 hts (lw_V hq q763 qs13 q67 q764) rfl rfl rfl (by decide +kernel) ⟨hR.1, by show 8 + (2 + 11) + 40 * 0 ≤ R.locals; omega⟩)
    ⟨fun a U g mk q => ⟨q.1, q.2.1, va_K.moved (u := U) (U := U.calling g mk a) (Vm.Alike.refl U.vm) q.2.2.1, q.2.2.2.same (u := U) rfl⟩, va_recv hK Y.1.1 (ci := 1) (q0 := 0) rfl rfl, fun U hU hW => ⟨rfl, by rw [hU]; exact hPc, va_K.moved hW.alike hK, hE.1.warm hW⟩⟩ rfl rfl hl rfl (lv_room hW) hdg hc) Y.1.2.2 (fun H1 locs1 _ hk3 hS => ?_)
  exact kk H1 locs1 (Y.kept hk3 hS)
/-- fields of a knight: renown (0), house (1) -/
theorem c_getO {i index f : Nat} {v : Int32} (X : CC RX0 cc nL rt D cA A p s m args meth c) (Y : CY D cA A s h ad G Z H locs) (hi : i < 6) (hn : ¬ G 32 i = -1) (hf : (f = 0 ∧ v = G 33 i) ∨ (f = 1 ∧ v = G 34 i)) (hq : Cond.fieldLink RX0 index "PerilSeat$One" (TX12 f).2.1 (TX12 f).2.2.1 ∈ lw_all) (hdg : decode cc pc = .ok (.getfield index, 3))
    (kk : W p l e R s m args below meth c H locs cells slots Q (F0 m (pc + 3) ls (.int v :: rest))) : W p l e R s m args below meth c H locs cells slots Q (F0 m pc ls (.ref (zr Z 2 i) :: rest)) := by
  obtain ⟨hz, hk2, q, hq2⟩ := Y.oneAt hi hn
  obtain ⟨⟨⟨hx, hb, hml, hown, hts, hrt, hlk⟩, hK, hA⟩, hE⟩ := X
  have key : ∀ (ci : Nat) (C : String) (T : u_T), cls[ci]? = some (C, T, 2) → (∀ w ∈ u_ws C T 2, w ∈ lw_all) → (∀ f, f < 2 → T f = TX12 f) → oneCi (G 32 i) = ci → W p l e R s m args below meth c H locs cells slots Q (F0 m pc ls (.ref (zr Z 2 i) :: rest)) := by
    intro ci C T hcl hin hT hci
    rw [hci] at hq2
    rcases hf with ⟨rfl, rfl⟩ | ⟨rfl, rfl⟩
    · refine va_get (D := D) (ci := ci) (v := .int (G 33 i)) (C := C) (T := T) (N := 2) (ref := "PerilSeat$One") hx hb hts hin hown hK Y.1.1 q hq2 hcl 0 (by decide) (by rw [hT 0 (by decide)]; exact hts _ hq) (fun _ h9 => by rw [hT 0 (by decide)] at h9 ⊢; exact h9) rfl hdg kk
    · refine va_get (D := D) (ci := ci) (v := .int (G 34 i)) (C := C) (T := T) (N := 2) (ref := "PerilSeat$One") hx hb hts hin hown hK Y.1.1 q hq2 hcl 1 (by decide) (by rw [hT 1 (by decide)]; exact hts _ hq) (fun _ h9 => by rw [hT 1 (by decide)] at h9 ⊢; exact h9) rfl hdg kk
  rcases hk2 with h2 | h2 | h2
  · exact key 8 RX12 TX12 rfl in_X12 (fun _ _ => rfl) (by rw [h2]; rfl)
  · exact key 9 RX13 TX13 rfl in_X13 (fun f hf => by match f, hf with | 0, _ => rfl | 1, _ => rfl) (by rw [h2]; rfl)
  · exact key 10 RX14 TX14 rfl in_X14 (fun f hf => by match f, hf with | 0, _ => rfl | 1, _ => rfl) (by rw [h2]; rfl)
/-- the number of a name -/
theorem c_getN {i index : Nat} {v : Int32} (X : CC RX0 cc nL rt D cA A p s m args meth c) (Y : CY D cA A s h ad G Z H locs) (hi : i < 8) (hn : ¬ G 30 i = -1) (hv : v = G 31 i) (hq : Cond.fieldLink RX0 index "PerilSeat$Name" "number" "I" ∈ lw_all) (hdg : decode cc pc = .ok (.getfield index, 3))
    (kk : W p l e R s m args below meth c H locs cells slots Q (F0 m (pc + 3) ls (.int v :: rest))) : W p l e R s m args below meth c H locs cells slots Q (F0 m pc ls (.ref (zr Z 0 i) :: rest)) := by
  obtain ⟨hz, hk2, q, hq2⟩ := Y.nameAt hi hn
  obtain ⟨⟨⟨hx, hb, hml, hown, hts, hrt, hlk⟩, hK, hA⟩, hE⟩ := X
  subst hv
  have key : ∀ (ci : Nat) (C : String) (T : u_T), cls[ci]? = some (C, T, 1) → (∀ w ∈ u_ws C T 1, w ∈ lw_all) → T 0 = ("PerilSeat$Name", "number", "I", true) → nameCi (G 30 i) = ci → W p l e R s m args below meth c H locs cells slots Q (F0 m pc ls (.ref (zr Z 0 i) :: rest)) := by
    intro ci C T hcl hin hT hci
    rw [hci] at hq2
    exact va_get (D := D) (ci := ci) (v := .int (G 31 i)) (C := C) (T := T) (N := 1) (ref := "PerilSeat$Name") hx hb hts hin hown hK Y.1.1 q hq2 hcl 0 (by decide) (by rw [hT]; exact hts _ hq) (fun _ h9 => by rw [hT] at h9 ⊢; exact h9) rfl hdg kk
  rcases hk2 with h2 | h2 | h2 | h2 | h2
  · exact key 3 RX6 TX6 rfl in_X6 rfl (by rw [h2]; rfl)
  · exact key 4 RX7 TX7 rfl in_X7 rfl (by rw [h2]; rfl)
  · exact key 5 RX8 TX8 rfl in_X8 rfl (by rw [h2]; rfl)
  · exact key 6 RX9 TX9 rfl in_X9 rfl (by rw [h2]; rfl)
  · exact key 7 RX10 TX10 rfl in_X10 rfl (by rw [h2]; rfl)
theorem c_kindO {i index : Nat} {v : Int32} (X : CC RX0 cc nL rt D cA A p s m args meth c) (Y : CY D cA A s h ad G Z H locs) (hi : i < 6) (hn : ¬ G 32 i = -1) (hv : v = G 32 i) (hq : Cond.methodLink RX0 index ⟨"PerilSeat$One", "kind", "()I"⟩ ∈ lw_all) (hR : 5 ≤ R.frames ∧ 200 ≤ R.locals) (hl : ls.size = nL) (hW : (rest.map fun v => v.category).sum ≤ 8) (hc : cells ≤ R.cells ∧ slots ≤ R.slots) (hdg : decode cc pc = .ok (.invokevirtual index, 3))
    (kk : ∀ (H1 : Heap) (locs1 : List Loc), CY D cA A s h ad G Z H1 locs1 → W p l e R s m args below meth c H1 locs1 cells slots Q (F0 m (pc + 3) ls (.int v :: rest))) : W p l e R s m args below meth c H locs cells slots Q (F0 m pc ls (.ref (zr Z 2 i) :: rest)) := by
  obtain ⟨hz, hk2, q, hq2⟩ := Y.oneAt hi hn
  subst hv
  rcases hk2 with h2 | h2 | h2
  · rw [h2] at hq2 kk
    rw [show oneCi (0 : Int32) = 8 from rfl] at hq2
    refine r_callU (C := RX12) (ci := 8) (q0 := q) (q := (RX12, TX12, 2)) (av := []) (rest := rest) 0 X.1.1 X.1.2.1 X.2.1 Y.1.1 Y.1.2.2 (rX12_kind (ws := []) l) (cu_of 0 X.1.1.2.2.2.2.1 hq q800 (va_Decl.abs (X.2.1.2.2.2.1 ⟨"PerilSeat$One", "kind", "()I"⟩ (by decide))) q807 q805 q96 q806 (by decide +kernel) ⟨rfl, rfl, by show 0 + 1 ≤ R.frames; omega, by show 8 + (1 + 11) + 40 * 0 ≤ R.locals; omega⟩) rfl rfl hq2 (fun k z hz => by simp at hz) rfl hl rfl hW hc hdg (fun H1 locs1 _ hk3 hS => ?_)
    exact kk H1 locs1 (Y.kept hk3 hS)
  · rw [h2] at hq2 kk
    rw [show oneCi (1 : Int32) = 9 from rfl] at hq2
    refine r_callU (C := RX13) (ci := 9) (q0 := q) (q := (RX13, TX13, 2)) (av := []) (rest := rest) 0 X.1.1 X.1.2.1 X.2.1 Y.1.1 Y.1.2.2 (rX13_kind (ws := []) l) (cu_of 0 X.1.1.2.2.2.2.1 hq q800 (va_Decl.abs (X.2.1.2.2.2.1 ⟨"PerilSeat$One", "kind", "()I"⟩ (by decide))) q808 q809 q97 q810 (by decide +kernel) ⟨rfl, rfl, by show 0 + 1 ≤ R.frames; omega, by show 8 + (1 + 11) + 40 * 0 ≤ R.locals; omega⟩) rfl rfl hq2 (fun k z hz => by simp at hz) rfl hl rfl hW hc hdg (fun H1 locs1 _ hk3 hS => ?_)
    exact kk H1 locs1 (Y.kept hk3 hS)
  · rw [h2] at hq2 kk
    rw [show oneCi (2 : Int32) = 10 from rfl] at hq2
    refine r_callU (C := RX14) (ci := 10) (q0 := q) (q := (RX14, TX14, 2)) (av := []) (rest := rest) 0 X.1.1 X.1.2.1 X.2.1 Y.1.1 Y.1.2.2 (rX14_kind l) (cu_of 0 X.1.1.2.2.2.2.1 hq q800 (va_Decl.abs (X.2.1.2.2.2.1 ⟨"PerilSeat$One", "kind", "()I"⟩ (by decide))) q801 q802 q98 q803 (by decide +kernel) ⟨rfl, rfl, by show 1 + 1 ≤ R.frames; omega, by show 8 + (1 + 11) + 40 * 1 ≤ R.locals; omega⟩) rfl rfl hq2 (fun k z hz => ⟨q, by have hk : k = 0 := (by have := (List.getElem?_eq_some_iff.mp hz).1; simpa using this); subst hk; cases hz; exact hq2⟩) rfl hl rfl hW hc hdg (fun H1 locs1 _ hk3 hS => ?_)
    exact kk H1 locs1 (Y.kept hk3 hS)
theorem c_kindN {i index : Nat} {v : Int32} (X : CC RX0 cc nL rt D cA A p s m args meth c) (Y : CY D cA A s h ad G Z H locs) (hi : i < 8) (hn : ¬ G 30 i = -1) (hv : v = G 30 i) (hq : Cond.methodLink RX0 index ⟨"PerilSeat$Name", "kind", "()I"⟩ ∈ lw_all) (hR : 5 ≤ R.frames ∧ 200 ≤ R.locals) (hl : ls.size = nL) (hW : (rest.map fun v => v.category).sum ≤ 8) (hc : cells ≤ R.cells ∧ slots ≤ R.slots) (hdg : decode cc pc = .ok (.invokevirtual index, 3))
    (kk : ∀ (H1 : Heap) (locs1 : List Loc), CY D cA A s h ad G Z H1 locs1 → W p l e R s m args below meth c H1 locs1 cells slots Q (F0 m (pc + 3) ls (.int v :: rest))) : W p l e R s m args below meth c H locs cells slots Q (F0 m pc ls (.ref (zr Z 0 i) :: rest)) := by
  obtain ⟨hz, hk2, q, hq2⟩ := Y.nameAt hi hn
  subst hv
  rcases hk2 with h2 | h2 | h2 | h2 | h2
  · rw [h2] at hq2 kk
    rw [show nameCi (0 : Int32) = 3 from rfl] at hq2
    refine r_callU (C := RX6) (ci := 3) (q0 := q) (q := (RX6, TX6, 1)) (av := []) (rest := rest) 0 X.1.1 X.1.2.1 X.2.1 Y.1.1 Y.1.2.2 (rX6_kind (ws := []) l) (cu_of 0 X.1.1.2.2.2.2.1 hq q768 (va_Decl.abs (X.2.1.2.2.2.1 ⟨"PerilSeat$Name", "kind", "()I"⟩ (by decide))) q785 q773 q90 q774 (by decide +kernel) ⟨rfl, rfl, by show 0 + 1 ≤ R.frames; omega, by show 8 + (1 + 11) + 40 * 0 ≤ R.locals; omega⟩) rfl rfl hq2 (fun k z hz => by simp at hz) rfl hl rfl hW hc hdg (fun H1 locs1 _ hk3 hS => ?_)
    exact kk H1 locs1 (Y.kept hk3 hS)
  · rw [h2] at hq2 kk
    rw [show nameCi (1 : Int32) = 4 from rfl] at hq2
    refine r_callU (C := RX7) (ci := 4) (q0 := q) (q := (RX7, TX7, 1)) (av := []) (rest := rest) 0 X.1.1 X.1.2.1 X.2.1 Y.1.1 Y.1.2.2 (rX7_kind l) (cu_of 0 X.1.1.2.2.2.2.1 hq q768 (va_Decl.abs (X.2.1.2.2.2.1 ⟨"PerilSeat$Name", "kind", "()I"⟩ (by decide))) q769 q770 q91 q771 (by decide +kernel) ⟨rfl, rfl, by show 1 + 1 ≤ R.frames; omega, by show 8 + (1 + 11) + 40 * 1 ≤ R.locals; omega⟩) rfl rfl hq2 (fun k z hz => ⟨q, by have hk : k = 0 := (by have := (List.getElem?_eq_some_iff.mp hz).1; simpa using this); subst hk; cases hz; exact hq2⟩) rfl hl rfl hW hc hdg (fun H1 locs1 _ hk3 hS => ?_)
    exact kk H1 locs1 (Y.kept hk3 hS)
  · rw [h2] at hq2 kk
    rw [show nameCi (2 : Int32) = 5 from rfl] at hq2
    refine r_callU (C := RX8) (ci := 5) (q0 := q) (q := (RX8, TX8, 1)) (av := []) (rest := rest) 0 X.1.1 X.1.2.1 X.2.1 Y.1.1 Y.1.2.2 (rX8_kind l) (cu_of 0 X.1.1.2.2.2.2.1 hq q768 (va_Decl.abs (X.2.1.2.2.2.1 ⟨"PerilSeat$Name", "kind", "()I"⟩ (by decide))) q778 q779 q92 q780 (by decide +kernel) ⟨rfl, rfl, by show 1 + 1 ≤ R.frames; omega, by show 8 + (1 + 11) + 40 * 1 ≤ R.locals; omega⟩) rfl rfl hq2 (fun k z hz => ⟨q, by have hk : k = 0 := (by have := (List.getElem?_eq_some_iff.mp hz).1; simpa using this); subst hk; cases hz; exact hq2⟩) rfl hl rfl hW hc hdg (fun H1 locs1 _ hk3 hS => ?_)
    exact kk H1 locs1 (Y.kept hk3 hS)
  · rw [h2] at hq2 kk
    rw [show nameCi (3 : Int32) = 6 from rfl] at hq2
    refine r_callU (C := RX9) (ci := 6) (q0 := q) (q := (RX9, TX9, 1)) (av := []) (rest := rest) 0 X.1.1 X.1.2.1 X.2.1 Y.1.1 Y.1.2.2 (rX9_kind (ws := []) l) (cu_of 0 X.1.1.2.2.2.2.1 hq q768 (va_Decl.abs (X.2.1.2.2.2.1 ⟨"PerilSeat$Name", "kind", "()I"⟩ (by decide))) q775 q776 q93 q777 (by decide +kernel) ⟨rfl, rfl, by show 0 + 1 ≤ R.frames; omega, by show 8 + (1 + 11) + 40 * 0 ≤ R.locals; omega⟩) rfl rfl hq2 (fun k z hz => by simp at hz) rfl hl rfl hW hc hdg (fun H1 locs1 _ hk3 hS => ?_)
    exact kk H1 locs1 (Y.kept hk3 hS)
  · rw [h2] at hq2 kk
    rw [show nameCi (4 : Int32) = 7 from rfl] at hq2
    refine r_callU (C := RX10) (ci := 7) (q0 := q) (q := (RX10, TX10, 1)) (av := []) (rest := rest) 0 X.1.1 X.1.2.1 X.2.1 Y.1.1 Y.1.2.2 (rX10_kind (ws := []) l) (cu_of 0 X.1.1.2.2.2.2.1 hq q768 (va_Decl.abs (X.2.1.2.2.2.1 ⟨"PerilSeat$Name", "kind", "()I"⟩ (by decide))) q782 q783 q94 q784 (by decide +kernel) ⟨rfl, rfl, by show 0 + 1 ≤ R.frames; omega, by show 8 + (1 + 11) + 40 * 0 ≤ R.locals; omega⟩) rfl rfl hq2 (fun k z hz => by simp at hz) rfl hl rfl hW hc hdg (fun H1 locs1 _ hk3 hS => ?_)
    exact kk H1 locs1 (Y.kept hk3 hS)
theorem c_spared {i index : Nat} {v : Int32} (X : CC RX0 cc nL rt D cA A p s m args meth c) (Y : CY D cA A s h ad G Z H locs) (hi : i < 6) (hn : ¬ G 32 i = -1) (hv : v = sparedV (G 32 i)) (hq : Cond.methodLink RX0 index ⟨"PerilSeat$One", "isSpared", "()Z"⟩ ∈ lw_all) (hR : 5 ≤ R.frames ∧ 200 ≤ R.locals) (hl : ls.size = nL) (hW : (rest.map fun v => v.category).sum ≤ 8) (hc : cells ≤ R.cells ∧ slots ≤ R.slots) (hdg : decode cc pc = .ok (.invokevirtual index, 3))
    (kk : ∀ (H1 : Heap) (locs1 : List Loc), CY D cA A s h ad G Z H1 locs1 → W p l e R s m args below meth c H1 locs1 cells slots Q (F0 m (pc + 3) ls (.int v :: rest))) : W p l e R s m args below meth c H locs cells slots Q (F0 m pc ls (.ref (zr Z 2 i) :: rest)) := by
  obtain ⟨hz, hk2, q, hq2⟩ := Y.oneAt hi hn
  subst hv
  rcases hk2 with h2 | h2 | h2
  · rw [h2] at hq2 kk
    rw [show oneCi (0 : Int32) = 8 from rfl] at hq2
    refine r_callU (C := RX12) (ci := 8) (q0 := q) (q := (RX12, TX12, 2)) (av := []) (rest := rest) 0 X.1.1 X.1.2.1 X.2.1 Y.1.1 Y.1.2.2 (rX11_isSpared (ws := []) l) (cu_of 0 X.1.1.2.2.2.2.1 hq q952 (va_Decl.of (X.1.1.2.2.2.2.1 _ q951) (X.1.1.2.2.2.2.1 _ q959)) q954 q951 q95 q959 (by decide +kernel) ⟨rfl, rfl, by show 0 + 1 ≤ R.frames; omega, by show 8 + (1 + 11) + 40 * 0 ≤ R.locals; omega⟩) rfl rfl hq2 (fun k z hz => by simp at hz) rfl hl rfl hW hc hdg (fun H1 locs1 _ hk3 hS => ?_)
    exact kk H1 locs1 (Y.kept hk3 hS)
  · rw [h2] at hq2 kk
    rw [show oneCi (1 : Int32) = 9 from rfl] at hq2
    refine r_callU (C := RX13) (ci := 9) (q0 := q) (q := (RX13, TX13, 2)) (av := []) (rest := rest) 0 X.1.1 X.1.2.1 X.2.1 Y.1.1 Y.1.2.2 (rX13_isSpared l) (cu_of 0 X.1.1.2.2.2.2.1 hq q952 (va_Decl.of (X.1.1.2.2.2.2.1 _ q951) (X.1.1.2.2.2.2.1 _ q959)) q955 q956 q97 q957 (by decide +kernel) ⟨rfl, rfl, by show 1 + 1 ≤ R.frames; omega, by show 8 + (1 + 11) + 40 * 1 ≤ R.locals; omega⟩) rfl rfl hq2 (fun k z hz => ⟨q, by have hk : k = 0 := (by have := (List.getElem?_eq_some_iff.mp hz).1; simpa using this); subst hk; cases hz; exact hq2⟩) rfl hl rfl hW hc hdg (fun H1 locs1 _ hk3 hS => ?_)
    exact kk H1 locs1 (Y.kept hk3 hS)
  · rw [h2] at hq2 kk
    rw [show oneCi (2 : Int32) = 10 from rfl] at hq2
    refine r_callU (C := RX14) (ci := 10) (q0 := q) (q := (RX14, TX14, 2)) (av := []) (rest := rest) 0 X.1.1 X.1.2.1 X.2.1 Y.1.1 Y.1.2.2 (rX11_isSpared (ws := []) l) (cu_of 0 X.1.1.2.2.2.2.1 hq q952 (va_Decl.of (X.1.1.2.2.2.2.1 _ q951) (X.1.1.2.2.2.2.1 _ q959)) q953 q951 q95 q959 (by decide +kernel) ⟨rfl, rfl, by show 0 + 1 ≤ R.frames; omega, by show 8 + (1 + 11) + 40 * 0 ≤ R.locals; omega⟩) rfl rfl hq2 (fun k z hz => by simp at hz) rfl hl rfl hW hc hdg (fun H1 locs1 _ hk3 hS => ?_)
    exact kk H1 locs1 (Y.kept hk3 hS)
theorem c_fitsOn {i j index : Nat} {now v : Int32} (X : CC RX0 cc nL rt D cA A p s m args meth c) (Y : CY D cA A s h ad G Z H locs) (hi : i < 6) (hn : ¬ G 32 i = -1) (hj : j < 8) (hnj : ¬ G 30 j = -1) (hv : v = fitV (G 32 i) (G 34 i) (G 30 j) (G 31 j) now) (hq : Cond.methodLink RX0 index ⟨"PerilSeat$One", "fitsOn", "(LPerilSeat$Name;I)Z"⟩ ∈ lw_all) (hR : 5 ≤ R.frames ∧ 200 ≤ R.locals) (hl : ls.size = nL) (hW : (rest.map fun v => v.category).sum ≤ 8) (hc : cells ≤ R.cells ∧ slots ≤ R.slots) (hdg : decode cc pc = .ok (.invokevirtual index, 3))
    (kk : ∀ (H1 : Heap) (locs1 : List Loc), CY D cA A s h ad G Z H1 locs1 → W p l e R s m args below meth c H1 locs1 cells slots Q (F0 m (pc + 3) ls (.int v :: rest))) : W p l e R s m args below meth c H locs cells slots Q (F0 m pc ls (.int now :: .ref (zr Z 0 j) :: .ref (zr Z 2 i) :: rest)) := by
  obtain ⟨hz, hk2, q, hq2⟩ := Y.oneAt hi hn
  obtain ⟨hzn, hkn, qn, hqn⟩ := Y.nameAt hj hnj
  subst hv
  have sub : ∀ (ci : Nat), (cW h ad cA G Z)[q]? = some (zr Z 2 i, .inr (ci, [.int (G 33 i), .int (G 34 i)])) → ∀ (k : Nat) (z : Nat × va_E), [(zr Z 2 i, (.inr (ci, [.int (G 33 i), .int (G 34 i)]) : va_E)), (zr Z 0 j, .inr (nameCi (G 30 j), [.int (G 31 j)]))][k]? = some z → ∃ j : Nat, (cW h ad cA G Z)[j]? = some z := by
    intro ci hq3 k z hz
    match k, hz with
    | 0, hz => cases hz; exact ⟨q, hq3⟩
    | 1, hz => cases hz; exact ⟨qn, hqn⟩
    | k + 2, hz => simp at hz
  have hB : ∀ ok : Int32, ok ≠ 2 → fitV ok (G 34 i) (G 30 j) (G 31 j) now = fitB (G 34 i) (G 30 j) (G 31 j) now := fun ok h2 => fitV_B h2 hkn
  have hKg : fitV 2 (G 34 i) (G 30 j) (G 31 j) now = if G 30 j = 4 then 0 else 1 := fitV_K hkn
  have dc : va_Decl s ⟨"PerilSeat$One", "fitsOn", "(LPerilSeat$Name;I)Z"⟩ := va_Decl.of (X.1.1.2.2.2.2.1 _ q848) (X.1.1.2.2.2.2.1 _ q856)
  rcases hk2 with h2 | h2 | h2
  · have hq3 := hq2
    rw [h2, show oneCi (0 : Int32) = 8 from rfl] at hq3
    have hM := rX11_fitsOn (D := D) (cA := cA) l (a := zr Z 2 i) (b := zr Z 0 j) (rn := G 33 i) (oh := G 34 i) (nn := G 31 j) (now := now) (ok := 0) (Or.inl rfl) hkn
    rw [show oneCi (0 : Int32) = 8 from rfl] at hM
    rw [h2, hB 0 (by decide)] at kk
    refine r_callU (C := RX12) (ci := 8) (q0 := q) (q := (RX12, TX12, 2)) (av := [.ref (zr Z 0 j), .int now]) (rest := rest) 2 X.1.1 X.1.2.1 X.2.1 Y.1.1 Y.1.2.2 hM (cu_of 2 X.1.1.2.2.2.2.1 hq q849 dc q889 q848 q95 q856 (by decide +kernel) ⟨rfl, rfl, by show 3 + 1 ≤ R.frames; omega, by show 8 + (3 + 11) + 40 * 3 ≤ R.locals; omega⟩) rfl rfl hq3 (sub 8 hq3) rfl hl rfl hW hc hdg (fun H1 locs1 _ hk3 hS => ?_)
    exact kk H1 locs1 (Y.kept hk3 hS)
  · have hq3 := hq2
    rw [h2, show oneCi (1 : Int32) = 9 from rfl] at hq3
    have hM := rX11_fitsOn (D := D) (cA := cA) l (a := zr Z 2 i) (b := zr Z 0 j) (rn := G 33 i) (oh := G 34 i) (nn := G 31 j) (now := now) (ok := 1) (Or.inr (Or.inl rfl)) hkn
    rw [show oneCi (1 : Int32) = 9 from rfl] at hM
    rw [h2, hB 1 (by decide)] at kk
    refine r_callU (C := RX13) (ci := 9) (q0 := q) (q := (RX13, TX13, 2)) (av := [.ref (zr Z 0 j), .int now]) (rest := rest) 2 X.1.1 X.1.2.1 X.2.1 Y.1.1 Y.1.2.2 hM (cu_of 2 X.1.1.2.2.2.2.1 hq q849 dc q890 q848 q95 q856 (by decide +kernel) ⟨rfl, rfl, by show 3 + 1 ≤ R.frames; omega, by show 8 + (3 + 11) + 40 * 3 ≤ R.locals; omega⟩) rfl rfl hq3 (sub 9 hq3) rfl hl rfl hW hc hdg (fun H1 locs1 _ hk3 hS => ?_)
    exact kk H1 locs1 (Y.kept hk3 hS)
  · have hq3 := hq2
    rw [h2, show oneCi (2 : Int32) = 10 from rfl] at hq3
    have hM := rX14_fitsOn (D := D) (cA := cA) l (a := zr Z 2 i) (b := zr Z 0 j) (rn := G 33 i) (oh := G 34 i) (nn := G 31 j) (now := now) hkn
    rw [h2, hKg] at kk
    refine r_callU (C := RX14) (ci := 10) (q0 := q) (q := (RX14, TX14, 2)) (av := [.ref (zr Z 0 j), .int now]) (rest := rest) 2 X.1.1 X.1.2.1 X.2.1 Y.1.1 Y.1.2.2 hM (cu_of 2 X.1.1.2.2.2.2.1 hq q849 dc q850 q851 q98 q852 (by decide +kernel) ⟨rfl, rfl, by show 4 + 1 ≤ R.frames; omega, by show 8 + (3 + 11) + 40 * 4 ≤ R.locals; omega⟩) rfl rfl hq3 (sub 10 hq3) rfl hl rfl hW hc hdg (fun H1 locs1 _ hk3 hS => ?_)
    exact kk H1 locs1 (Y.kept hk3 hS)
theorem CY.pool {a : Nat} (Y : CY D cA A s h ad G Z H locs) (ha : a ∈ Z.2.1) : ∃ q : Nat, (cW h ad cA G Z)[q]? = some (a, Z.2.2 a) := va_pl_get (X := cX0W h ad cA G Z) (f := Z.2.2) ha
/-- a pooled cell is written -/
theorem CY.poolSet {a q : Nat} {e : va_E} (Y : CY D cA A s h ad G Z H locs) (ha : a ∈ Z.2.1) (hq : (cW h ad cA G Z)[q]? = some (a, Z.2.2 a)) : (cW h ad cA G Z).set q (a, e) = cW h ad cA G (Z.1, Z.2.1, va_up Z.2.2 a e) := va_pl_set Y.1.2.1 ha hq
theorem CY.heard {a : Nat} (Y : CY D cA A s h ad G Z H locs) (ha : Z.1 38 0 = some a) : a ∈ Z.2.1 ∧ Z.2.2 a = .inl (cA 0, 6, .inl (G 38)) ∧ True := by
  obtain ⟨own', ow, -, -, -, -, h5⟩ := Y.2.2.2.2
  rcases h5 with h5 | ⟨a', h1, h2, h3, h4⟩
  · rw [h5] at ha; cases ha
  · rw [h1] at ha; cases ha; exact ⟨h2, h3, trivial⟩
/-- the array aside is written -/
theorem Rp.heardSt {cA : Nat → ClassId} {G : GS} {Z : ZT} {a i : Nat} {x : Int32} (hR : Rp cA G Z) (ha : Z.1 38 0 = some a) : Rp cA (gu G 38 i x) (Z.1, Z.2.1, va_up Z.2.2 a (.inl (cA 0, 6, .inl (upd (G 38) i x)))) := by
  obtain ⟨hN, hO, hV, own', ow, s1, s2, s3, s4, s5⟩ := hR
  have hG : ∀ k, k ≠ 38 → gu G 38 i x k = G k := fun k hk => by
    funext b
    rw [gu_ap, if_neg (fun e => hk e.1)]
  rcases s5 with s5 | ⟨a', h1, h2, h3, h4⟩
  · rw [s5] at ha; cases ha
  rw [h1] at ha
  cases ha
  have key : ∀ b, Z.2.2 b ≠ .inl (cA 0, 6, .inl (G 38)) → va_up Z.2.2 a (.inl (cA 0, 6, .inl (upd (G 38) i x))) b = Z.2.2 b := fun b hb => va_up_ne _ _ (fun e => hb (by rw [e]; exact h3))
  have st : ∀ b f, StAt cA Z b (own' b).1 (own' b).2.1 (own' b).2.2 f → ow (own' b).1 = b → ow (own' b).2.1 = b → ow (own' b).2.2 = b → StAt cA (Z.1, Z.2.1, va_up Z.2.2 a (.inl (cA 0, 6, .inl (upd (G 38) i x)))) b (own' b).1 (own' b).2.1 (own' b).2.2 f := fun b f hs o1 o2 o3 => by
    have hb : b ≠ a := fun e => by
      have := hs.2.2.2.2.1
      rw [e, h3] at this
      cases this
    exact hs.mv (fun _ _ => rfl) (fun _ h => h) (va_up_ne _ _ hb) (va_up_ne _ _ (fun e => hb (by rw [← o1, e]; exact h4))) (va_up_ne _ _ (fun e => hb (by rw [← o2, e]; exact h4))) (va_up_ne _ _ (fun e => hb (by rw [← o3, e]; exact h4)))
  refine ⟨hN.mv (fun i _ => by rw [hG 30 (by decide)]) (fun i _ => by rw [hG 31 (by decide)]) (fun _ _ => rfl) (fun _ h => h) (fun b ci fs _ hb _ => key b (by rw [hb]; exact fun e => by cases e)), hO.mv (fun i _ => by rw [hG 32 (by decide)]) (fun i _ => by rw [hG 33 (by decide)]) (fun i _ => by rw [hG 34 (by decide)]) (fun _ _ => rfl) (fun _ h => h) (fun b ci fs _ hb _ => key b (by rw [hb]; exact fun e => by cases e)),
    hV.mv (fun i _ => by rw [hG 37 (by decide)]) (fun i _ j _ => by rw [hG (60 + i) (by omega)]) (fun _ _ => rfl) (fun _ h => h) (fun b g _ hb => key b (by rw [hb]; exact fun e => by injection e with e; injection e with _ e; injection e with e; omega)), own', ow, ?_, ?_, s3, s4, Or.inr ⟨a, h1, h2, ?_, h4⟩⟩
  · intro k hk
    rw [hG 35 (by decide), hG (40 + k) (by omega)]
    rcases s1 k hk with q | ⟨b, q1, q2, q3, q4, q5, q6, q7⟩
    · exact Or.inl q
    · exact Or.inr ⟨b, q1, q2, st b _ q3 q4 q5 q6, q4, q5, q6, q7⟩
  · intro k hk
    rw [hG 36 (by decide), hG (50 + k) (by omega)]
    rcases s2 k hk with q | ⟨b, q1, q2, q3, q4, q5, q6, q7⟩
    · exact Or.inl q
    · exact Or.inr ⟨b, q1, q2, st b _ q3 q4 q5 q6, q4, q5, q6, q7⟩
  · rw [gu_row]
    exact va_up_self _ _ _
/-- a row of what is seen: sights[i], that was made -/
theorem c_sight {i : Int32} {v : Nat} (X : CC RX0 cc nL rt D cA A p s m args meth c) (Y : CY D cA A s h ad G Z H locs) (hi : inb i 8) (hn : G 37 i.toNatClampNeg = 1) (hv : v = zr Z 12 i.toNatClampNeg) (hdg : decode cc pc = .ok (.aaload, 1))
    (kk : W p l e R s m args below meth c H locs cells slots Q (F0 m (pc + 1) ls (.ref v :: rest))) : W p l e R s m args below meth c H locs cells slots Q (F0 m pc ls (.int i :: .ref (ad 12) :: rest)) := by
  rcases Y.2.2.2.1 i.toNatClampNeg (ix_lt hi) with ⟨-, h2⟩ | ⟨a, h1, h2, h3, g, h4, h5⟩
  · rw [h2] at hn; exact absurd hn (by decide)
  · obtain ⟨⟨⟨hx, hb, hml, hown, hts, hrt, hlk⟩, hK, hA⟩, hE⟩ := X
    have e : v = a := by rw [hv]; unfold zr; rw [h1]; rfl
    have hlt := ix_lt hi
    have hin := inb_in hi
    refine W.aald (v := va_rf (Z.1 12 i.toNatClampNeg)) (ty := .array .int) hx hb (Y.1.1 10 (ad 12, .inl (cA 5, 8, oref (Z.1 12))) rfl) ((hK.2 5 (cA 5, .array .int) rfl).1 8 (fun j => va_rf (Z.1 12 j))) rfl (fun q => by cases q) (by show ¬ (i < 0 ∨ (arrV _ _ _).slots.size ≤ _); rw [arrV_size]; exact hin) (by show (arrV _ _ _).slots[_]? = _; rw [arrV_read _ _ hlt]) rfl rfl hdg ?_
    rw [h1, ← e]
    exact kk
/-- a number of such a row -/
theorem c_sightA {i : Nat} {j v : Int32} (X : CC RX0 cc nL rt D cA A p s m args meth c) (Y : CY D cA A s h ad G Z H locs) (hi : i < 8) (hn : G 37 i = 1) (hj : inb j 4) (hv : v = G (60 + i) j.toNatClampNeg) (hdg : decode cc pc = .ok (.iaload, 1))
    (kk : W p l e R s m args below meth c H locs cells slots Q (F0 m (pc + 1) ls (.int v :: rest))) : W p l e R s m args below meth c H locs cells slots Q (F0 m pc ls (.int j :: .ref (zr Z 12 i) :: rest)) := by
  rcases Y.2.2.2.1 i hi with ⟨-, h2⟩ | ⟨a, h1, h2, h3, g, h4, h5⟩
  · rw [h2] at hn; exact absurd hn (by decide)
  · obtain ⟨q, hq⟩ := Y.pool h2
    rw [h4] at hq
    have e : zr Z 12 i = a := by unfold zr; rw [h1]; rfl
    rw [e]
    refine va_iald X.1.1.1 X.1.1.2.1 X.1.2.1 Y.1.1 q 0 hq rfl (inb_in hj) hdg ?_
    rw [h5 _ (ix_lt hj), ← hv]
    exact kk
theorem Rp.low {cA : Nat → ClassId} {G G1 : GS} {Z : ZT} (e : ∀ k, 30 ≤ k → G1 k = G k) (h : Rp cA G Z) : Rp cA G1 Z := by
  have e40 : ∀ n, G1 (40 + n) = G (40 + n) := fun n => e _ (by omega)
  have e50 : ∀ n, G1 (50 + n) = G (50 + n) := fun n => e _ (by omega)
  have e60 : ∀ n, G1 (60 + n) = G (60 + n) := fun n => e _ (by omega)
  unfold Rp RpN RpO RpV RpS at h ⊢
  simp only [e 30 (by decide), e 31 (by decide), e 32 (by decide), e 33 (by decide), e 34 (by decide), e 35 (by decide), e 36 (by decide), e 37 (by decide), e 38 (by decide), e40, e50, e60]
  exact h
theorem gfill_ne {G : GS} {j k : Nat} {x : Int32} (h : k ≠ j) : gfill G j x k = G k := by
  funext b
  unfold gfill
  have : Nat.beq k j = false := by cases hq : Nat.beq k j with
    | true => exact absurd (Nat.eq_of_beq_eq_true hq) h
    | false => rfl
  rw [this]; rfl
theorem gfill_self {G : GS} {j b : Nat} {x : Int32} : gfill G j x j b = x := by
  unfold gfill
  have : Nat.beq j j = true := by simp
  rw [this]; rfl
theorem grow_ne {G : GS} {j k : Nat} {f : Nat → Int32} (h : k ≠ j) : grow G j f k = G k := by
  funext b
  unfold grow
  have : Nat.beq k j = false := by cases hq : Nat.beq k j with
    | true => exact absurd (Nat.eq_of_beq_eq_true hq) h
    | false => rfl
  rw [this]; rfl
theorem grow_self {G : GS} {j : Nat} {f : Nat → Int32} : grow G j f j = f := by
  funext b
  unfold grow
  have : Nat.beq j j = true := by simp
  rw [this]; rfl
theorem Rp.fill {cA : Nat → ClassId} {G : GS} {Z : ZT} {j : Nat} {x : Int32} (hj : j < 30) (h : Rp cA G Z) : Rp cA (gfill G j x) Z := h.low (fun k hk => gfill_ne (by omega))
/-- Arrays.fill over an array of the picture -/
theorem c_fill {j q0 n : Nat} {x : Int32} {index : Nat} (X : CC RX0 cc nL rt D cA A p s m args meth c) (Y : CY D cA A s h ad G Z H locs) (hj : j < 30) (hn : n ≤ 160) (ha : (cW h ad cA G Z)[q0]? = some (ad j, .inl (cA 0, n, .inl (G j))))
    (hset : (cW h ad cA G Z).set q0 (ad j, .inl (cA 0, n, .inl (fun _ => x))) = cW h ad cA G1 Z) (eG : G1 = gfill G j x) (hq : Cond.methodLink RX0 index yJ0_fill ∈ lw_all) (hR : 1 ≤ R.frames ∧ 40 ≤ R.locals) (hl : ls.size = nL) (hW : (rest.map fun v => v.category).sum ≤ 8) (hc : cells ≤ R.cells ∧ slots ≤ R.slots) (hdg : decode cc pc = .ok (.invokestatic index, 3))
    (kk : ∀ (H1 : Heap) (locs1 : List Loc), CY D cA A s h ad G1 Z H1 locs1 → W p l e R s m args below meth c H1 locs1 cells slots Q (F0 m (pc + 3) ls rest)) : W p l e R s m args below meth c H locs cells slots Q (F0 m pc ls (.int x :: .ref (ad j) :: rest)) := by
  have hz1 : va_P D cls [(ad j, .inl (cA 0, n, .inl (G j)))] H := fun k z hz => by
    have hk : k = 0 := by
      have := (List.getElem?_eq_some_iff.mp hz).1
      simpa using this
    subst hk
    cases hz
    exact Y.1.1 q0 _ ha
  have hD1 : va_D (fun _ => True) [(ad j, .inl (cA 0, n, .inl (G j)))] := Y.1.2.1.sub [q0] (by simp [va_nd]) (by simp [ha]) |>.weaken (fun _ _ _ _ => trivial)
  obtain ⟨hx, hb, hml, hown, hts, hrt, hlk⟩ := X.1.1
  have hpre := k_pre X.1.2.1 X.2.1 Y.1 hz1 hD1 [.ref (ad j), .int x]
  refine k_tail (w' := cW h ad cA G1 Z) (va_runS (l := l) (e := e) (R := R) (below := below) (meth := meth) (H := H) (locs := locs) (cells := cells) (slots := slots) (mc := 0) (ms := 0) (rest := rest) (As := [.ref (ad j), .int x]) (Ts := lw_all) (cc := cc) (nL := nL) ⟨hx, hb, hml, hown, hts⟩ (kFill (D := D) (cA := cA) l (f := G j) (by omega) H.size)
    (va_cwS 2 hts (lw_S hq q148 q69 q149) rfl rfl rfl (by decide +kernel) ⟨hR.1, by show 8 + (4 + 11) + 40 * 0 ≤ R.locals; omega⟩) hpre rfl rfl hl rfl (lv_room hW) hdg hc) Y.1 X.1.2.2 (fun k z hz => ⟨q0, by
      have hk : k = 0 := by
        have := (List.getElem?_eq_some_iff.mp hz).1
        simpa using this
      subst hk
      cases hz
      exact ha⟩) (by rw [← hset]; exact Y.1.2.1.set ha) (fun k z hz => ?_) (fun H1 locs1 Y1 => kk H1 locs1 ⟨Y1, by rw [eG]; exact Y.2.fill hj⟩)
  rw [← hset] at hz
  by_cases hk : k = q0
  · subst hk
    rw [List.getElem?_set_self (List.getElem?_eq_some_iff.mp ha).1] at hz
    exact Or.inl ⟨0, hz⟩
  · rw [List.getElem?_set_ne (Ne.symm hk)] at hz
    refine Or.inr ⟨⟨k, hz⟩, fun i y hy e => ?_⟩
    have hi : i = 0 := by
      have := (List.getElem?_eq_some_iff.mp hy).1
      simpa using this
    subst hi
    cases hy
    exact hk (Y.1.2.1.1 k q0 z _ hz ha e.symm)
theorem P_set_ext {w : va_W} {q a : Nat} {e e' : va_E} (h : va_P D cls (w.set q (a, e)) H) (he : va_at D cls (a, e) H → va_at D cls (a, e') H) : va_P D cls (w.set q (a, e')) H := by
  intro k z hz
  by_cases hk : k = q
  · subst hk
    have hl : k < w.length := by
      have := (List.getElem?_eq_some_iff.mp hz).1
      simpa using this
    rw [List.getElem?_set_self hl] at hz
    cases hz
    exact he (h k _ (List.getElem?_set_self hl))
  · rw [List.getElem?_set_ne (Ne.symm hk)] at hz
    exact h k z (by rw [List.getElem?_set_ne (Ne.symm hk)]; exact hz)
/-- an array made aside, as a copy of the news -/
theorem Rp.newHeard {cA : Nat → ClassId} {G : GS} {Z : ZT} {q : Nat} {f : Nat → Int32} (hR : Rp cA G Z) (hq : q ∉ Z.2.1) : Rp cA (grow G 38 f) ((fun k => bif Nat.beq k 38 then (fun _ => some q) else Z.1 k), Z.2.1 ++ [q], va_up Z.2.2 q (.inl (cA 0, 6, .inl f))) := by
  obtain ⟨hN, hO, hV, own', ow, s1, s2, s3, s4, s5⟩ := hR
  have hG : ∀ k, k ≠ 38 → grow G 38 f k = G k := fun k hk => grow_ne hk
  have hL : ∀ a, a ∈ Z.2.1 → a ∈ Z.2.1 ++ [q] := fun a h => List.mem_append_left _ h
  have key : ∀ b, b ∈ Z.2.1 → va_up Z.2.2 q (.inl (cA 0, 6, .inl f)) b = Z.2.2 b := fun b hb => va_up_ne _ _ (fun e => hq (e ▸ hb))
  have st : ∀ b g, StAt cA Z b (own' b).1 (own' b).2.1 (own' b).2.2 g → StAt cA ((fun k => bif Nat.beq k 38 then (fun _ => some q) else Z.1 k), Z.2.1 ++ [q], va_up Z.2.2 q (.inl (cA 0, 6, .inl f))) b (own' b).1 (own' b).2.1 (own' b).2.2 g := fun b g hs => hs.mv (fun _ _ => rfl) hL (key _ hs.1) (key _ hs.2.1) (key _ hs.2.2.1) (key _ hs.2.2.2.1)
  have hw : ∀ b, b ∈ Z.2.1 → va_up ow q q b = ow b := fun b hb => va_up_ne _ _ (fun e => hq (e ▸ hb))
  refine ⟨hN.mv (fun i _ => by rw [hG 30 (by decide)]) (fun i _ => by rw [hG 31 (by decide)]) (fun _ _ => rfl) hL (fun b ci fs hb _ _ => key b hb), hO.mv (fun i _ => by rw [hG 32 (by decide)]) (fun i _ => by rw [hG 33 (by decide)]) (fun i _ => by rw [hG 34 (by decide)]) (fun _ _ => rfl) hL (fun b ci fs hb _ _ => key b hb),
    hV.mv (fun i _ => by rw [hG 37 (by decide)]) (fun i _ j _ => by rw [hG (60 + i) (by omega)]) (fun _ _ => rfl) hL (fun b g hb _ => key b hb), own', va_up ow q q, ?_, ?_, s3, s4, Or.inr ⟨q, rfl, List.mem_append_right _ (List.mem_singleton.mpr rfl), ?_, va_up_self _ _ _⟩⟩
  · intro k hk
    rw [hG 35 (by decide), hG (40 + k) (by omega)]
    rcases s1 k hk with q | ⟨b, q1, q2, q3, q4, q5, q6, q7⟩
    · exact Or.inl q
    · exact Or.inr ⟨b, q1, q2, st b _ q3, by rw [hw _ q3.2.1]; exact q4, by rw [hw _ q3.2.2.1]; exact q5, by rw [hw _ q3.2.2.2.1]; exact q6, q7⟩
  · intro k hk
    rw [hG 36 (by decide), hG (50 + k) (by omega)]
    rcases s2 k hk with q | ⟨b, q1, q2, q3, q4, q5, q6, q7⟩
    · exact Or.inl q
    · exact Or.inr ⟨b, q1, q2, st b _ q3, by rw [hw _ q3.2.1]; exact q4, by rw [hw _ q3.2.2.1]; exact q5, by rw [hw _ q3.2.2.2.1]; exact q6, q7⟩
  · rw [grow_self]
    exact va_up_self _ _ _
/-- kept[i] = null -/
theorem c_keptN {i : Int32} (X : CC RX0 cc nL rt D cA A p s m args meth c) (Y : CY D cA A s h ad G Z H locs) (hi : inb i 2) (eG : G1 = gu G 35 i.toNatClampNeg 0) (hdg : decode cc pc = .ok (.aastore, 1))
    (kk : ∀ (H1 : Heap) (locs1 : List Loc) (Z1 : ZT), CY D cA A s h ad G1 Z1 H1 locs1 → W p l e R s m args below meth c H1 locs1 cells slots Q (F0 m (pc + 1) ls rest)) : W p l e R s m args below meth c H locs cells slots Q (F0 m pc ls (.null :: .int i :: .ref (ad 9) :: rest)) := by
  obtain ⟨hN, hO, hV, own', ow, s1, s2, s3, s4, s5⟩ := Y.2
  refine va_astqN X.1.1.1 X.1.1.2.1 X.1.2.1 Y.1.1 Y.1.2.1 Y.1.2.2 8 4 (show (cW h ad cA G Z)[8]? = some (ad 9, .inl (cA 4, 2, oref (Z.1 9))) from rfl) rfl (inb_in hi) hdg (fun H1 locs1 hP hD hS => ?_)
  have hset : (cW h ad cA G Z).set 8 (ad 9, .inl (cA 4, 2, oref (va_up (Z.1 9) i.toNatClampNeg none))) = cW h ad cA G1 (fun k => bif Nat.beq k 9 then va_up (Z.1 9) i.toNatClampNeg none else Z.1 k, Z.2) := by
    rw [eG]; rfl
  rw [hset] at hP hD
  have hG : ∀ k, k ≠ 35 → G1 k = G k := fun k hk => by
    funext b
    rw [eG, gu_ap, if_neg (fun e => hk e.1)]
  refine kk H1 locs1 _ ⟨⟨hP, hD, hS⟩, hN.mv (fun i _ => by rw [hG 30 (by decide)]) (fun i _ => by rw [hG 31 (by decide)]) (fun _ _ => rfl) (fun _ h => h) (fun _ _ _ _ _ _ => rfl), hO.mv (fun i _ => by rw [hG 32 (by decide)]) (fun i _ => by rw [hG 33 (by decide)]) (fun i _ => by rw [hG 34 (by decide)]) (fun _ _ => rfl) (fun _ h => h) (fun _ _ _ _ _ _ => rfl), hV.mv (fun i _ => by rw [hG 37 (by decide)]) (fun i _ j _ => by rw [hG (60 + i) (by omega)]) (fun _ _ => rfl) (fun _ h => h) (fun _ _ _ _ => rfl), own', ow, ?_, ?_, s3, ?_, ?_⟩
  · intro k hk
    rw [hG (40 + k) (by omega)]
    by_cases e : k = i.toNatClampNeg
    · refine Or.inl ⟨?_, ?_⟩
      · show va_up (Z.1 9) i.toNatClampNeg none k = none
        rw [e]; exact va_up_self _ _ _
      · rw [eG, gu_ap, if_pos ⟨rfl, e⟩]
    · have e1 : (fun k => bif Nat.beq k 9 then va_up (Z.1 9) i.toNatClampNeg none else Z.1 k) 9 k = Z.1 9 k := va_up_ne _ _ e
      have e2 : G1 35 k = G 35 k := by rw [eG, gu_ap, if_neg (fun q => e q.2)]
      show (_ ∧ _) ∨ _
      rw [e2]
      rcases s1 k hk with q | ⟨b, q1, q2, q3, q4⟩
      · exact Or.inl ⟨e1.trans q.1, q.2⟩
      · exact Or.inr ⟨b, e1.trans q1, q2, q3, q4⟩
  · intro k hk
    rw [hG 36 (by decide), hG (50 + k) (by omega)]
    exact s2 k hk
  · intro k j b hk hj h1 h2
    refine s4 k j b hk hj ?_ h2
    have h1 : va_up (Z.1 9) i.toNatClampNeg none k = some b := h1
    by_cases e : k = i.toNatClampNeg
    · rw [e, va_up_self] at h1; cases h1
    · rwa [va_up_ne _ _ e] at h1
  · rw [hG 38 (by decide)]
    exact s5
/-- an array made aside (row 38): read, written, made as a copy of the news, copied back -/
theorem c_heardLd {q_h : Nat} {i v : Int32} (X : CC RX0 cc nL rt D cA A p s m args meth c) (Y : CY D cA A s h ad G Z H locs) (hq : Z.1 38 0 = some q_h) (hi : inb i 6) (hv : v = G 38 i.toNatClampNeg) (hdg : decode cc pc = .ok (.iaload, 1))
    (kk : W p l e R s m args below meth c H locs cells slots Q (F0 m (pc + 1) ls (.int v :: rest))) : W p l e R s m args below meth c H locs cells slots Q (F0 m pc ls (.int i :: .ref q_h :: rest)) := by
  obtain ⟨h2, h3, -⟩ := Y.heard hq
  obtain ⟨q, hq2⟩ := Y.pool h2
  rw [h3] at hq2
  refine va_iald X.1.1.1 X.1.1.2.1 X.1.2.1 Y.1.1 q 0 hq2 rfl (inb_in hi) hdg ?_
  rw [← hv]
  exact kk
theorem c_heardSt {q_h : Nat} {i x : Int32} (X : CC RX0 cc nL rt D cA A p s m args meth c) (Y : CY D cA A s h ad G Z H locs) (hq : Z.1 38 0 = some q_h) (hi : inb i 6) (eG : G1 = gu G 38 i.toNatClampNeg x) (hdg : decode cc pc = .ok (.iastore, 1))
    (kk : ∀ (H1 : Heap) (locs1 : List Loc) (Z1 : ZT), CY D cA A s h ad G1 Z1 H1 locs1 → Z1.1 38 0 = some q_h → W p l e R s m args below meth c H1 locs1 cells slots Q (F0 m (pc + 1) ls rest)) : W p l e R s m args below meth c H locs cells slots Q (F0 m pc ls (.int x :: .int i :: .ref q_h :: rest)) := by
  obtain ⟨h2, h3, -⟩ := Y.heard hq
  obtain ⟨q, hq2⟩ := Y.pool h2
  have hset := fun e => Y.poolSet (e := e) h2 hq2
  rw [h3] at hq2
  refine va_iast X.1.1.1 X.1.1.2.1 X.1.2.1 Y.1.1 Y.1.2.1 Y.1.2.2 q 0 hq2 rfl (inb_in hi) hdg (fun H1 locs1 hP hD hS => ?_)
  rw [hset] at hP hD
  subst eG
  exact kk H1 locs1 _ ⟨⟨hP, hD, hS⟩, Y.2.heardSt hq⟩ hq
theorem c_copyOf {index : Nat} (X : CC RX0 cc nL rt D cA A p s m args meth c) (Y : CY D cA A s h ad G Z H locs) (eG : G1 = grow G 38 (G 21)) (hq : Cond.methodLink RX0 index yJ0_copyOf_2 ∈ lw_all) (hR : 4 ≤ R.frames ∧ 160 ≤ R.locals) (hl : ls.size = nL) (hW : (rest.map fun v => v.category).sum ≤ 8) (hc : cells + 1 ≤ R.cells ∧ slots + 6 ≤ R.slots) (hdg : decode cc pc = .ok (.invokestatic index, 3))
    (kk : ∀ (H1 : Heap) (locs1 : List Loc) (Z1 : ZT) (q_h : Nat), CY D cA A s h ad G1 Z1 H1 locs1 → Z1.1 38 0 = some q_h → W p l e R s m args below meth c H1 locs1 (cells + 1) (slots + 6) Q (F0 m (pc + 3) ls (.ref q_h :: rest))) : W p l e R s m args below meth c H locs cells slots Q (F0 m pc ls (.int 6 :: .ref (ad 21) :: rest)) := by
  have ha : (cW h ad cA G Z)[6]? = some (ad 21, .inl (cA 0, 6, .inl (G 21))) := rfl
  have hz1 : va_P D cls [(ad 21, .inl (cA 0, 6, .inl (G 21)))] H := fun k z hz => by
    have hk : k = 0 := by
      have := (List.getElem?_eq_some_iff.mp hz).1
      simpa using this
    subst hk
    cases hz
    exact Y.1.1 6 _ ha
  have hD1 : va_D (fun _ => True) [(ad 21, .inl (cA 0, 6, .inl (G 21)))] := Y.1.2.1.sub [6] (by simp [va_nd]) (by simp [ha]) |>.weaken (fun _ _ _ _ => trivial)
  obtain ⟨hx, hb, hml, hown, hts, hrt, hlk⟩ := X.1.1
  have hpre := k_pre X.1.2.1 X.2.1 Y.1 hz1 hD1 [.ref (ad 21), .int 6]
  have hr := va_runS (l := l) (e := e) (R := R) (below := below) (meth := meth) (H := H) (locs := locs) (cells := cells) (slots := slots) (mc := 1) (ms := 6) (g := F0 m pc ls (.int 6 :: .ref (ad 21) :: rest)) (rest := rest) (As := [.ref (ad 21), .int 6]) (Ts := lw_all) (cc := cc) (nL := nL) ⟨hx, hb, hml, hown, hts⟩ (kCopyI (D := D) (cA := cA) l (f := G 21) H.size)
    (va_cwS 2 hts (lw_S hq q961 q69 q962) rfl rfl rfl (by decide +kernel) ⟨by show 1 + 1 ≤ R.frames; omega, by show 8 + (3 + 11) + 40 * 1 ≤ R.locals; omega⟩) hpre rfl rfl hl rfl (lv_room hW) hdg hc
  have hfr := CY.fr X Y
  have hfr1 : ∀ z, va_A [(ad 21, .inl (cA 0, 6, .inl (G 21)))] H.size z → A z := fun z hz => by
    rcases hz with ⟨k, e, hk⟩ | hz
    · have hk0 : k = 0 := by
        have := (List.getElem?_eq_some_iff.mp hk).1
        simpa using this
      subst hk0
      have hz : ad 21 = z := congrArg Prod.fst (Option.some.inj hk)
      rw [← hz]
      exact Y.1.2.1.2 6 _ ha
    · exact hfr z (Or.inr hz)
  intro T hT XT
  obtain ⟨v, st₀, t, T', L, h0, X', hL, e1, e2, ⟨q, hv, hP1, hqs, hz, hk⟩, st⟩ := hr T hT XT
  cases hv
  rw [h0] at hz hk
  have hqL : q ∉ Z.2.1 := fun hh => by
    have := va_pl_lt (X := cX0W h ad cA G Z) Y.1.1 hh
    omega
  obtain ⟨Z1, eZ⟩ : ∃ Z1 : ZT, Z1 = ((fun k => bif Nat.beq k 38 then (fun _ => some q) else Z.1 k), Z.2.1 ++ [q], va_up Z.2.2 q (.inl (cA 0, 6, .inl (G 21)))) := ⟨_, rfl⟩
  have hpush : cW h ad cA G1 Z1 = cW h ad cA G Z ++ [(q, .inl (cA 0, 6, .inl (G 21)))] := by
    show cX0W h ad cA G1 Z1 ++ va_pl Z1.2.1 Z1.2.2 = (cX0W h ad cA G Z ++ va_pl Z.2.1 Z.2.2) ++ [(q, .inl (cA 0, 6, .inl (G 21)))]
    rw [List.append_assoc, va_pl_push hqL, eZ, eG]
    rfl
  have hone : ∀ (k : Nat) (z : Nat × va_E), [((q, .inl (cA 0, 6, .inl (G 21))) : Nat × va_E)][k]? = some z → k = 0 ∧ z = (q, .inl (cA 0, 6, .inl (G 21))) := fun k z hz => by
    have hk0 : k = 0 := by
      have := (List.getElem?_eq_some_iff.mp hz).1
      simpa using this
    subst hk0
    cases hz
    exact ⟨rfl, rfl⟩
  obtain ⟨t2, a1, b1⟩ := kk T'.heap (locs ++ L) Z1 q ⟨⟨by
      rw [hpush, e1]
      refine va_P.app (fun k z hz' => ?_) (fun k z hz' => ?_)
      · by_cases hza : z.1 = ad 21
        · have hk6 := Y.1.2.1.1 k 6 z _ hz' ha hza
          subst hk6
          rw [ha] at hz'
          cases hz'
          exact hP1 0 _ rfl
        · have hlt := (Y.1.1 k z hz').lt
          refine (Y.1.1 k z hz').kept (hk _ hlt (fun hq => ?_))
          rcases hq with ⟨i, e, hi⟩ | hq
          · have hi0 : i = 0 := by
              have := (List.getElem?_eq_some_iff.mp hi).1
              simpa using this
            subst hi0
            exact hza (congrArg Prod.fst (Option.some.inj hi)).symm
          · omega
      · obtain ⟨-, rfl⟩ := hone k z hz'
        exact hP1 1 _ rfl, by
      rw [hpush]
      refine va_D.app Y.1.2.1 ⟨fun i j x y hi hj _ => by rw [(hone i x hi).1, (hone j y hj).1], fun k z hz' => by rw [(hone k z hz').2]; exact hfr q (Or.inr hqs)⟩ (fun i j x y hi hj e => ?_)
      have hlt := (Y.1.1 i x hi).lt
      rw [(hone j y hj).2] at e
      rw [e] at hlt
      have : q < H.size := hlt
      omega,
    ⟨Nat.le_trans Y.1.2.2.1 (by rw [e1]; exact hz), fun z h1 h2 => by rw [e1, hk z (Nat.lt_of_lt_of_le h1 Y.1.2.2.1) (fun w => h2 (hfr1 z w))]; exact Y.1.2.2.2.1 z h1 h2, fun z hz' => by
      rcases List.mem_append.mp hz' with hh | hh
      · exact Y.1.2.2.2.2 z hh
      · exact hfr1 _ (hL z hh)⟩⟩, by rw [eG, eZ]; exact Y.2.newHeard hqL⟩ (by rw [eZ]; rfl) T' rfl X'
  exact ⟨t2, st t2 a1, b1⟩
theorem c_heardBack {q_h : Nat} {index : Nat} (X : CC RX0 cc nL rt D cA A p s m args meth c) (Y : CY D cA A s h ad G Z H locs) (hz : Z.1 38 0 = some q_h) (eG : G1 = grow G 21 (G 38)) (hq : Cond.methodLink RX0 index ⟨"java/lang/System", "arraycopy", "(Ljava/lang/Object;ILjava/lang/Object;II)V"⟩ ∈ lw_all) (hR : 1 ≤ R.frames ∧ 40 ≤ R.locals) (hl : ls.size = nL) (hW : (rest.map fun v => v.category).sum ≤ 8) (hc : cells ≤ R.cells ∧ slots ≤ R.slots) (hdg : decode cc pc = .ok (.invokestatic index, 3))
    (kk : ∀ (H1 : Heap) (locs1 : List Loc), CY D cA A s h ad G1 Z H1 locs1 → W p l e R s m args below meth c H1 locs1 cells slots Q (F0 m (pc + 3) ls rest)) : W p l e R s m args below meth c H locs cells slots Q (F0 m pc ls (.int 6 :: .int 0 :: .ref (ad 21) :: .int 0 :: .ref q_h :: rest)) := by
  obtain ⟨h2, h3, -⟩ := Y.heard hz
  obtain ⟨q, hq2⟩ := Y.pool h2
  rw [h3] at hq2
  refine va_copyi X.1.1.1 X.1.1.2.1 (X.1.1.2.2.1.trans hl.symm) X.1.1.2.2.2.1 (X.1.1.2.2.2.2.1 _ hq) (X.1.1.2.2.2.2.1 _ q375) (X.1.1.2.2.2.2.1 _ q374) (X.1.1.2.2.2.2.1 _ q78) X.1.2.1 Y.1.1 Y.1.2.1 Y.1.2.2 q 6 0 0 hq2 (show (cW h ad cA G Z)[6]? = some (ad 21, .inl (cA 0, 6, .inl (G 21))) from rfl) rfl rfl rfl (by decide) (by decide) (by decide) (Nat.le_of_ble_eq_true rfl) (Nat.le_of_ble_eq_true rfl) (fun i _ => rfl) hR.1 ?_ hdg (fun H1 locs1 hP hD hS => ?_)
  · have e : nativeFrameWords "java/lang/System" "arraycopy" 5 = 7 := by decide
    omega
  · have hP := P_set_ext (e' := .inl (cA 0, 6, .inl (G 38))) hP (fun h => at_ext (fun i hi => pk_cpy_in (Nat.zero_le _) (by show i < 0 + 6; omega)) h |> at_ext (fun i hi => by show G 38 (0 + (i - 0)) = _; simp))
    have hset : (cW h ad cA G Z).set 6 (ad 21, .inl (cA 0, 6, .inl (G 38))) = cW h ad cA G1 Z := by
      rw [eG, show (G 38) = (grow G 21 (G 38)) 21 from grow_self.symm]
      rfl
    rw [hset] at hP
    refine kk H1 locs1 ⟨⟨hP, ?_, hS⟩, by rw [eG]; exact Y.2.low (fun k hk => grow_ne (by omega))⟩
    rw [← hset]
    exact Y.1.2.1.set (show (cW h ad cA G Z)[6]? = some (ad 21, .inl (cA 0, 6, .inl (G 21))) from rfl)
theorem c_mmax {x y v : Int32} {index : Nat} (X : CC RX0 cc nL rt D cA A p s m args meth c) (Y : CY D cA A s h ad G Z H locs) (hv : v = if x < y then y else x) (hq : Cond.methodLink RX0 index yJ6_max ∈ lw_all) (hR : 1 ≤ R.frames ∧ 40 ≤ R.locals) (hl : ls.size = nL) (hW : (rest.map fun v => v.category).sum ≤ 8) (hc : cells ≤ R.cells ∧ slots ≤ R.slots) (hdg : decode cc pc = .ok (.invokestatic index, 3))
    (kk : W p l e R s m args below meth c H locs cells slots Q (F0 m (pc + 3) ls (.int v :: rest))) : W p l e R s m args below meth c H locs cells slots Q (F0 m pc ls (.int y :: .int x :: rest)) := by
  subst hv
  exact va_mmax X.1.1.1 X.1.1.2.1 (X.1.1.2.2.1.trans hl.symm) X.1.1.2.2.2.1 (X.1.1.2.2.2.2.1 _ hq) (X.1.1.2.2.2.2.1 _ q353) (X.1.1.2.2.2.2.1 _ q77) (X.1.1.2.2.2.2.1 _ q354) hR.1 (by omega) hc.1 hc.2 hdg kk
theorem c_mmin {x y v : Int32} {index : Nat} (X : CC RX0 cc nL rt D cA A p s m args meth c) (Y : CY D cA A s h ad G Z H locs) (hv : v = if y < x then y else x) (hq : Cond.methodLink RX0 index yJ6_min ∈ lw_all) (hR : 1 ≤ R.frames ∧ 40 ≤ R.locals) (hl : ls.size = nL) (hW : (rest.map fun v => v.category).sum ≤ 8) (hc : cells ≤ R.cells ∧ slots ≤ R.slots) (hdg : decode cc pc = .ok (.invokestatic index, 3))
    (kk : W p l e R s m args below meth c H locs cells slots Q (F0 m (pc + 3) ls (.int v :: rest))) : W p l e R s m args below meth c H locs cells slots Q (F0 m pc ls (.int y :: .int x :: rest)) := by
  subst hv
  exact va_mmin X.1.1.1 X.1.1.2.1 (X.1.1.2.2.1.trans hl.symm) X.1.1.2.2.2.1 (X.1.1.2.2.2.2.1 _ hq) (X.1.1.2.2.2.2.1 _ q371) (X.1.1.2.2.2.2.1 _ q77) (X.1.1.2.2.2.2.1 _ q372) hR.1 (by omega) hc.1 hc.2 hdg kk
end COBJ
