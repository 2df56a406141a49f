/-! ROWS: a state set from another, made, stored -/
set_option maxRecDepth 100000
/-- now, as one row: renown 0 .. 5, news 6 .. 11, row 12 .. 19, there 20, day 21 -/
def snap (G : GS) : Nat → Int32 := fun i => if i < 6 then G 20 i else if i < 12 then G 21 (i - 6) else if i < 20 then G 22 (i - 12) else if i = 20 then G 8 3 else G 8 4
/-- now set from such a row -/
def load (G : GS) (f : Nat → Int32) : GS := fun a b =>
  if a = 20 then (if b < 6 then f b else G a b) else if a = 21 then (if b < 6 then f (6 + b) else G a b) else if a = 22 then (if b < 8 then f (12 + b) else G a b)
  else if a = 8 then (if b = 3 then f 20 else if b = 4 then f 21 else G a b) else G a b
/-- the oldest of eight goes to the end -/
def shiftG (G : GS) : GS := fun a b =>
  if 50 ≤ a ∧ a < 57 then G (a + 1) b else if a = 57 then G 50 b else if a = 36 then (if b < 7 then G 36 (b + 1) else if b = 7 then G 36 0 else G 36 b) else G a b
theorem D_addr {A : Nat → Prop} {w w' : va_W} (h : va_D A w) (e : w'.map Prod.fst = w.map Prod.fst) : va_D A w' := by
  have key : ∀ (k : Nat) (z : Nat × va_E), w'[k]? = some z → ∃ z', w[k]? = some z' ∧ z'.1 = z.1 := by
    intro k z hz
    have h1 : (w'.map Prod.fst)[k]? = some z.1 := by rw [List.getElem?_map, hz]; rfl
    rw [e, List.getElem?_map] at h1
    cases hw : w[k]? with
    | none => rw [hw] at h1; cases h1
    | some z' => rw [hw] at h1; exact ⟨z', rfl, Option.some.inj h1⟩
  refine ⟨fun i j x y hi hj exy => ?_, fun k z hz => ?_⟩
  · obtain ⟨x', h1, h2⟩ := key i x hi
    obtain ⟨y', h3, h4⟩ := key j y hj
    exact h.1 i j x' y' h1 h3 (by rw [h2, h4, exy])
  · obtain ⟨z', h1, h2⟩ := key k z hz
    rw [← h2]
    exact h.2 k z' h1
/-- which cells of the new world the callee has told of: those of its addresses -/
theorem hnew_ad {A : Nat → Prop} {w w' wc wc' : va_W} (hD' : va_D A w') (h1 : ∀ z ∈ wc', z ∈ w') (h2 : wc.map Prod.fst = wc'.map Prod.fst) (h3 : ∀ (k : Nat) (z : Nat × va_E), w'[k]? = some z → z.1 ∉ wc.map Prod.fst → w[k]? = some z) :
    ∀ (k : Nat) (z : Nat × va_E), w'[k]? = some z → (∃ j : Nat, wc'[j]? = some z) ∨ ((∃ j : Nat, w[j]? = some z) ∧ ∀ (i : Nat) (y : Nat × va_E), wc[i]? = some y → y.1 ≠ z.1) := by
  intro k z hz
  by_cases hm : z.1 ∈ wc.map Prod.fst
  · rw [h2] at hm
    obtain ⟨z', hz', e⟩ := List.mem_map.mp hm
    obtain ⟨k', hk'⟩ := List.mem_iff_getElem?.mp (h1 z' hz')
    have hkk := hD'.1 k k' z z' hz hk' e.symm
    subst hkk
    rw [hz] at hk'
    cases hk'
    exact Or.inl (List.mem_iff_getElem?.mp hz')
  · exact Or.inr ⟨⟨k, h3 k z hz hm⟩, fun i y hy e => hm (by rw [← e]; exact List.mem_map.mpr ⟨y, List.mem_of_getElem? hy, rfl⟩)⟩
theorem cW_low (h : Nat) (ad : Nat → Nat) (cA : Nat → ClassId) (G : GS) (Z : ZT) {k : Nat} (hk : k < 15) : (cW h ad cA G Z)[k]? = (cX0W h ad cA G Z)[k]? := List.getElem?_append_left hk
theorem cW_pl (h : Nat) (ad : Nat → Nat) (cA : Nat → ClassId) (G : GS) (Z : ZT) (i : Nat) : (cW h ad cA G Z)[15 + i]? = (Z.2.1[i]?).map (fun a => (a, Z.2.2 a)) := by
  unfold cW
  rw [List.getElem?_append_right (by show 15 ≤ 15 + i; omega)]
  show (va_pl Z.2.1 Z.2.2)[15 + i - 15]? = _
  rw [show 15 + i - 15 = i from by omega]
  unfold va_pl
  rw [List.getElem?_map]
theorem cW_mem {h : Nat} {ad : Nat → Nat} {cA : Nat → ClassId} {G : GS} {Z : ZT} {a : Nat} (ha : a ∈ Z.2.1) : (a, Z.2.2 a) ∈ cW h ad cA G Z := List.mem_append_right _ (List.mem_map.mpr ⟨a, ha, rfl⟩)
theorem cW_adr (h : Nat) (ad : Nat → Nat) (cA : Nat → ClassId) (G G' : GS) {Z Z' : ZT} (e : Z'.2.1 = Z.2.1) : (cW h ad cA G' Z').map Prod.fst = (cW h ad cA G Z).map Prod.fst := by
  unfold cW va_pl
  rw [List.map_append, List.map_append, List.map_map, List.map_map, e]
  rfl
section STATE2
variable {p : Program} {l : Launch} {e : Env} {R : Room} {s : State} {m : MethodId} {args : Array Value} {below : List Frame} {meth : Method} {c : Code} {H : Heap} {locs : List Loc} {cells slots : Nat} {Q : State → Prop}
variable {own : String} {cc : ByteArray} {nL : Nat} {rt : Option FieldType} {pc : Nat} {ls : Array Slot} {rest : List Value} {D : va_G} {cA : Nat → ClassId} {h : Nat} {ad : Nat → Nat} {A : Nat → Prop} {G G1 : GS} {Z Z0 Z1 : ZT}
theorem k_preV {A : Nat → Prop} {w wc : va_W} {C : String} {ci q0 a : Nat} {q : vw_C} {fs : List Value} (hK : va_K D cls (tyL cA) s) (hT : TWs s) (Y : WX D A s w H locs) (hP : va_P D cls wc H) (hD : va_D (fun _ => True) wc) (av : List Value) (hc : cls[ci]? = some q) (hC : q.1 = C) (he : wc[q0]? = some (a, .inr (ci, fs))) : PreV s H C a (va_Pc (.ref a :: av) (fun U => U.heap.size = H.size ∧ va_P D cls wc U.heap ∧ va_K D cls (tyL cA) U ∧ va_D (fun _ => True) wc ∧ TWs U)) av :=
  ⟨(k_pre hK hT Y hP hD (.ref a :: av)).1, by rw [← hC]; exact va_recv hK hP hc he, (k_pre hK hT Y hP hD (.ref a :: av)).2⟩
/-- the cells of now -/
abbrev nowW (cA : Nat → ClassId) (ad : Nat → Nat) (G : GS) : va_W := stW cA (ad 8) (ad 20) (ad 21) (ad 22) (G 20) (G 21) (G 22) (G 8 3) (G 8 4)
theorem now_sub : ∀ z ∈ nowW cA ad G, z ∈ cW h ad cA G Z := by
  intro z hz
  simp only [List.mem_cons, List.not_mem_nil, or_false] at hz
  rcases hz with e | e | e | e <;> subst e
  · exact List.mem_of_getElem? (i := 4) rfl
  · exact List.mem_of_getElem? (i := 5) rfl
  · exact List.mem_of_getElem? (i := 6) rfl
  · exact List.mem_of_getElem? (i := 7) rfl
/-- the cells of a made state -/
theorem st_sub {b r n w : Nat} {f g1 g2 g3 : Nat → Int32} (hst : StAt cA Z b r n w f) (h1 : Z.2.2 r = .inl (cA 0, 6, .inl g1)) (h2 : Z.2.2 n = .inl (cA 0, 6, .inl g2)) (h3 : Z.2.2 w = .inl (cA 0, 8, .inl g3)) : ∀ z ∈ stW cA b r n w g1 g2 g3 (f 20) (f 21), z ∈ cW h ad cA G Z := by
  obtain ⟨m1, m2, m3, m4, m5, -⟩ := hst
  intro z hz
  simp only [List.mem_cons, List.not_mem_nil, or_false] at hz
  rcases hz with e | e | e | e <;> subst e
  · rw [← m5]; exact cW_mem m1
  · rw [← h1]; exact cW_mem m2
  · rw [← h2]; exact cW_mem m3
  · rw [← h3]; exact cW_mem m4
/-- which cells lie apart: those at places that differ -/
theorem D_of_mem {w wc : va_W} (hD : va_D A w) (hs : ∀ z ∈ wc, z ∈ w) (hn : (wc.map Prod.fst).Nodup) : va_D (fun _ => True) wc := by
  refine ⟨fun i j x y hi hj e => ?_, fun _ _ _ => trivial⟩
  have h1 : (wc.map Prod.fst)[i]? = some x.1 := by rw [List.getElem?_map, hi]; rfl
  have h2 : (wc.map Prod.fst)[j]? = some x.1 := by rw [List.getElem?_map, hj, e]; rfl
  have hi2 := (List.getElem?_eq_some_iff.mp h1).1
  exact (List.getElem?_inj hi2 hn).mp (h1.trans h2.symm)
theorem va_pl_at {q0 : Nat} {a : Nat} (hD : va_D A (cW h ad cA G Z)) (ha : a ∈ Z.2.1) (hq : q0 < 15) {x : Nat × va_E} (hx : (cW h ad cA G Z)[q0]? = some x) : x.1 ≠ a := by
  intro e
  obtain ⟨i, hi⟩ := List.mem_iff_getElem?.mp ha
  have h1 : (cW h ad cA G Z)[15 + i]? = some (a, Z.2.2 a) := by rw [cW_pl, hi]; rfl
  have := hD.1 q0 (15 + i) x _ hx h1 e
  omega
theorem nodup_now {b r n w : Nat} {f : Nat → Int32} (hD : va_D A (cW h ad cA G Z)) (hst : StAt cA Z b r n w f) (hrn : r ≠ n) : [ad 8, ad 20, ad 21, ad 22, b, r, n, w].Nodup := by
  obtain ⟨m1, m2, m3, m4, m5, ⟨g1, m6, -⟩, ⟨g2, m7, -⟩, ⟨g3, m8, -⟩⟩ := hst
  have f8 : ∀ a, a ∈ Z.2.1 → ad 8 ≠ a := fun a ha => va_pl_at (q0 := 4) (x := (ad 8, _)) hD ha (by decide) rfl
  have f20 : ∀ a, a ∈ Z.2.1 → ad 20 ≠ a := fun a ha => va_pl_at (q0 := 5) (x := (ad 20, _)) hD ha (by decide) rfl
  have f21 : ∀ a, a ∈ Z.2.1 → ad 21 ≠ a := fun a ha => va_pl_at (q0 := 6) (x := (ad 21, _)) hD ha (by decide) rfl
  have f22 : ∀ a, a ∈ Z.2.1 → ad 22 ≠ a := fun a ha => va_pl_at (q0 := 7) (x := (ad 22, _)) hD ha (by decide) rfl
  have d1 : ad 8 ≠ ad 20 := fun e => absurd (hD.1 4 5 (ad 8, _) (ad 20, _) rfl rfl e) (by decide)
  have d2 : ad 8 ≠ ad 21 := fun e => absurd (hD.1 4 6 (ad 8, _) (ad 21, _) rfl rfl e) (by decide)
  have d3 : ad 8 ≠ ad 22 := fun e => absurd (hD.1 4 7 (ad 8, _) (ad 22, _) rfl rfl e) (by decide)
  have d4 : ad 20 ≠ ad 21 := fun e => absurd (hD.1 5 6 (ad 20, _) (ad 21, _) rfl rfl e) (by decide)
  have d5 : ad 20 ≠ ad 22 := fun e => absurd (hD.1 5 7 (ad 20, _) (ad 22, _) rfl rfl e) (by decide)
  have d6 : ad 21 ≠ ad 22 := fun e => absurd (hD.1 6 7 (ad 21, _) (ad 22, _) rfl rfl e) (by decide)
  have e1 : b ≠ r := fun e => by rw [e, m6] at m5; cases m5
  have e2 : b ≠ n := fun e => by rw [e, m7] at m5; cases m5
  have e3 : b ≠ w := fun e => by rw [e, m8] at m5; cases m5
  have e4 : r ≠ w := fun e => by
    rw [e, m8] at m6
    injection m6 with m6; injection m6 with _ m6; injection m6 with m6; omega
  have e5 : n ≠ w := fun e => by
    rw [e, m8] at m7
    injection m7 with m7; injection m7 with _ m7; injection m7 with m7; omega
  simp only [List.nodup_cons, List.mem_cons, List.not_mem_nil, or_false, not_or, not_false_eq_true, List.nodup_nil, and_true]
  exact ⟨⟨d1, d2, d3, f8 b m1, f8 r m2, f8 n m3, f8 w m4⟩, ⟨d4, d5, f20 b m1, f20 r m2, f20 n m3, f20 w m4⟩, ⟨d6, f21 b m1, f21 r m2, f21 n m3, f21 w m4⟩, ⟨f22 b m1, f22 r m2, f22 n m3, f22 w m4⟩, ⟨e1, e2, e3⟩, ⟨hrn, e4⟩, e5⟩
/-- now.set(a state that was made) -/
theorem c_setNow {b r n w index : Nat} {f : Nat → Int32} (X : CC RX0 cc nL rt D cA A p s m args meth c) (Y : CY D cA A s h ad G Z H locs) (hst : StAt cA Z b r n w f) (hrn : r ≠ n) (eG : G1 = load G f) (hq : Cond.methodLink RX0 index yX1_set ∈ lw_all) (hR : 2 ≤ R.frames ∧ 80 ≤ R.locals) (hl : ls.size = nL) (hW : (rest.map fun v => v.category).sum ≤ 8) (hc : cells ≤ R.cells ∧ slots ≤ R.slots) (hdg : decode cc pc = .ok (.invokevirtual index, 3))
    (kk : ∀ (H1 : Heap) (locs1 : List Loc), CY D cA A s h ad G1 Z H1 locs1 → W p l e R s m args below meth c H1 locs1 cells slots Q (F0 m (pc + 3) ls (.ref (ad 8) :: rest))) : W p l e R s m args below meth c H locs cells slots Q (F0 m pc ls (.ref b :: .ref (ad 8) :: rest)) := by
  subst eG
  have hnd := nodup_now Y.1.2.1 hst hrn
  have hst0 := hst
  obtain ⟨m1, m2, m3, m4, m5, ⟨g1, m6, t1⟩, ⟨g2, m7, t2⟩, ⟨g3, m8, t3⟩⟩ := hst
  have hsb : ∀ (G' : GS), ∀ z ∈ stW cA b r n w g1 g2 g3 (f 20) (f 21), z ∈ cW h ad cA G' Z := fun G' => st_sub hst0 m6 m7 m8
  obtain ⟨wc, ewc⟩ : ∃ wc : va_W, wc = nowW cA ad G ++ stW cA b r n w g1 g2 g3 (f 20) (f 21) := ⟨_, rfl⟩
  obtain ⟨wd, ewd⟩ : ∃ wd : va_W, wd = nowW cA ad (load G f) ++ stW cA b r n w g1 g2 g3 (f 20) (f 21) := ⟨_, rfl⟩
  have hin : ∀ z ∈ wc, z ∈ cW h ad cA G Z := fun z hz => by
    rw [ewc] at hz
    rcases List.mem_append.mp hz with hz | hz
    · exact now_sub z hz
    · exact hsb G z hz
  have hin2 : ∀ z ∈ wd, z ∈ cW h ad cA (load G f) Z := fun z hz => by
    rw [ewd] at hz
    rcases List.mem_append.mp hz with hz | hz
    · exact now_sub z hz
    · exact hsb _ z hz
  have hPc : va_P D cls wc H := fun k z hz => by
    obtain ⟨j, hj⟩ := List.mem_iff_getElem?.mp (hin z (List.mem_of_getElem? hz))
    exact Y.1.1 j z hj
  have hDc : va_D (fun _ => True) wc := D_of_mem Y.1.2.1 hin (by rw [ewc]; exact hnd)
  have hD' : va_D A (cW h ad cA (load G f) Z) := D_addr Y.1.2.1 (cW_adr h ad cA G (load G f) rfl)
  obtain ⟨hx, hb, hml, hown, hts, hrt, hlk⟩ := X.1.1
  have hM := kSet (D := D) (cA := cA) l (a := ad 8) (r := ad 20) (n := ad 21) (w := ad 22) (o := b) (r2 := r) (n2 := n) (w2 := w) (f1 := G 20) (f2 := G 21) (f3 := G 22) (g1 := g1) (g2 := g2) (g3 := g3) (k1 := load G f 20) (k2 := load G f 21) (k3 := load G f 22) (th := G 8 3) (dy := G 8 4) (th2 := f 20) (dy2 := f 21)
    (fun i hi => by show g1 i = if i < 6 then f i else G 20 i; rw [if_pos hi]; exact t1 i hi) (fun i hi => by show g2 i = if i < 6 then f (6 + i) else G 21 i; rw [if_pos hi]; exact t2 i hi) (fun i hi => by show g3 i = if i < 8 then f (12 + i) else G 22 i; rw [if_pos hi]; exact t3 i hi) H.size
  have hM : Met l yX1_set (ws_ yX1_set cX1_set 2 (some (.object "PerilSeat$State"))) (cR 1 0 0) (va_Pc [.ref (ad 8), .ref b] (fun U => U.heap.size = H.size ∧ va_P D cls wc U.heap ∧ va_K D cls (tyL cA) U ∧ va_D (fun _ => True) wc ∧ TWs U)) (fun _ st oc t => oc = .returned (some (.ref (ad 8))) ∧ va_P D cls wd t.heap ∧ va_F (va_A wc H.size) st t) 0 0 (va_A wc H.size) := by rw [ewc, ewd]; exact hM
  refine k_tail (o := some (.ref (ad 8))) (w := cW h ad cA G Z) (wc := wc) (wc' := wd) (w' := cW h ad cA (load G f) Z) (st0 := .ref b :: .ref (ad 8) :: rest) (va_runV (l := l) (e := e) (R := R) (below := below) (meth := meth) (H := H) (locs := locs) (cells := cells) (slots := slots) (mc := 0) (ms := 0) (rest := rest) (As := [.ref b]) (Ts := lw_all) (cc := cc) (nL := nL) (C := RX1) ⟨hx, hb, hml, hown, hts⟩ hM
    (cwV 1 hts (lw_V hq q916 q917 q68 q918) rfl rfl rfl ⟨rfl, by decide +kernel⟩ ⟨hR.1, by show 8 + (2 + 11) + 40 * 1 ≤ R.locals; omega⟩) (k_preV (ci := 2) (q0 := 0) (q := (RX1, TX1, 5)) X.1.2.1 X.2.1 Y.1 hPc hDc [.ref b] rfl rfl (by rw [ewc]; rfl)) rfl rfl hl rfl (lv_room hW) hdg hc) Y.1 X.1.2.2 (fun k z hz => List.mem_iff_getElem?.mp (hin z (List.mem_of_getElem? hz))) hD' (hnew_ad hD' hin2 (by rw [ewc, ewd]; rfl) (fun k z hz hne => ?_)) (fun H1 locs1 Y1 => kk H1 locs1 ⟨Y1, Y.2.low (fun k hk => ?_)⟩)
  · by_cases hk : k < 15
    · rw [cW_low _ _ _ _ _ hk] at hz ⊢
      match k, hk, hz with
      | 0, _, hz => exact hz
      | 1, _, hz => exact hz
      | 2, _, hz => exact hz
      | 3, _, hz => exact hz
      | 4, _, hz => exact absurd (by rw [ewc]; cases hz; exact List.mem_cons_self) hne
      | 5, _, hz => exact absurd (by rw [ewc]; cases hz; exact List.mem_cons_of_mem _ List.mem_cons_self) hne
      | 6, _, hz => exact absurd (by rw [ewc]; cases hz; exact List.mem_cons_of_mem _ (List.mem_cons_of_mem _ List.mem_cons_self)) hne
      | 7, _, hz => exact absurd (by rw [ewc]; cases hz; exact List.mem_cons_of_mem _ (List.mem_cons_of_mem _ (List.mem_cons_of_mem _ List.mem_cons_self))) hne
      | 8, _, hz => exact hz
      | 9, _, hz => exact hz
      | 10, _, hz => exact hz
      | 11, _, hz => exact hz
      | 12, _, hz => exact hz
      | 13, _, hz => exact hz
      | 14, _, hz => exact hz
      | k + 15, hk, _ => omega
    · obtain ⟨i, rfl⟩ : ∃ i, k = 15 + i := ⟨k - 15, by omega⟩
      rw [cW_pl] at hz ⊢
      exact hz
  · funext b
    unfold load
    rw [if_neg (by omega), if_neg (by omega), if_neg (by omega), if_neg (by omega)]
theorem CY.backAt {i : Nat} (Y : CY D cA A s h ad G Z H locs) (hi : i < 8) (hn : G 36 i = 1) : ∃ v r n w, Z.1 10 i = some v ∧ StAt cA Z v r n w (G (50 + i)) ∧ r ≠ n := by
  obtain ⟨-, -, -, own', ow, s1, s2, -⟩ := Y.2
  rcases s2 i hi with ⟨-, h2⟩ | ⟨a, h1, -, h3, -, -, -, h7⟩
  · rw [h2] at hn; exact absurd hn (by decide)
  · exact ⟨a, _, _, _, h1, h3, h7⟩
theorem CY.keptAt {i : Nat} (Y : CY D cA A s h ad G Z H locs) (hi : i < 2) (hn : G 35 i = 1) : ∃ v r n w, Z.1 9 i = some v ∧ StAt cA Z v r n w (G (40 + i)) ∧ r ≠ n := by
  obtain ⟨-, -, -, own', ow, s1, s2, -⟩ := Y.2
  rcases s1 i hi with ⟨-, h2⟩ | ⟨a, h1, -, h3, -, -, -, h7⟩
  · rw [h2] at hn; exact absurd hn (by decide)
  · exact ⟨a, _, _, _, h1, h3, h7⟩
/-- backs[i], kept[i] -/
theorem c_backLd {i : Int32} {v : Value} (X : CC RX0 cc nL rt D cA A p s m args meth c) (Y : CY D cA A s h ad G Z H locs) (hi : inb i 8) (hv : v = va_rf (Z.1 10 i.toNatClampNeg)) (hdg : decode cc pc = .ok (.aaload, 1))
    (kk : W p l e R s m args below meth c H locs cells slots Q (F0 m (pc + 1) ls (v :: rest))) : W p l e R s m args below meth c H locs cells slots Q (F0 m pc ls (.int i :: .ref (ad 10) :: rest)) := by
  have hlt := ix_lt hi
  have hin := inb_in hi
  refine W.aald (v := va_rf (Z.1 10 i.toNatClampNeg)) (ty := .object "PerilSeat$State") X.1.1.1 X.1.1.2.1 (Y.1.1 9 (ad 10, .inl (cA 4, 8, oref (Z.1 10))) rfl) ((X.1.2.1.2 4 (cA 4, .object "PerilSeat$State") rfl).1 8 (fun j => va_rf (Z.1 10 j))) rfl (fun q => by cases q) (by show ¬ (i < 0 ∨ (arrV _ _ _).slots.size ≤ _); rw [arrV_size]; exact hin) (by show (arrV _ _ _).slots[_]? = _; rw [arrV_read _ _ hlt]) rfl rfl hdg ?_
  rw [← hv]
  exact kk
theorem c_keptLd {i : Int32} {v : Value} (X : CC RX0 cc nL rt D cA A p s m args meth c) (Y : CY D cA A s h ad G Z H locs) (hi : inb i 2) (hv : v = va_rf (Z.1 9 i.toNatClampNeg)) (hdg : decode cc pc = .ok (.aaload, 1))
    (kk : W p l e R s m args below meth c H locs cells slots Q (F0 m (pc + 1) ls (v :: rest))) : W p l e R s m args below meth c H locs cells slots Q (F0 m pc ls (.int i :: .ref (ad 9) :: rest)) := by
  have hlt := ix_lt hi
  have hin := inb_in hi
  refine W.aald (v := va_rf (Z.1 9 i.toNatClampNeg)) (ty := .object "PerilSeat$State") X.1.1.1 X.1.1.2.1 (Y.1.1 8 (ad 9, .inl (cA 4, 2, oref (Z.1 9))) rfl) ((X.1.2.1.2 4 (cA 4, .object "PerilSeat$State") rfl).1 2 (fun j => va_rf (Z.1 9 j))) rfl (fun q => by cases q) (by show ¬ (i < 0 ∨ (arrV _ _ _).slots.size ≤ _); rw [arrV_size]; exact hin) (by show (arrV _ _ _).slots[_]? = _; rw [arrV_read _ _ hlt]) rfl rfl hdg ?_
  rw [← hv]
  exact kk
end STATE2
