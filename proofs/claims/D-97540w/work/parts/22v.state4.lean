/-! ROWS: a new state; a state stored -/
set_option maxRecDepth 100000
theorem va_pl_push4 {L : List Nat} {f : Nat → va_E} {q r n w : Nat} {e0 e1 e2 e3 : va_E} (hq : q ∉ L) (hr : r ∉ L ++ [q]) (hn : n ∉ L ++ [q] ++ [r]) (hw : w ∉ L ++ [q] ++ [r] ++ [n]) : va_pl L f ++ [(q, e0), (r, e1), (n, e2), (w, e3)] = va_pl (L ++ [q, r, n, w]) (va_up (va_up (va_up (va_up f q e0) r e1) n e2) w e3) := by
  have e : va_pl L f ++ [(q, e0), (r, e1), (n, e2), (w, e3)] = va_pl L f ++ [(q, e0)] ++ [(r, e1)] ++ [(n, e2)] ++ [(w, e3)] := by simp
  rw [e, va_pl_push hq, va_pl_push hr, va_pl_push hn, va_pl_push hw]
  congr 1
  simp
section STATE4
variable {p : Program} {l : Launch} {e : Env} {R : Room} {s : State} {m : MethodId} {args : Array Value} {below : List Frame} {meth : Method} {c : Code} {H : Heap} {locs : List Loc} {cells slots : Nat} {Q : State → Prop}
variable {own : String} {cc : ByteArray} {nL : Nat} {rt : Option FieldType} {pc : Nat} {ls : Array Slot} {rest : List Value} {D : va_G} {cA : Nat → ClassId} {h : Nat} {ad : Nat → Nat} {A : Nat → Prop} {G G1 : GS} {Z Z0 Z1 : ZT}
/-- behind a call that may make cells -/
theorem n_tail {mc ms : Nat} {st0 : List Value} {A : Nat → Prop} {w wc : va_W} {Post : Option Value → va_W → Prop} (hr : va_Run p l e R s m args below meth c H locs cells slots mc ms (F0 m pc ls st0) rest (fun st oc t => ∃ o ws', oc = .returned o ∧ Post o ws' ∧ va_P D cls ws' t.heap ∧ va_D (va_A wc H.size) ws' ∧ va_F (va_A wc H.size) st t) (va_A wc H.size)) (Y : WX D A s w H locs) (hA : ∀ q, s.heap.size ≤ q → A q) (hsub : ∀ z ∈ wc, z ∈ w)
    (kk : ∀ (o : Option Value) (ws' : va_W) (H1 : Heap) (locs1 : List Loc), Post o ws' → va_P D cls ws' H1 → va_D (va_A wc H.size) ws' → H.size ≤ H1.size → (∀ q : Nat, q < H.size → ¬ va_A wc H.size q → H1[q]? = H[q]?) → va_S A s.heap H1 locs1 → W p l e R s m args below meth c H1 locs1 (cells + mc) (slots + ms) Q (F0 m (pc + 3) ls (o.toList ++ rest))) : W p l e R s m args below meth c H locs cells slots Q (F0 m pc ls st0) := by
  obtain ⟨hP, hD, hS⟩ := Y
  have hfr : ∀ q, va_A wc H.size q → A q := fun q hq => by
    rcases hq with ⟨k, e, hk⟩ | hq
    · obtain ⟨j, hj⟩ := List.mem_iff_getElem?.mp (hsub _ (List.mem_of_getElem? hk))
      exact hD.2 j _ hj
    · exact hA q (Nat.le_trans hS.1 hq)
  intro T hT X
  obtain ⟨v, st₀, t, T', L, h0, X', hL, e1, e2, ⟨o, ws', hv, hpost, hP1, hD1, hz, hk⟩, st⟩ := hr T hT X
  cases hv
  rw [h0] at hz hk
  obtain ⟨t2, a1, b1⟩ := kk _ ws' T'.heap (locs ++ L) hpost (by rw [e1]; exact hP1) hD1 (by rw [e1]; exact hz) (fun q h1 h2 => by rw [e1]; exact hk q h1 h2)
    ⟨Nat.le_trans hS.1 (by rw [e1]; exact hz), fun q h1 h2 => by rw [e1, hk q (Nat.lt_of_lt_of_le h1 hS.1) (fun z => h2 (hfr q z))]; exact hS.2.1 q h1 h2, fun q hq => by
      rcases List.mem_append.mp hq with h | h
      · exact hS.2.2 q h
      · exact hfr _ (hL q h)⟩ T' rfl X'
  exact ⟨t2, st t2 a1, b1⟩
/-- cells put behind the pool change nothing of what was made -/
theorem Rp.more {q r n w : Nat} {f1 f2 f3 : Nat → Int32} {th dy : Int32} {fn : Nat → Int32} (hR : Rp cA G Z) (hq : q ∉ Z.2.1) (hr : r ∉ Z.2.1) (hn : n ∉ Z.2.1) (hw : w ∉ Z.2.1) (d1 : q ≠ r) (d2 : q ≠ n) (d3 : q ≠ w) (d4 : r ≠ n) (d5 : r ≠ w) (d6 : n ≠ w)
    (t1 : ∀ i, i < 6 → f1 i = fn i) (t2 : ∀ i, i < 6 → f2 i = fn (6 + i)) (t3 : ∀ i, i < 8 → f3 i = fn (12 + i)) (t4 : th = fn 20) (t5 : dy = fn 21) (hZ1 : Z1 = (Z.1, Z.2.1 ++ [q, r, n, w], stUp cA Z.2.2 q r n w f1 f2 f3 th dy)) :
    Rp cA G Z1 ∧ FrSt cA G Z1 q r n w fn ∧ (∀ i, i < 2 → Z1.1 9 i ≠ some q) ∧ (∀ i, i < 8 → Z1.1 10 i ≠ some q) := by
  subst hZ1
  obtain ⟨hN, hO, hV, own', ow, s1, s2, s3, s4, s5⟩ := hR
  have hL : ∀ a, a ∈ Z.2.1 → a ∈ Z.2.1 ++ [q, r, n, w] := fun a h => List.mem_append_left _ h
  have key : ∀ b, b ∈ Z.2.1 → stUp cA Z.2.2 q r n w f1 f2 f3 th dy b = Z.2.2 b := fun b hb => stUp_ne (fun e => hq (e ▸ hb)) (fun e => hr (e ▸ hb)) (fun e => hn (e ▸ hb)) (fun e => hw (e ▸ hb))
  have st : ∀ b g, StAt cA Z b (own' b).1 (own' b).2.1 (own' b).2.2 g → StAt cA (Z.1, Z.2.1 ++ [q, r, n, w], stUp cA Z.2.2 q r n w f1 f2 f3 th dy) b (own' b).1 (own' b).2.1 (own' b).2.2 g := fun b g hs => hs.mv (fun _ _ => rfl) hL (key _ hs.1) (key _ hs.2.1) (key _ hs.2.2.1) (key _ hs.2.2.2.1)
  have ho : ∀ b, b ∈ Z.2.1 → va_up own' q (r, n, w) b = own' b := fun b hb => va_up_ne _ _ (fun e => hq (e ▸ hb))
  have hww : ∀ b, b ∈ Z.2.1 → va_up (va_up (va_up ow r q) n q) w q b = ow b := fun b hb => by rw [va_up_ne _ _ (show b ≠ w from fun e => hw (e ▸ hb)), va_up_ne _ _ (show b ≠ n from fun e => hn (e ▸ hb)), va_up_ne _ _ (show b ≠ r from fun e => hr (e ▸ hb))]
  have so : RpSo cA G (Z.1, Z.2.1 ++ [q, r, n, w], stUp cA Z.2.2 q r n w f1 f2 f3 th dy) (va_up own' q (r, n, w)) (va_up (va_up (va_up ow r q) n q) w q) := by
    refine ⟨fun i hi => ?_, fun i hi => ?_, s3, s4, ?_⟩
    · rcases s1 i hi with h | ⟨b, h1, h2, h3, h4, h5, h6, h7⟩
      · exact Or.inl h
      · refine Or.inr ⟨b, h1, h2, ?_⟩
        rw [ho b h3.1]
        exact ⟨st b _ h3, by rw [hww _ h3.2.1]; exact h4, by rw [hww _ h3.2.2.1]; exact h5, by rw [hww _ h3.2.2.2.1]; exact h6, h7⟩
    · rcases s2 i hi with h | ⟨b, h1, h2, h3, h4, h5, h6, h7⟩
      · exact Or.inl h
      · refine Or.inr ⟨b, h1, h2, ?_⟩
        rw [ho b h3.1]
        exact ⟨st b _ h3, by rw [hww _ h3.2.1]; exact h4, by rw [hww _ h3.2.2.1]; exact h5, by rw [hww _ h3.2.2.2.1]; exact h6, h7⟩
    · rcases s5 with h | ⟨a, h1, h2, h3, h4⟩
      · exact Or.inl h
      · exact Or.inr ⟨a, h1, hL a h2, by rw [← h3]; exact key a h2, by rw [hww _ h2]; exact h4⟩
  have hst : StAt cA (Z.1, Z.2.1 ++ [q, r, n, w], stUp cA Z.2.2 q r n w f1 f2 f3 th dy) q r n w fn := ⟨List.mem_append_right _ (by simp), List.mem_append_right _ (by simp), List.mem_append_right _ (by simp), List.mem_append_right _ (by simp), by rw [← t4, ← t5]; exact stUp_q d1 d2 d3, ⟨f1, stUp_r d4 d5, t1⟩, ⟨f2, stUp_n d6, t2⟩, ⟨f3, stUp_w, t3⟩⟩
  refine ⟨⟨hN.mv (fun _ _ => rfl) (fun _ _ => rfl) (fun _ _ => rfl) hL (fun b ci fs hb _ _ => key b hb), hO.mv (fun _ _ => rfl) (fun _ _ => rfl) (fun _ _ => rfl) (fun _ _ => rfl) hL (fun b ci fs hb _ _ => key b hb),
    hV.mv (fun _ _ => rfl) (fun i hi j _ => rfl) (fun _ _ => rfl) hL (fun b g hb _ => key b hb), so.toS⟩, ⟨_, _, so, va_up_self _ _ _, ?_, ?_, va_up_self _ _ _, d4, hst⟩, fun i hi e => ?_, fun i hi e => ?_⟩
  · rw [va_up_ne _ _ d5, va_up_ne _ _ d4, va_up_self]
  · rw [va_up_ne _ _ d6, va_up_self]
  · rcases s1 i hi with h | ⟨b, h1, h2, h3, -⟩
    · have e : Z.1 9 i = some q := e
      rw [h.1] at e; cases e
    · have e : Z.1 9 i = some q := e
      rw [h1] at e; cases e
      exact hq h3.1
  · rcases s2 i hi with h | ⟨b, h1, h2, h3, -⟩
    · have e : Z.1 10 i = some q := e
      rw [h.1] at e; cases e
    · have e : Z.1 10 i = some q := e
      rw [h1] at e; cases e
      exact hq h3.1
set_option maxHeartbeats 1000000 in
/-- new State(): new, dup, invokespecial -/
theorem c_newState {index i2 : Nat} (X : CC RX0 cc nL rt D cA A p s m args meth c) (Y : CY D cA A s h ad G Z H locs) (hcl : Cond.classLink RX0 index RX1 ∈ lw_all) (hi2 : ("PerilSeat", i2, (⟨"PerilSeat$State", "<init>", "()V"⟩ : MethodName), "PerilSeat") ∈ NWm) (hR : 3 ≤ R.frames ∧ 100 ≤ R.locals) (hl : ls.size = nL) (hW : (rest.map fun v => v.category).sum ≤ 6) (hc : cells + 4 ≤ R.cells ∧ slots + 25 ≤ R.slots) (hd1 : decode cc pc = .ok (.new index, 3)) (hd2 : decode cc (pc + 3) = .ok (.dup, 1)) (hd3 : decode cc (pc + 4) = .ok (.invokespecial i2, 3))
    (kk : ∀ (H1 : Heap) (locs1 : List Loc) (Z1 : ZT) (q r n w : Nat), Z1.1 = Z.1 → CY D cA A s h ad G Z1 H1 locs1 → FrSt cA G Z1 q r n w (fun _ => 0) → (∀ i, i < 2 → Z1.1 9 i ≠ some q) → (∀ i, i < 8 → Z1.1 10 i ≠ some q) → W p l e R s m args below meth c H1 locs1 (cells + 4) (slots + 25) Q (F0 m (pc + 7) ls (.ref q :: rest))) : W p l e R s m args below meth c H locs cells slots Q (F0 m pc ls rest) := by
  obtain ⟨hx, hb, hml, hown, hts, hrt, hlk⟩ := X.1.1
  refine va_new (D := D) (C := RX1) (T := TX1) (N := 5) (ci := 2) (fs := [.null, .null, .null, .int 0, .int 0]) hx hb hts in_X1 tyX1 tyX1_ok hown (hts _ hcl) (hts _ q113) (hts _ q68) X.1.2.1 Y.1.1 Y.1.2.1 Y.1.2.2 X.1.2.2 rfl (fun j hj => ?_) (by omega) (by omega) hd1 (fun q H1 hP1 hD1 hS1 => ?_)
  · match j, hj with
    | 0, _ => rfl
    | 1, _ => rfl
    | 2, _ => rfl
    | 3, _ => rfl
    | 4, _ => rfl
    | j + 5, hj => omega
  refine lv_dup hx hb hd2 rfl ?_
  have hPc : va_P D cls [(q, (.inr (2, [.null, .null, .null, .int 0, .int 0]) : va_E))] H1 := fun k z hz => by
    obtain ⟨j, hj⟩ := List.mem_iff_getElem?.mp (show z ∈ cW h ad cA G Z ++ [(q, .inr (2, [.null, .null, .null, .int 0, .int 0]))] from List.mem_append_right _ (List.mem_of_getElem? hz))
    exact hP1 j z hj
  have hDc : va_D (fun _ => True) [(q, (.inr (2, [.null, .null, .null, .int 0, .int 0]) : va_E))] := ⟨fun i j x y hi hj _ => by
    have h1 := (List.getElem?_eq_some_iff.mp hi).1
    have h2 := (List.getElem?_eq_some_iff.mp hj).1
    simp only [List.length_cons, List.length_nil] at h1 h2
    omega, fun _ _ _ => trivial⟩
  have hG := lw_meth q116
  refine n_tail (w := cW h ad cA G Z ++ [(q, .inr (2, [.null, .null, .null, .int 0, .int 0]))]) (wc := [(q, .inr (2, [.null, .null, .null, .int 0, .int 0]))]) (st0 := .ref q :: .ref q :: rest) (rest := .ref q :: rest) (va_runIN (l := l) (e := e) (R := R) (below := below) (meth := meth) (H := H1) (locs := locs) (cells := cells + 1) (slots := slots + 5) (mc := 3) (ms := 20) (rest := .ref q :: rest) (b := q) (As := []) (Ts := lw_all) (cc := cc) (nL := nL) (host := "PerilSeat") ⟨hx, hb, hml, hown, hts⟩ (nStateInit (D := D) (cA := cA) l (a := q) H1.size)
    ⟨va_cnB 0 hts hG rfl rfl rfl (X.2.1.2.1 _ hi2) (hts _ q68) ⟨by decide, by decide, by decide +kernel⟩ ⟨by show 1 + 1 ≤ R.frames; omega, by show 8 + (1 + 11) + 40 * 1 ≤ R.locals; omega⟩, rfl, hts _ q115⟩ (k_pre X.1.2.1 X.2.1 ⟨hP1, hD1, hS1⟩ hPc hDc [.ref q]) rfl rfl hl rfl (lv_room (by show 1 + (rest.map fun v => v.category).sum ≤ 8; omega)) hd3 ⟨by omega, by omega⟩) ⟨hP1, hD1, hS1⟩ X.1.2.2 (fun z hz => List.mem_append_right _ hz) (fun o ws' H2 locs2 hpost hP2 hD2 hz hk hS2 => ?_)
  obtain ⟨rfl, r, n, w, rfl⟩ := hpost
  have hlow : ∀ z ∈ cW h ad cA G Z, z.1 < H1.size ∧ z.1 ≠ q := fun z hz' => by
    obtain ⟨k, hk'⟩ := List.mem_iff_getElem?.mp hz'
    have hkl := (List.getElem?_eq_some_iff.mp hk').1
    have h1 : (cW h ad cA G Z ++ [(q, (.inr (2, [.null, .null, .null, .int 0, .int 0]) : va_E))])[k]? = some z := by rw [List.getElem?_append_left hkl]; exact hk'
    refine ⟨(hP1 k z h1).lt, fun e => ?_⟩
    have h2 : (cW h ad cA G Z ++ [(q, (.inr (2, [.null, .null, .null, .int 0, .int 0]) : va_E))])[(cW h ad cA G Z).length]? = some (q, .inr (2, [.null, .null, .null, .int 0, .int 0])) := by simp
    have := hD1.1 k _ z _ h1 h2 e
    omega
  have hfresh : ∀ (k : Nat) (z : Nat × va_E), (stW cA q r n w (fun _ => 0) (fun _ => 0) (fun _ => 0) 0 0)[k]? = some z → z.1 = q ∨ H1.size ≤ z.1 := fun k z hz' => by
    rcases hD2.2 k z hz' with ⟨i, e, hi⟩ | h
    · have hi0 : i = 0 := by
        have := (List.getElem?_eq_some_iff.mp hi).1
        simpa using this
      subst hi0
      exact Or.inl (congrArg Prod.fst (Option.some.inj hi)).symm
    · exact Or.inr h
  have dd : ∀ i j (x y : Nat × va_E), (stW cA q r n w (fun _ => 0) (fun _ => 0) (fun _ => 0) 0 0)[i]? = some x → (stW cA q r n w (fun _ => 0) (fun _ => 0) (fun _ => 0) 0 0)[j]? = some y → i ≠ j → x.1 ≠ y.1 := fun i j x y hi hj hij e => hij (hD2.1 i j x y hi hj e)
  have d1 : q ≠ r := dd 0 1 _ _ rfl rfl (by decide)
  have d2 : q ≠ n := dd 0 2 _ _ rfl rfl (by decide)
  have d3 : q ≠ w := dd 0 3 _ _ rfl rfl (by decide)
  have d4 : r ≠ n := dd 1 2 _ _ rfl rfl (by decide)
  have d5 : r ≠ w := dd 1 3 _ _ rfl rfl (by decide)
  have d6 : n ≠ w := dd 2 3 _ _ rfl rfl (by decide)
  have hr : H1.size ≤ r := (hfresh 1 _ rfl).resolve_left (fun e => d1 e.symm)
  have hn : H1.size ≤ n := (hfresh 2 _ rfl).resolve_left (fun e => d2 e.symm)
  have hw : H1.size ≤ w := (hfresh 3 _ rfl).resolve_left (fun e => d3 e.symm)
  have nin : ∀ x, x = q ∨ H1.size ≤ x → x ∉ Z.2.1 := fun x hx hm => by
    have := hlow _ (cW_mem (h := h) (ad := ad) (cA := cA) (G := G) hm)
    rcases hx with hx | hx
    · exact this.2 hx
    · have := this.1
      have h3 : x < H1.size := this
      omega
  obtain ⟨Z1, hZ1⟩ : ∃ Z1 : ZT, Z1 = (Z.1, Z.2.1 ++ [q, r, n, w], stUp cA Z.2.2 q r n w (fun _ => 0) (fun _ => 0) (fun _ => 0) 0 0) := ⟨_, rfl⟩
  obtain ⟨hR1, hF1, hn9, hn10⟩ := Rp.more (fn := fun _ => 0) Y.2 (nin q (Or.inl rfl)) (nin r (Or.inr hr)) (nin n (Or.inr hn)) (nin w (Or.inr hw)) d1 d2 d3 d4 d5 d6 (fun _ _ => rfl) (fun _ _ => rfl) (fun _ _ => rfl) rfl rfl hZ1
  have hpush : cW h ad cA G Z1 = cW h ad cA G Z ++ stW cA q r n w (fun _ => 0) (fun _ => 0) (fun _ => 0) 0 0 := by
    have h1 := va_pl_push4 (L := Z.2.1) (f := Z.2.2) (q := q) (r := r) (n := n) (w := w) (e0 := .inr (2, [.ref r, .ref n, .ref w, .int 0, .int 0])) (e1 := .inl (cA 0, 6, .inl (fun _ => 0))) (e2 := .inl (cA 0, 6, .inl (fun _ => 0))) (e3 := .inl (cA 0, 8, .inl (fun _ => 0))) (nin q (Or.inl rfl)) (fun hm => by
        rcases List.mem_append.mp hm with hm | hm
        · exact nin r (Or.inr hr) hm
        · exact d1 (List.mem_singleton.mp hm).symm) (fun hm => by
        rcases List.mem_append.mp hm with hm | hm
        · rcases List.mem_append.mp hm with hm | hm
          · exact nin n (Or.inr hn) hm
          · exact d2 (List.mem_singleton.mp hm).symm
        · exact d4 (List.mem_singleton.mp hm).symm) (fun hm => by
        rcases List.mem_append.mp hm with hm | hm
        · rcases List.mem_append.mp hm with hm | hm
          · rcases List.mem_append.mp hm with hm | hm
            · exact nin w (Or.inr hw) hm
            · exact d3 (List.mem_singleton.mp hm).symm
          · exact d5 (List.mem_singleton.mp hm).symm
        · exact d6 (List.mem_singleton.mp hm).symm)
    unfold cW
    rw [List.append_assoc, h1, hZ1]
    rfl
  refine kk H2 locs2 Z1 q r n w (by rw [hZ1]) ⟨⟨?_, ?_, hS2⟩, hR1⟩ hF1 hn9 hn10
  · rw [hpush]
    refine va_P.app (fun k z hz' => ?_) hP2
    have hkl := (List.getElem?_eq_some_iff.mp hz').1
    have h1 : (cW h ad cA G Z ++ [(q, (.inr (2, [.null, .null, .null, .int 0, .int 0]) : va_E))])[k]? = some z := by rw [List.getElem?_append_left hkl]; exact hz'
    have h2 := hlow z (List.mem_of_getElem? hz')
    refine (hP1 k z h1).kept (hk _ h2.1 (fun hq => ?_))
    rcases hq with ⟨i, e, hi⟩ | hq
    · have hi0 : i = 0 := by
        have := (List.getElem?_eq_some_iff.mp hi).1
        simpa using this
      subst hi0
      exact h2.2 (congrArg Prod.fst (Option.some.inj hi)).symm
    · have := h2.1; omega
  · rw [hpush]
    have hfrA : ∀ x, va_A [(q, (.inr (2, [.null, .null, .null, .int 0, .int 0]) : va_E))] H1.size x → A x := fun x hx => by
      rcases hx with ⟨i, e, hi⟩ | hx
      · have hi0 : i = 0 := by
          have := (List.getElem?_eq_some_iff.mp hi).1
          simpa using this
        subst hi0
        have e2 : q = x := congrArg Prod.fst (Option.some.inj hi)
        rw [← e2]
        exact hD1.2 (cW h ad cA G Z).length (q, .inr (2, [.null, .null, .null, .int 0, .int 0])) (by simp)
      · exact X.1.2.2 x (Nat.le_trans hS1.1 hx)
    refine va_D.app Y.1.2.1 (hD2.weaken (fun k z hz' hx => hfrA _ hx)) (fun i j x y hi hj e => ?_)
    have h2 := hlow x (List.mem_of_getElem? hi)
    rcases hfresh j y hj with h3 | h3
    · exact h2.2 (e.trans h3)
    · have := h2.1; omega
/-- backs[i] = the state at q, that was made -/
theorem c_backSt {q r n w : Nat} {i : Int32} {f : Nat → Int32} (X : CC RX0 cc nL rt D cA A p s m args meth c) (Y : CY D cA A s h ad G Z H locs) (hF : FrSt cA G Z q r n w f) (h9 : ∀ i, i < 2 → Z.1 9 i ≠ some q) (h10 : ∀ i, i < 8 → Z.1 10 i ≠ some q) (hi : inb i 8) (eG : G1 = grow (gu G 36 i.toNatClampNeg 1) (50 + i.toNatClampNeg) f) (hdg : decode cc pc = .ok (.aastore, 1))
    (kk : ∀ (H1 : Heap) (locs1 : List Loc) (Z1 : ZT), Z1 = (fun k => bif Nat.beq k 10 then va_up (Z.1 10) i.toNatClampNeg (some q) else Z.1 k, Z.2) → CY D cA A s h ad G1 Z1 H1 locs1 → FrSt cA G1 Z1 q r n w f → W p l e R s m args below meth c H1 locs1 cells slots Q (F0 m (pc + 1) ls rest)) : W p l e R s m args below meth c H locs cells slots Q (F0 m pc ls (.ref q :: .int i :: .ref (ad 10) :: rest)) := by
  obtain ⟨hN, hO, hV, -⟩ := Y.2
  obtain ⟨own', ow, ⟨s1, s2, s3, s4, s5⟩, o1, o2, o3, o4, hrn, hst⟩ := hF
  obtain ⟨kq, hkq⟩ := Y.pool hst.1
  rw [hst.2.2.2.2.1] at hkq
  have hlt := ix_lt hi
  obtain ⟨i', hi'⟩ : ∃ i', i' = i.toNatClampNeg := ⟨_, rfl⟩
  rw [← hi'] at hlt eG kk
  have hG : ∀ k, k ≠ 36 → k ≠ 50 + i' → G1 k = G k := fun k h1 h2 => by
    rw [eG, grow_ne h2]
    funext b
    rw [gu_ap, if_neg (fun e => h1 e.1)]
  have hf : G1 (50 + i') = f := by rw [eG, grow_self]
  have hfl : G1 36 = upd (G 36) i' 1 := by rw [eG, grow_ne (by omega), gu_row]
  obtain ⟨Z1, hZ1⟩ : ∃ Z1 : ZT, Z1 = (fun k => bif Nat.beq k 10 then va_up (Z.1 10) i' (some q) else Z.1 k, Z.2) := ⟨_, rfl⟩
  refine va_astq (r := (RX1, TX1, 5)) X.1.1.1 X.1.1.2.1 X.1.2.1 Y.1.1 Y.1.2.1 Y.1.2.2 9 4 kq 2 (show (cW h ad cA G Z)[9]? = some (ad 10, .inl (cA 4, 8, oref (Z.1 10))) from rfl) rfl hkq rfl (inb_in hi) hdg (fun H1 locs1 hP hD hS => ?_)
  rw [← hi'] at hP hD
  have hset : (cW h ad cA G Z).set 9 (ad 10, .inl (cA 4, 8, oref (va_up (Z.1 10) i' (some q)))) = cW h ad cA G1 Z1 := by
    have h1 : cX0W h ad cA G1 Z1 = cX0W h ad cA G Z1 := cX0W_eq (fun k hk => hG k (by omega) (by omega)) rfl
    unfold cW
    rw [h1, hZ1]
    rfl
  rw [hset] at hP hD
  have so : RpSo cA G1 Z1 own' ow := by
    subst hZ1
    refine ⟨fun k hk => ?_, fun k hk => ?_, fun a b x ha hb h1 h2 => ?_, fun a b x ha hb h1 h2 => ?_, ?_⟩
    · rw [hG 35 (by decide) (by omega), hG (40 + k) (by omega) (by omega)]
      exact s1 k hk
    · rw [hfl]
      by_cases e : k = i'
      · refine Or.inr ⟨q, ?_, ?_, ?_, ?_⟩
        · show va_up (Z.1 10) i' (some q) k = some q
          rw [e]; exact va_up_self _ _ _
        · unfold upd; rw [if_pos e]
        · rw [o1, e, hf]; exact hst
        · rw [o1]; exact ⟨o2, o3, o4, hrn⟩
      · have e1 : (fun k => bif Nat.beq k 10 then va_up (Z.1 10) i' (some q) else Z.1 k) 10 k = Z.1 10 k := va_up_ne _ _ e
        have e2 : upd (G 36) i' 1 k = G 36 k := by unfold upd; rw [if_neg e]
        rw [e2, hG (50 + k) (by omega) (by omega)]
        rcases s2 k hk with q | ⟨b, q1, q2, q3, q4⟩
        · exact Or.inl ⟨e1.trans q.1, q.2⟩
        · exact Or.inr ⟨b, e1.trans q1, q2, q3, q4⟩
    · have h1 : va_up (Z.1 10) i' (some q) a = some x := h1
      have h2 : va_up (Z.1 10) i' (some q) b = some x := h2
      by_cases ea : a = i'
      · by_cases eb : b = i'
        · rw [ea, eb]
        · rw [ea, va_up_self] at h1
          rw [va_up_ne _ _ eb] at h2
          cases h1
          exact absurd h2 (h10 b hb)
      · by_cases eb : b = i'
        · rw [eb, va_up_self] at h2
          rw [va_up_ne _ _ ea] at h1
          cases h2
          exact absurd h1 (h10 a ha)
        · rw [va_up_ne _ _ ea] at h1
          rw [va_up_ne _ _ eb] at h2
          exact s3 a b x ha hb h1 h2
    · have h1 : Z.1 9 a = some x := h1
      have h2 : va_up (Z.1 10) i' (some q) b = some x := h2
      by_cases eb : b = i'
      · rw [eb, va_up_self] at h2
        cases h2
        exact h9 a ha h1
      · rw [va_up_ne _ _ eb] at h2
        exact s4 a b x ha hb h1 h2
    · rw [hG 38 (by decide) (by omega)]
      exact s5
  have hst1 : StAt cA Z1 q r n w f := by subst hZ1; exact hst
  refine kk H1 locs1 Z1 hZ1 ⟨⟨hP, hD, hS⟩, ?_, ?_, ?_, so.toS⟩ ⟨own', ow, so, o1, o2, o3, o4, hrn, hst1⟩
  · subst hZ1
    exact hN.mv (fun i _ => by rw [hG 30 (by decide) (by omega)]) (fun i _ => by rw [hG 31 (by decide) (by omega)]) (fun _ _ => rfl) (fun _ h => h) (fun _ _ _ _ _ _ => rfl)
  · subst hZ1
    exact hO.mv (fun i _ => by rw [hG 32 (by decide) (by omega)]) (fun i _ => by rw [hG 33 (by decide) (by omega)]) (fun i _ => by rw [hG 34 (by decide) (by omega)]) (fun _ _ => rfl) (fun _ h => h) (fun _ _ _ _ _ _ => rfl)
  · subst hZ1
    exact hV.mv (fun i _ => by rw [hG 37 (by decide) (by omega)]) (fun i _ j _ => by rw [hG (60 + i) (by omega) (by omega)]) (fun _ _ => rfl) (fun _ h => h) (fun _ _ _ _ => rfl)
/-- kept[i] = the state at q, that was made -/
theorem c_keptSt {q r n w : Nat} {i : Int32} {f : Nat → Int32} (X : CC RX0 cc nL rt D cA A p s m args meth c) (Y : CY D cA A s h ad G Z H locs) (hF : FrSt cA G Z q r n w f) (h9 : ∀ i, i < 2 → Z.1 9 i ≠ some q) (h10 : ∀ i, i < 8 → Z.1 10 i ≠ some q) (hi : inb i 2) (eG : G1 = grow (gu G 35 i.toNatClampNeg 1) (40 + i.toNatClampNeg) f) (hdg : decode cc pc = .ok (.aastore, 1))
    (kk : ∀ (H1 : Heap) (locs1 : List Loc) (Z1 : ZT), Z1 = (fun k => bif Nat.beq k 9 then va_up (Z.1 9) i.toNatClampNeg (some q) else Z.1 k, Z.2) → CY D cA A s h ad G1 Z1 H1 locs1 → FrSt cA G1 Z1 q r n w f → W p l e R s m args below meth c H1 locs1 cells slots Q (F0 m (pc + 1) ls rest)) : W p l e R s m args below meth c H locs cells slots Q (F0 m pc ls (.ref q :: .int i :: .ref (ad 9) :: rest)) := by
  obtain ⟨hN, hO, hV, -⟩ := Y.2
  obtain ⟨own', ow, ⟨s1, s2, s3, s4, s5⟩, o1, o2, o3, o4, hrn, hst⟩ := hF
  obtain ⟨kq, hkq⟩ := Y.pool hst.1
  rw [hst.2.2.2.2.1] at hkq
  have hlt := ix_lt hi
  obtain ⟨i', hi'⟩ : ∃ i', i' = i.toNatClampNeg := ⟨_, rfl⟩
  rw [← hi'] at hlt eG kk
  have hG : ∀ k, k ≠ 35 → k ≠ 40 + i' → G1 k = G k := fun k h1 h2 => by
    rw [eG, grow_ne h2]
    funext b
    rw [gu_ap, if_neg (fun e => h1 e.1)]
  have hf : G1 (40 + i') = f := by rw [eG, grow_self]
  have hfl : G1 35 = upd (G 35) i' 1 := by rw [eG, grow_ne (by omega), gu_row]
  obtain ⟨Z1, hZ1⟩ : ∃ Z1 : ZT, Z1 = (fun k => bif Nat.beq k 9 then va_up (Z.1 9) i' (some q) else Z.1 k, Z.2) := ⟨_, rfl⟩
  refine va_astq (r := (RX1, TX1, 5)) X.1.1.1 X.1.1.2.1 X.1.2.1 Y.1.1 Y.1.2.1 Y.1.2.2 8 4 kq 2 (show (cW h ad cA G Z)[8]? = some (ad 9, .inl (cA 4, 2, oref (Z.1 9))) from rfl) rfl hkq rfl (inb_in hi) hdg (fun H1 locs1 hP hD hS => ?_)
  rw [← hi'] at hP hD
  have hset : (cW h ad cA G Z).set 8 (ad 9, .inl (cA 4, 2, oref (va_up (Z.1 9) i' (some q)))) = cW h ad cA G1 Z1 := by
    have h1 : cX0W h ad cA G1 Z1 = cX0W h ad cA G Z1 := cX0W_eq (fun k hk => hG k (by omega) (by omega)) rfl
    unfold cW
    rw [h1, hZ1]
    rfl
  rw [hset] at hP hD
  have so : RpSo cA G1 Z1 own' ow := by
    subst hZ1
    refine ⟨fun k hk => ?_, fun k hk => ?_, fun a b x ha hb h1 h2 => ?_, fun a b x ha hb h1 h2 => ?_, ?_⟩
    · rw [hfl]
      by_cases e : k = i'
      · refine Or.inr ⟨q, ?_, ?_, ?_, ?_⟩
        · show va_up (Z.1 9) i' (some q) k = some q
          rw [e]; exact va_up_self _ _ _
        · unfold upd; rw [if_pos e]
        · rw [o1, e, hf]; exact hst
        · rw [o1]; exact ⟨o2, o3, o4, hrn⟩
      · have e1 : (fun k => bif Nat.beq k 9 then va_up (Z.1 9) i' (some q) else Z.1 k) 9 k = Z.1 9 k := va_up_ne _ _ e
        have e2 : upd (G 35) i' 1 k = G 35 k := by unfold upd; rw [if_neg e]
        rw [e2, hG (40 + k) (by omega) (by omega)]
        rcases s1 k hk with q | ⟨b, q1, q2, q3, q4⟩
        · exact Or.inl ⟨e1.trans q.1, q.2⟩
        · exact Or.inr ⟨b, e1.trans q1, q2, q3, q4⟩
    · rw [hG 36 (by decide) (by omega), hG (50 + k) (by omega) (by omega)]
      exact s2 k hk
    · exact s3 a b x ha hb h1 h2
    · have h1 : va_up (Z.1 9) i' (some q) a = some x := h1
      have h2 : Z.1 10 b = some x := h2
      by_cases eb : a = i'
      · rw [eb, va_up_self] at h1
        cases h1
        exact h10 b hb h2
      · rw [va_up_ne _ _ eb] at h1
        exact s4 a b x ha hb h1 h2
    · rw [hG 38 (by decide) (by omega)]
      exact s5
  have hst1 : StAt cA Z1 q r n w f := by subst hZ1; exact hst
  refine kk H1 locs1 Z1 hZ1 ⟨⟨hP, hD, hS⟩, ?_, ?_, ?_, so.toS⟩ ⟨own', ow, so, o1, o2, o3, o4, hrn, hst1⟩
  · subst hZ1
    exact hN.mv (fun i _ => by rw [hG 30 (by decide) (by omega)]) (fun i _ => by rw [hG 31 (by decide) (by omega)]) (fun _ _ => rfl) (fun _ h => h) (fun _ _ _ _ _ _ => rfl)
  · subst hZ1
    exact hO.mv (fun i _ => by rw [hG 32 (by decide) (by omega)]) (fun i _ => by rw [hG 33 (by decide) (by omega)]) (fun i _ => by rw [hG 34 (by decide) (by omega)]) (fun _ _ => rfl) (fun _ h => h) (fun _ _ _ _ _ _ => rfl)
  · subst hZ1
    exact hV.mv (fun i _ => by rw [hG 37 (by decide) (by omega)]) (fun i _ j _ => by rw [hG (60 + i) (by omega) (by omega)]) (fun _ _ => rfl) (fun _ h => h) (fun _ _ _ _ => rfl)
end STATE4
