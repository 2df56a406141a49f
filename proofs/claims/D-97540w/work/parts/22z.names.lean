/-! ROWS: names and knights made and stored; methods with handlers -/
set_option maxRecDepth 100000
theorem Met.ofWH {l : Launch} {y : MethodName} {ws ws' : List Cond} {rm : Room} {Pc : Array Value → State → Prop} {Qc : Array Value → State → Outcome → State → Prop} {mc ms : Nat} {free : Addr → Prop} {cc : ByteArray} {maxL : Nat} {ret : Option FieldType} {hh : List (Nat × Nat × Nat × Nat)}
    (hy : plainName y.cls = true) (hw : ws = Cond.codeWith y cc maxL ret hh :: ws')
    (body : ∀ p e s m args below meth c s₁, BodyLoose p l y (headSpec ws rm) cc maxL ret e s m args below meth c s₁ → c.maxLocals = maxL → Pc args s →
      W p l e (headSpec ws rm).room s m args below meth c s.heap [] 0 0 (MQ below Qc args s mc ms free) (entryFrame m args maxL)) : Met l y ws rm Pc Qc mc ms free := by
  refine MetFree.of_bodyS (code := cc) (maxLocals := maxL) (ret := ret) hy ?_ ?_
  · intro args s m h hn
    obtain ⟨m9, meth, c, hn9, h1, h2, h3, h4, -, h5, h6, -⟩ := Cond.codeWith_spec (atoms_spec (ws := ws) h _ (by rw [hw]; exact List.mem_cons_self))
    cases hn.symm.trans hn9
    exact ⟨meth, c, h1, h2, h3, h4, h5, h6⟩
  · intro p e s m args below meth c s₁ B hml hP _
    have hh0 : s₁.heap = s.heap := by rw [B.state]; rfl
    obtain ⟨t, a1, o, b1, b2, b3⟩ := body p e s m args below meth c s₁ B hml hP s₁ hh0 (Stand.of_body B)
    exact ⟨t, o, a1, b1, b2, ⟨b3.1, b3.2⟩⟩
/-- a contract of a method with handlers -/
def cMetW (l : Launch) (y : MethodName) (cc : ByteArray) (nL : Nat) (rt : Option FieldType) (hh : List (Nat × Nat × Nat × Nat)) (rm : Room) (av : List Value) (G : GS) (o : Option Value) (G' : GS) (sm : Bool) : Prop :=
  ∀ (D : va_G) (cA : Nat → ClassId) (h : Nat) (ad : Nat → Nat) (Z : ZT) (sz : Nat), Rp cA G Z → Met l y (wsW_ y cc nL rt hh) rm (cPc D cA h ad sz av G Z) (cQ D cA h ad (va_A (cW h ad cA G Z) sz) Z sm o G') rm.cells rm.slots (va_A (cW h ad cA G Z) sz)
section NAMES
variable {p : Program} {l : Launch} {e : Env} {R : Room} {s : State} {m : MethodId} {args : Array Value} {below : List Frame} {meth : Method} {c : Code} {H : Heap} {locs : List Loc} {cells slots : Nat} {Q : State → Prop}
variable {own : String} {cc : ByteArray} {nL : Nat} {rt : Option FieldType} {pc : Nat} {ls : Array Slot} {rest : List Value} {D : va_G} {cA : Nat → ClassId} {h : Nat} {ad : Nat → Nat} {A : Nat → Prop} {G G1 : GS} {Z Z0 Z1 : ZT}
theorem cMetW_of {y : MethodName} {rm : Room} {av : List Value} {o : Option Value} {G' : GS} {sm : Bool} {hh : List (Nat × Nat × Nat × Nat)} (hy : plainName y.cls = true) (hc : y.cls = RX0) (hlen : (lg_sl (.ref 0 :: av)).length ≤ nL)
    (body : ∀ {p : Program} {e : Env} {s : State} {m : MethodId} {args : Array Value} {below : List Frame} {meth : Method} {c : Code} {ls : Array Slot} {D : va_G} {cA : Nat → ClassId} {h : Nat} {ad : Nat → Nat} {A : Nat → Prop} {Z : ZT} {s₁ : State}, BodyLoose p l y (headSpec (wsW_ y cc nL rt hh) rm) cc nL rt e s m args below meth c s₁ → CC RX0 cc nL rt D cA A p s m args meth c → CY D cA A s h ad G Z s.heap [] → lv_has ls nL (lv_args 0 (.ref h :: av)) →
      W p l e rm s m args below meth c s.heap [] 0 0 (MQ below (cQ D cA h ad A Z sm o G') args s rm.cells rm.slots A) (F0 m 0 ls [])) : cMetW l y cc nL rt hh rm av G o G' sm := by
  intro D cA h ad Z sz hR
  refine Met.ofWH (cc := cc) (maxL := nL) (ret := rt) hy rfl ?_
  intro p e s m args below meth c s₁ B hml hv
  obtain ⟨rfl, hsz, hP, hK, hD0, hE⟩ := hv
  subst hsz
  have hts := atoms_spec (ws := wsW_ y cc nL rt hh) B.pre
  rw [lg_entry_eq]
  refine body B ⟨⟨⟨B.exec, B.bytes, hml, by rw [← hc]; exact findClass_of_methodNamed B.named, fun w h => hts w (List.mem_cons_of_mem _ h), B.returns, B.notSynchronized⟩, hK, fun q h => Or.inr h⟩, hE⟩ ⟨⟨hP, hD0.self, va_S.rf⟩, hR⟩ (lv_entry (.ref h :: av) ?_)
  have : (lg_sl (.ref h :: av)).length = (lg_sl (.ref 0 :: av)).length := rfl
  rw [this]; exact hlen
/-- one cell more behind the pool -/
theorem Rp.push1 {q : Nat} {x : va_E} (hR : Rp cA G Z) (hq : q ∉ Z.2.1) (hZ1 : Z1 = (Z.1, Z.2.1 ++ [q], va_up Z.2.2 q x)) : Rp cA G Z1 := by
  subst hZ1
  obtain ⟨hN, hO, hV, own', ow, s1, s2, s3, s4, s5⟩ := hR
  have hL : ∀ a, a ∈ Z.2.1 → a ∈ Z.2.1 ++ [q] := fun a h => List.mem_append_left _ h
  have key : ∀ b, b ∈ Z.2.1 → va_up Z.2.2 q x b = Z.2.2 b := fun b hb => va_up_ne _ _ (show b ≠ q from fun e => hq (e ▸ hb))
  have st : ∀ b g, StAt cA Z b (own' b).1 (own' b).2.1 (own' b).2.2 g → StAt cA (Z.1, Z.2.1 ++ [q], va_up Z.2.2 q x) b (own' b).1 (own' b).2.1 (own' b).2.2 g := fun b g hs => hs.mv (fun _ _ => rfl) hL (key _ hs.1) (key _ hs.2.1) (key _ hs.2.2.1) (key _ hs.2.2.2.1)
  refine ⟨hN.mv (fun _ _ => rfl) (fun _ _ => rfl) (fun _ _ => rfl) hL (fun b ci fs hb _ _ => key b hb), hO.mv (fun _ _ => rfl) (fun _ _ => rfl) (fun _ _ => rfl) (fun _ _ => rfl) hL (fun b ci fs hb _ _ => key b hb), hV.mv (fun _ _ => rfl) (fun _ _ _ _ => rfl) (fun _ _ => rfl) hL (fun b g hb _ => key b hb), own', ow, fun k hk => ?_, fun k hk => ?_, s3, s4, ?_⟩
  · rcases s1 k hk with q | ⟨b, q1, q2, q3, q4⟩
    · exact Or.inl q
    · exact Or.inr ⟨b, q1, q2, st b _ q3, q4⟩
  · rcases s2 k hk with q | ⟨b, q1, q2, q3, q4⟩
    · exact Or.inl q
    · exact Or.inr ⟨b, q1, q2, st b _ q3, q4⟩
  · rcases s5 with h | ⟨a, h1, h2, h3, h4⟩
    · exact Or.inl h
    · exact Or.inr ⟨a, h1, hL a h2, by rw [← h3]; exact key a h2, h4⟩
/-- behind a call that made one object -/
theorem c_tail1 {mc ms : Nat} {st0 : List Value} {x : va_E} (X : CC RX0 cc nL rt D cA A p s m args meth c) (Y : CY D cA A s h ad G Z H locs) (hr : va_Run p l e R s m args below meth c H locs cells slots mc ms (F0 m pc ls st0) rest (fun st oc t => ∃ o ws', oc = .returned o ∧ (∃ q : Nat, o = some (.ref q) ∧ ws' = [(q, x)]) ∧ va_P D cls ws' t.heap ∧ va_D (va_A [] H.size) ws' ∧ va_F (va_A [] H.size) st t) (va_A [] H.size))
    (kk : ∀ (H1 : Heap) (locs1 : List Loc) (Z1 : ZT) (q : Nat), Z1.1 = Z.1 → (∀ a, a ∈ Z.2.1 → a ∈ Z1.2.1 ∧ Z1.2.2 a = Z.2.2 a) → q ∈ Z1.2.1 → Z1.2.2 q = x → CY D cA A s h ad G Z1 H1 locs1 → W p l e R s m args below meth c H1 locs1 (cells + mc) (slots + ms) Q (F0 m (pc + 3) ls (.ref q :: rest))) : W p l e R s m args below meth c H locs cells slots Q (F0 m pc ls st0) := by
  refine n_tail hr Y.1 X.1.2.2 (fun z hz => by cases hz) (fun o ws' H2 locs2 hpost hP2 hD2 hz hk hS2 => ?_)
  obtain ⟨q, rfl, rfl⟩ := hpost
  have hq : H.size ≤ q := by
    rcases hD2.2 0 (q, x) rfl with ⟨i, e, hi⟩ | h
    · simp at hi
    · exact h
  have hqL : q ∉ Z.2.1 := fun hm => by
    obtain ⟨k, hk⟩ := Y.pool hm
    have := (Y.1.1 k _ hk).lt
    have h3 : q < H.size := this
    omega
  obtain ⟨Z1, hZ1⟩ : ∃ Z1 : ZT, Z1 = (Z.1, Z.2.1 ++ [q], va_up Z.2.2 q x) := ⟨_, rfl⟩
  have hpush : cW h ad cA G Z1 = cW h ad cA G Z ++ [(q, x)] := by
    unfold cW
    rw [List.append_assoc, va_pl_push hqL, hZ1]
    rfl
  refine kk H2 locs2 Z1 q (by rw [hZ1]) (fun a ha => by rw [hZ1]; exact ⟨List.mem_append_left _ ha, va_up_ne _ _ (show a ≠ q from fun e => hqL (e ▸ ha))⟩) (by rw [hZ1]; exact List.mem_append_right _ (List.mem_singleton.mpr rfl)) (by rw [hZ1]; exact va_up_self _ _ _) ⟨⟨?_, ?_, hS2⟩, Y.2.push1 hqL hZ1⟩
  · rw [hpush]
    refine va_P.app (fun k z hz' => ?_) hP2
    have hlt := (Y.1.1 k z hz').lt
    refine (Y.1.1 k z hz').kept (hk _ hlt (fun hq => ?_))
    rcases hq with ⟨i, e, hi⟩ | hq
    · simp at hi
    · omega
  · rw [hpush]
    refine va_D.app Y.1.2.1 (hD2.weaken (fun k z _ hx => ?_)) (fun i j y z hi hj e => ?_)
    · rcases hx with ⟨i, e, hi⟩ | hx
      · simp at hi
      · exact X.1.2.2 _ (Nat.le_trans Y.1.2.2.1 hx)
    · have hlt := (Y.1.1 i y hi).lt
      have hj0 : j = 0 := by
        have := (List.getElem?_eq_some_iff.mp hj).1
        simpa using this
      subst hj0
      cases hj
      rw [e] at hlt
      have h3 : q < H.size := hlt
      omega
/-- named(k, n) -/
theorem c_mkName {index : Nat} {k n : Int32} (X : CC RX0 cc nL rt D cA A p s m args meth c) (Y : CY D cA A s h ad G Z H locs) (hk : kN k) (hq : Cond.methodLink RX0 index yX0_named ∈ lw_all) (hR : 5 ≤ R.frames ∧ 200 ≤ R.locals) (hl : ls.size = nL) (hW : (rest.map fun v => v.category).sum ≤ 8) (hc : cells + 1 ≤ R.cells ∧ slots + 1 ≤ R.slots) (hdg : decode cc pc = .ok (.invokestatic index, 3))
    (kk : ∀ (H1 : Heap) (locs1 : List Loc) (Z1 : ZT) (q : Nat), Z1.1 = Z.1 → (∀ a, a ∈ Z.2.1 → a ∈ Z1.2.1 ∧ Z1.2.2 a = Z.2.2 a) → q ∈ Z1.2.1 → Z1.2.2 q = .inr (nameCi k, [.int (nmv k n)]) → CY D cA A s h ad G Z1 H1 locs1 → W p l e R s m args below meth c H1 locs1 (cells + 1) (slots + 1) Q (F0 m (pc + 3) ls (.ref q :: rest))) : W p l e R s m args below meth c H locs cells slots Q (F0 m pc ls (.int n :: .int k :: rest)) := by
  obtain ⟨hx, hb, hml, hown, hts, hrt, hlk⟩ := X.1.1
  exact c_tail1 (st0 := .int n :: .int k :: rest) X Y (va_runS (l := l) (e := e) (R := R) (below := below) (meth := meth) (H := H) (locs := locs) (cells := cells) (slots := slots) (mc := 1) (ms := 1) (rest := rest) (As := [.int k, .int n]) (Ts := lw_all) (cc := cc) (nL := nL) ⟨hx, hb, hml, hown, hts⟩ (nX0_named (D := D) (cA := cA) l hk H.size)
    (va_cwS 2 hts (lw_S hq q660 q67 q661) rfl rfl rfl (by decide +kernel) ⟨by show 4 + 1 ≤ R.frames; omega, by show 8 + (2 + 11) + 40 * 4 ≤ R.locals; omega⟩) (k_pre (wc := []) X.1.2.1 X.2.1 Y.1 (fun k z hz => by simp at hz) ⟨fun i j x y hi => by simp at hi, fun k z hz => by simp at hz⟩ [.int k, .int n]) rfl rfl hl rfl (lv_room hW) hdg hc) kk
/-- names[i] = a name, or null -/
theorem c_nameSt {x : Option Nat} {i k n : Int32} (X : CC RX0 cc nL rt D cA A p s m args meth c) (Y : CY D cA A s h ad G Z H locs) (hx9 : (x = none ∧ k = -1) ∨ ∃ a, x = some a ∧ a ∈ Z.2.1 ∧ kN k ∧ Z.2.2 a = .inr (nameCi k, [.int n])) (hi : inb i 8) (eG : G1 = gu (gu G 30 i.toNatClampNeg k) 31 i.toNatClampNeg n) (hdg : decode cc pc = .ok (.aastore, 1))
    (kk : ∀ (H1 : Heap) (locs1 : List Loc) (Z1 : ZT), Z1 = (fun k => bif Nat.beq k 0 then va_up (Z.1 0) i.toNatClampNeg x else Z.1 k, Z.2) → CY D cA A s h ad G1 Z1 H1 locs1 → W p l e R s m args below meth c H1 locs1 cells slots Q (F0 m (pc + 1) ls rest)) : W p l e R s m args below meth c H locs cells slots Q (F0 m pc ls (va_rf x :: .int i :: .ref (ad 0) :: rest)) := by
  obtain ⟨hN, hO, hV, hS4⟩ := Y.2
  have hG : ∀ k', k' ≠ 30 → k' ≠ 31 → G1 k' = G k' := fun k' h1 h2 => by
    funext b
    rw [eG, gu_ap, if_neg (fun e => h2 e.1), gu_ap, if_neg (fun e => h1 e.1)]
  obtain ⟨Z1, hZ1⟩ : ∃ Z1 : ZT, Z1 = (fun k => bif Nat.beq k 0 then va_up (Z.1 0) i.toNatClampNeg x else Z.1 k, Z.2) := ⟨_, rfl⟩
  have fin : ∀ (H1 : Heap) (locs1 : List Loc), va_P D cls ((cW h ad cA G Z).set 1 (ad 0, .inl (cA 3, 8, oref (va_up (Z.1 0) i.toNatClampNeg x)))) H1 → va_D A ((cW h ad cA G Z).set 1 (ad 0, .inl (cA 3, 8, oref (va_up (Z.1 0) i.toNatClampNeg x)))) → va_S A s.heap H1 locs1 → W p l e R s m args below meth c H1 locs1 cells slots Q (F0 m (pc + 1) ls rest) := by
    intro H1 locs1 hP hD hS
    have hset : (cW h ad cA G Z).set 1 (ad 0, .inl (cA 3, 8, oref (va_up (Z.1 0) i.toNatClampNeg x))) = cW h ad cA G1 Z1 := by
      have h1 : cX0W h ad cA G1 Z1 = cX0W h ad cA G Z1 := cX0W_eq (fun k hk => hG k (by omega) (by omega)) rfl
      unfold cW
      rw [h1, hZ1]
      rfl
    rw [hset] at hP hD
    refine kk H1 locs1 Z1 hZ1 ⟨⟨hP, hD, hS⟩, ?_, ?_, ?_, ?_⟩
    · subst hZ1
      intro j hj
      by_cases e : j = i.toNatClampNeg
      · have e30 : G1 30 j = k := by rw [eG, gu_ap, if_neg (by omega), gu_ap, if_pos ⟨rfl, e⟩]
        have e31 : G1 31 j = n := by rw [eG, gu_ap, if_pos ⟨rfl, e⟩]
        have e0 : (fun k => bif Nat.beq k 0 then va_up (Z.1 0) i.toNatClampNeg x else Z.1 k) 0 j = x := by
          show va_up (Z.1 0) i.toNatClampNeg x j = x
          rw [e]; exact va_up_self _ _ _
        rw [e30, e31]
        rcases hx9 with ⟨h1, h2⟩ | ⟨a, h1, h2, h3, h4⟩
        · exact Or.inl ⟨e0.trans h1, h2⟩
        · exact Or.inr ⟨a, e0.trans h1, h2, h3, h4⟩
      · have e30 : G1 30 j = G 30 j := by rw [eG, gu_ap, if_neg (by omega), gu_ap, if_neg (fun q => e q.2)]
        have e31 : G1 31 j = G 31 j := by rw [eG, gu_ap, if_neg (fun q => e q.2), gu_ap, if_neg (by omega)]
        have e0 : (fun k => bif Nat.beq k 0 then va_up (Z.1 0) i.toNatClampNeg x else Z.1 k) 0 j = Z.1 0 j := va_up_ne _ _ e
        rw [e30, e31]
        rcases hN j hj with ⟨h1, h2⟩ | ⟨a, h1, h2⟩
        · exact Or.inl ⟨e0.trans h1, h2⟩
        · exact Or.inr ⟨a, e0.trans h1, h2⟩
    · subst hZ1
      exact hO.mv (fun i _ => by rw [hG 32 (by decide) (by decide)]) (fun i _ => by rw [hG 33 (by decide) (by decide)]) (fun i _ => by rw [hG 34 (by decide) (by decide)]) (fun _ _ => rfl) (fun _ h => h) (fun _ _ _ _ _ _ => rfl)
    · subst hZ1
      exact hV.mv (fun i _ => by rw [hG 37 (by decide) (by decide)]) (fun i _ j _ => by rw [hG (60 + i) (by omega) (by omega)]) (fun _ _ => rfl) (fun _ h => h) (fun _ _ _ _ => rfl)
    · subst hZ1
      have e40 : ∀ n, G1 (40 + n) = G (40 + n) := fun n => hG _ (by omega) (by omega)
      have e50 : ∀ n, G1 (50 + n) = G (50 + n) := fun n => hG _ (by omega) (by omega)
      unfold RpS at hS4 ⊢
      simp only [hG 35 (by decide) (by decide), hG 36 (by decide) (by decide), hG 38 (by decide) (by decide), e40, e50]
      exact hS4
  rcases hx9 with ⟨h1, h2⟩ | ⟨a, h1, h2, h3, h4⟩
  · subst h1
    exact va_astqN X.1.1.1 X.1.1.2.1 X.1.2.1 Y.1.1 Y.1.2.1 Y.1.2.2 1 3 (show (cW h ad cA G Z)[1]? = some (ad 0, .inl (cA 3, 8, oref (Z.1 0))) from rfl) rfl (inb_in hi) hdg fin
  · subst h1
    obtain ⟨kq, hkq⟩ := Y.pool h2
    rw [h4] at hkq
    have go : ∀ (ci : Nat) (r : vw_C), nameCi k = ci → cls[ci]? = some r → (r.1, "java/lang/Object") ∈ NWc → W p l e R s m args below meth c H locs cells slots Q (F0 m pc ls (.ref a :: .int i :: .ref (ad 0) :: rest)) := fun ci r e hc hm => by
      rw [e] at hkq
      exact va_astqO (r := r) X.1.1.1 X.1.1.2.1 X.1.2.1 Y.1.1 Y.1.2.1 Y.1.2.2 1 3 kq ci (E := "java/lang/Object") (show (cW h ad cA G Z)[1]? = some (ad 0, .inl (cA 3, 8, oref (Z.1 0))) from rfl) rfl (X.2.1.1 (r.1, "java/lang/Object") hm) hkq hc (inb_in hi) hdg fin
    rcases h3 with e | e | e | e | e
    · exact go 3 (RX6, TX6, 1) (by rw [e]; rfl) rfl (by decide)
    · exact go 4 (RX7, TX7, 1) (by rw [e]; rfl) rfl (by decide)
    · exact go 5 (RX8, TX8, 1) (by rw [e]; rfl) rfl (by decide)
    · exact go 6 (RX9, TX9, 1) (by rw [e]; rfl) rfl (by decide)
    · exact go 7 (RX10, TX10, 1) (by rw [e]; rfl) rfl (by decide)
/-- names[i] -/
theorem c_nameLd {i : Int32} {v : Value} (X : CC RX0 cc nL rt D cA A p s m args meth c) (Y : CY D cA A s h ad G Z H locs) (hi : inb i 8) (hv : v = va_rf (Z.1 0 i.toNatClampNeg)) (hdg : decode cc pc = .ok (.aaload, 1))
    (kk : W p l e R s m args below meth c H locs cells slots Q (F0 m (pc + 1) ls (v :: rest))) : W p l e R s m args below meth c H locs cells slots Q (F0 m pc ls (.int i :: .ref (ad 0) :: rest)) := by
  have hlt := ix_lt hi
  have hin := inb_in hi
  refine W.aald (v := va_rf (Z.1 0 i.toNatClampNeg)) (ty := .object "java/lang/Object") X.1.1.1 X.1.1.2.1 (Y.1.1 1 (ad 0, .inl (cA 3, 8, oref (Z.1 0))) rfl) ((X.1.2.1.2 3 (cA 3, .object "java/lang/Object") rfl).1 8 (fun j => va_rf (Z.1 0 j))) rfl (fun q => by cases q) (by show ¬ (i < 0 ∨ (arrV _ _ _).slots.size ≤ _); rw [arrV_size]; exact hin) (by show (arrV _ _ _).slots[_]? = _; rw [arrV_read _ _ hlt]) rfl rfl hdg ?_
  rw [← hv]
  exact kk
end NAMES
