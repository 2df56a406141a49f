/-! THE MODEL'S WORLD: G 0 k is its int field k, G j the array of field j; its rows (mg: getfield, mp: putfield, ml, ms: array load, store), its contracts mMet -/
set_option maxRecDepth 100000
abbrev mF (ad : Nat → Nat) (G : GS) : List Value := [.int (G 0 0), .ref (ad 1), .int (G 0 2), .ref (ad 3), .ref (ad 4), .int (G 0 5), .int (G 0 6), .int (G 0 7), .ref (ad 8), .int (G 0 9), .ref (ad 10), .ref (ad 11), .ref (ad 12), .int (G 0 13), .ref (ad 14), .ref (ad 15), .int (G 0 16), .int (G 0 17), .int (G 0 18), .int (G 0 19), .int (G 0 20), .int (G 0 21), .int (G 0 22), .int (G 0 23), .ref (ad 24), .int (G 0 25), .ref (ad 26), .ref (ad 27), .int (G 0 28), .int (G 0 29), .int (G 0 30), .ref (ad 31), .ref (ad 32), .int (G 0 33), .int (G 0 34), .ref (ad 35), .int (G 0 36), .int (G 0 37)]
def mW (h : Nat) (ad : Nat → Nat) (cA : Nat → ClassId) (G : GS) : va_W := [(h, .inr (0, mF ad G)), (ad 1, .inl (cA 0, 16, .inl (G 1))), (ad 3, .inl (cA 0, 18, .inl (G 3))), (ad 4, .inl (cA 0, 6, .inl (G 4))), (ad 8, .inl (cA 0, 20, .inl (G 8))), (ad 10, .inl (cA 0, 160, .inl (G 10))), (ad 11, .inl (cA 0, 40, .inl (G 11))), (ad 12, .inl (cA 1, 2, .inl (G 12))), (ad 14, .inl (cA 0, 32, .inl (G 14))), (ad 15, .inl (cA 0, 160, .inl (G 15))), (ad 24, .inl (cA 0, 16, .inl (G 24))), (ad 26, .inl (cA 0, 18, .inl (G 26))), (ad 27, .inl (cA 0, 6, .inl (G 27))), (ad 31, .inl (cA 0, 6, .inl (G 31))), (ad 32, .inl (cA 0, 6, .inl (G 32))), (ad 35, .inl (cA 0, 6, .inl (G 35)))]
theorem mz0_0 (h : Nat) (ad : Nat → Nat) (cA : Nat → ClassId) (G : GS) (x : Int32) : (mW h ad cA G).set 0 (h, .inr (0, (mF ad G).set 0 (.int x))) = mW h ad cA (gu G 0 0 x) := rfl
theorem mz0_2 (h : Nat) (ad : Nat → Nat) (cA : Nat → ClassId) (G : GS) (x : Int32) : (mW h ad cA G).set 0 (h, .inr (0, (mF ad G).set 2 (.int x))) = mW h ad cA (gu G 0 2 x) := rfl
theorem mz0_5 (h : Nat) (ad : Nat → Nat) (cA : Nat → ClassId) (G : GS) (x : Int32) : (mW h ad cA G).set 0 (h, .inr (0, (mF ad G).set 5 (.int x))) = mW h ad cA (gu G 0 5 x) := rfl
theorem mz0_6 (h : Nat) (ad : Nat → Nat) (cA : Nat → ClassId) (G : GS) (x : Int32) : (mW h ad cA G).set 0 (h, .inr (0, (mF ad G).set 6 (.int x))) = mW h ad cA (gu G 0 6 x) := rfl
theorem mz0_7 (h : Nat) (ad : Nat → Nat) (cA : Nat → ClassId) (G : GS) (x : Int32) : (mW h ad cA G).set 0 (h, .inr (0, (mF ad G).set 7 (.int x))) = mW h ad cA (gu G 0 7 x) := rfl
theorem mz0_9 (h : Nat) (ad : Nat → Nat) (cA : Nat → ClassId) (G : GS) (x : Int32) : (mW h ad cA G).set 0 (h, .inr (0, (mF ad G).set 9 (.int x))) = mW h ad cA (gu G 0 9 x) := rfl
theorem mz0_13 (h : Nat) (ad : Nat → Nat) (cA : Nat → ClassId) (G : GS) (x : Int32) : (mW h ad cA G).set 0 (h, .inr (0, (mF ad G).set 13 (.int x))) = mW h ad cA (gu G 0 13 x) := rfl
theorem mz0_16 (h : Nat) (ad : Nat → Nat) (cA : Nat → ClassId) (G : GS) (x : Int32) : (mW h ad cA G).set 0 (h, .inr (0, (mF ad G).set 16 (.int x))) = mW h ad cA (gu G 0 16 x) := rfl
theorem mz0_17 (h : Nat) (ad : Nat → Nat) (cA : Nat → ClassId) (G : GS) (x : Int32) : (mW h ad cA G).set 0 (h, .inr (0, (mF ad G).set 17 (.int x))) = mW h ad cA (gu G 0 17 x) := rfl
theorem mz0_18 (h : Nat) (ad : Nat → Nat) (cA : Nat → ClassId) (G : GS) (x : Int32) : (mW h ad cA G).set 0 (h, .inr (0, (mF ad G).set 18 (.int x))) = mW h ad cA (gu G 0 18 x) := rfl
theorem mz0_19 (h : Nat) (ad : Nat → Nat) (cA : Nat → ClassId) (G : GS) (x : Int32) : (mW h ad cA G).set 0 (h, .inr (0, (mF ad G).set 19 (.int x))) = mW h ad cA (gu G 0 19 x) := rfl
theorem mz0_20 (h : Nat) (ad : Nat → Nat) (cA : Nat → ClassId) (G : GS) (x : Int32) : (mW h ad cA G).set 0 (h, .inr (0, (mF ad G).set 20 (.int x))) = mW h ad cA (gu G 0 20 x) := rfl
theorem mz0_21 (h : Nat) (ad : Nat → Nat) (cA : Nat → ClassId) (G : GS) (x : Int32) : (mW h ad cA G).set 0 (h, .inr (0, (mF ad G).set 21 (.int x))) = mW h ad cA (gu G 0 21 x) := rfl
theorem mz0_22 (h : Nat) (ad : Nat → Nat) (cA : Nat → ClassId) (G : GS) (x : Int32) : (mW h ad cA G).set 0 (h, .inr (0, (mF ad G).set 22 (.int x))) = mW h ad cA (gu G 0 22 x) := rfl
theorem mz0_23 (h : Nat) (ad : Nat → Nat) (cA : Nat → ClassId) (G : GS) (x : Int32) : (mW h ad cA G).set 0 (h, .inr (0, (mF ad G).set 23 (.int x))) = mW h ad cA (gu G 0 23 x) := rfl
theorem mz0_25 (h : Nat) (ad : Nat → Nat) (cA : Nat → ClassId) (G : GS) (x : Int32) : (mW h ad cA G).set 0 (h, .inr (0, (mF ad G).set 25 (.int x))) = mW h ad cA (gu G 0 25 x) := rfl
theorem mz0_28 (h : Nat) (ad : Nat → Nat) (cA : Nat → ClassId) (G : GS) (x : Int32) : (mW h ad cA G).set 0 (h, .inr (0, (mF ad G).set 28 (.int x))) = mW h ad cA (gu G 0 28 x) := rfl
theorem mz0_29 (h : Nat) (ad : Nat → Nat) (cA : Nat → ClassId) (G : GS) (x : Int32) : (mW h ad cA G).set 0 (h, .inr (0, (mF ad G).set 29 (.int x))) = mW h ad cA (gu G 0 29 x) := rfl
theorem mz0_30 (h : Nat) (ad : Nat → Nat) (cA : Nat → ClassId) (G : GS) (x : Int32) : (mW h ad cA G).set 0 (h, .inr (0, (mF ad G).set 30 (.int x))) = mW h ad cA (gu G 0 30 x) := rfl
theorem mz0_33 (h : Nat) (ad : Nat → Nat) (cA : Nat → ClassId) (G : GS) (x : Int32) : (mW h ad cA G).set 0 (h, .inr (0, (mF ad G).set 33 (.int x))) = mW h ad cA (gu G 0 33 x) := rfl
theorem mz0_34 (h : Nat) (ad : Nat → Nat) (cA : Nat → ClassId) (G : GS) (x : Int32) : (mW h ad cA G).set 0 (h, .inr (0, (mF ad G).set 34 (.int x))) = mW h ad cA (gu G 0 34 x) := rfl
theorem mz0_36 (h : Nat) (ad : Nat → Nat) (cA : Nat → ClassId) (G : GS) (x : Int32) : (mW h ad cA G).set 0 (h, .inr (0, (mF ad G).set 36 (.int x))) = mW h ad cA (gu G 0 36 x) := rfl
theorem mz0_37 (h : Nat) (ad : Nat → Nat) (cA : Nat → ClassId) (G : GS) (x : Int32) : (mW h ad cA G).set 0 (h, .inr (0, (mF ad G).set 37 (.int x))) = mW h ad cA (gu G 0 37 x) := rfl
theorem mz1 (h : Nat) (ad : Nat → Nat) (cA : Nat → ClassId) (G : GS) (i : Nat) (x : Int32) : (mW h ad cA G).set 1 (ad 1, .inl (cA 0, 16, .inl (upd (G 1) i x))) = mW h ad cA (gu G 1 i x) := by
  have h1 : gu G 1 i x 1 = upd (G 1) i x := by
    funext b
    rw [gu_ap]
    unfold upd
    by_cases hb : b = i
    · simp [hb]
    · simp [hb]
  rw [← h1]
  rfl
theorem mz3 (h : Nat) (ad : Nat → Nat) (cA : Nat → ClassId) (G : GS) (i : Nat) (x : Int32) : (mW h ad cA G).set 2 (ad 3, .inl (cA 0, 18, .inl (upd (G 3) i x))) = mW h ad cA (gu G 3 i x) := by
  have h1 : gu G 3 i x 3 = upd (G 3) i x := by
    funext b
    rw [gu_ap]
    unfold upd
    by_cases hb : b = i
    · simp [hb]
    · simp [hb]
  rw [← h1]
  rfl
theorem mz4 (h : Nat) (ad : Nat → Nat) (cA : Nat → ClassId) (G : GS) (i : Nat) (x : Int32) : (mW h ad cA G).set 3 (ad 4, .inl (cA 0, 6, .inl (upd (G 4) i x))) = mW h ad cA (gu G 4 i x) := by
  have h1 : gu G 4 i x 4 = upd (G 4) i x := by
    funext b
    rw [gu_ap]
    unfold upd
    by_cases hb : b = i
    · simp [hb]
    · simp [hb]
  rw [← h1]
  rfl
theorem mz8 (h : Nat) (ad : Nat → Nat) (cA : Nat → ClassId) (G : GS) (i : Nat) (x : Int32) : (mW h ad cA G).set 4 (ad 8, .inl (cA 0, 20, .inl (upd (G 8) i x))) = mW h ad cA (gu G 8 i x) := by
  have h1 : gu G 8 i x 8 = upd (G 8) i x := by
    funext b
    rw [gu_ap]
    unfold upd
    by_cases hb : b = i
    · simp [hb]
    · simp [hb]
  rw [← h1]
  rfl
theorem mz10 (h : Nat) (ad : Nat → Nat) (cA : Nat → ClassId) (G : GS) (i : Nat) (x : Int32) : (mW h ad cA G).set 5 (ad 10, .inl (cA 0, 160, .inl (upd (G 10) i x))) = mW h ad cA (gu G 10 i x) := by
  have h1 : gu G 10 i x 10 = upd (G 10) i x := by
    funext b
    rw [gu_ap]
    unfold upd
    by_cases hb : b = i
    · simp [hb]
    · simp [hb]
  rw [← h1]
  rfl
theorem mz11 (h : Nat) (ad : Nat → Nat) (cA : Nat → ClassId) (G : GS) (i : Nat) (x : Int32) : (mW h ad cA G).set 6 (ad 11, .inl (cA 0, 40, .inl (upd (G 11) i x))) = mW h ad cA (gu G 11 i x) := by
  have h1 : gu G 11 i x 11 = upd (G 11) i x := by
    funext b
    rw [gu_ap]
    unfold upd
    by_cases hb : b = i
    · simp [hb]
    · simp [hb]
  rw [← h1]
  rfl
theorem mz12 (h : Nat) (ad : Nat → Nat) (cA : Nat → ClassId) (G : GS) (i : Nat) (x : Int32) : (mW h ad cA G).set 7 (ad 12, .inl (cA 1, 2, .inl (upd (G 12) i x))) = mW h ad cA (gu G 12 i x) := by
  have h1 : gu G 12 i x 12 = upd (G 12) i x := by
    funext b
    rw [gu_ap]
    unfold upd
    by_cases hb : b = i
    · simp [hb]
    · simp [hb]
  rw [← h1]
  rfl
theorem mz14 (h : Nat) (ad : Nat → Nat) (cA : Nat → ClassId) (G : GS) (i : Nat) (x : Int32) : (mW h ad cA G).set 8 (ad 14, .inl (cA 0, 32, .inl (upd (G 14) i x))) = mW h ad cA (gu G 14 i x) := by
  have h1 : gu G 14 i x 14 = upd (G 14) i x := by
    funext b
    rw [gu_ap]
    unfold upd
    by_cases hb : b = i
    · simp [hb]
    · simp [hb]
  rw [← h1]
  rfl
theorem mz15 (h : Nat) (ad : Nat → Nat) (cA : Nat → ClassId) (G : GS) (i : Nat) (x : Int32) : (mW h ad cA G).set 9 (ad 15, .inl (cA 0, 160, .inl (upd (G 15) i x))) = mW h ad cA (gu G 15 i x) := by
  have h1 : gu G 15 i x 15 = upd (G 15) i x := by
    funext b
    rw [gu_ap]
    unfold upd
    by_cases hb : b = i
    · simp [hb]
    · simp [hb]
  rw [← h1]
  rfl
theorem mz24 (h : Nat) (ad : Nat → Nat) (cA : Nat → ClassId) (G : GS) (i : Nat) (x : Int32) : (mW h ad cA G).set 10 (ad 24, .inl (cA 0, 16, .inl (upd (G 24) i x))) = mW h ad cA (gu G 24 i x) := by
  have h1 : gu G 24 i x 24 = upd (G 24) i x := by
    funext b
    rw [gu_ap]
    unfold upd
    by_cases hb : b = i
    · simp [hb]
    · simp [hb]
  rw [← h1]
  rfl
theorem mz26 (h : Nat) (ad : Nat → Nat) (cA : Nat → ClassId) (G : GS) (i : Nat) (x : Int32) : (mW h ad cA G).set 11 (ad 26, .inl (cA 0, 18, .inl (upd (G 26) i x))) = mW h ad cA (gu G 26 i x) := by
  have h1 : gu G 26 i x 26 = upd (G 26) i x := by
    funext b
    rw [gu_ap]
    unfold upd
    by_cases hb : b = i
    · simp [hb]
    · simp [hb]
  rw [← h1]
  rfl
theorem mz27 (h : Nat) (ad : Nat → Nat) (cA : Nat → ClassId) (G : GS) (i : Nat) (x : Int32) : (mW h ad cA G).set 12 (ad 27, .inl (cA 0, 6, .inl (upd (G 27) i x))) = mW h ad cA (gu G 27 i x) := by
  have h1 : gu G 27 i x 27 = upd (G 27) i x := by
    funext b
    rw [gu_ap]
    unfold upd
    by_cases hb : b = i
    · simp [hb]
    · simp [hb]
  rw [← h1]
  rfl
theorem mz31 (h : Nat) (ad : Nat → Nat) (cA : Nat → ClassId) (G : GS) (i : Nat) (x : Int32) : (mW h ad cA G).set 13 (ad 31, .inl (cA 0, 6, .inl (upd (G 31) i x))) = mW h ad cA (gu G 31 i x) := by
  have h1 : gu G 31 i x 31 = upd (G 31) i x := by
    funext b
    rw [gu_ap]
    unfold upd
    by_cases hb : b = i
    · simp [hb]
    · simp [hb]
  rw [← h1]
  rfl
theorem mz32 (h : Nat) (ad : Nat → Nat) (cA : Nat → ClassId) (G : GS) (i : Nat) (x : Int32) : (mW h ad cA G).set 14 (ad 32, .inl (cA 0, 6, .inl (upd (G 32) i x))) = mW h ad cA (gu G 32 i x) := by
  have h1 : gu G 32 i x 32 = upd (G 32) i x := by
    funext b
    rw [gu_ap]
    unfold upd
    by_cases hb : b = i
    · simp [hb]
    · simp [hb]
  rw [← h1]
  rfl
theorem mz35 (h : Nat) (ad : Nat → Nat) (cA : Nat → ClassId) (G : GS) (i : Nat) (x : Int32) : (mW h ad cA G).set 15 (ad 35, .inl (cA 0, 6, .inl (upd (G 35) i x))) = mW h ad cA (gu G 35 i x) := by
  have h1 : gu G 35 i x 35 = upd (G 35) i x := by
    funext b
    rw [gu_ap]
    unfold upd
    by_cases hb : b = i
    · simp [hb]
    · simp [hb]
  rw [← h1]
  rfl
/-- a contract of a method of the model: from the picture G it comes to G', with the answer o -/
def mQ (D : va_G) (cA : Nat → ClassId) (h : Nat) (ad : Nat → Nat) (A : Nat → Prop) (o : Option Value) (G' : GS) : Array Value → State → Outcome → State → Prop := fun _ st oc t => oc = .returned o ∧ va_P D cls (mW h ad cA G') t.heap ∧ va_F A st t
def mPc (D : va_G) (cA : Nat → ClassId) (h : Nat) (ad : Nat → Nat) (sz : Nat) (av : List Value) (G : GS) : Array Value → State → Prop := va_Pc (.ref h :: av) (fun U => U.heap.size = sz ∧ va_P D cls (mW h ad cA G) U.heap ∧ va_K D cls (tyL cA) U ∧ va_D (fun _ => True) (mW h ad cA G))
def mMet (l : Launch) (y : MethodName) (cc : ByteArray) (nL : Nat) (rt : Option FieldType) (rm : Room) (av : List Value) (G : GS) (o : Option Value) (G' : GS) : Prop :=
  ∀ (D : va_G) (cA : Nat → ClassId) (h : Nat) (ad : Nat → Nat) (sz : Nat), Met l y (ws_ y cc nL rt) rm (mPc D cA h ad sz av G) (mQ D cA h ad (va_A (mW h ad cA G) sz) o G') 0 0 (va_A (mW h ad cA G) sz)
/-- addresses alone matter -/
theorem va_D_ad {A : Nat → Prop} {w1 w2 : va_W} (h : w1.map Prod.fst = w2.map Prod.fst) (hD : va_D A w1) : va_D A w2 := by
  have key : ∀ (k : Nat) (q : Nat × va_E), w2[k]? = some q → ∃ e, w1[k]? = some (q.1, e) := by
    intro k q hq
    have h2 : (w2.map Prod.fst)[k]? = some q.1 := by rw [List.getElem?_map, hq]; rfl
    rw [← h, List.getElem?_map] at h2
    cases hk : w1[k]? with
    | none => rw [hk] at h2; cases h2
    | some z =>
      rw [hk] at h2
      have : z.1 = q.1 := Option.some.inj h2
      exact ⟨z.2, by rw [← this]⟩
  refine ⟨fun i j p q hi hj e => ?_, fun k q hk => ?_⟩
  · obtain ⟨e1, h1⟩ := key i p hi
    obtain ⟨e2, h2⟩ := key j q hj
    exact hD.1 i j _ _ h1 h2 e
  · obtain ⟨e1, h1⟩ := key k q hk
    exact hD.2 k (q.1, e1) h1
theorem mW_ad (h : Nat) (ad : Nat → Nat) (cA : Nat → ClassId) (G G' : GS) : (mW h ad cA G).map Prod.fst = (mW h ad cA G').map Prod.fst := rfl
theorem mW_A (h : Nat) (ad : Nat → Nat) (cA : Nat → ClassId) (G G' : GS) (sz : Nat) : va_A (mW h ad cA G) sz = va_A (mW h ad cA G') sz := by
  have key : ∀ (G G' : GS) (q : Nat), va_A (mW h ad cA G) sz q → va_A (mW h ad cA G') sz q := by
    intro G G' q hq
    rcases hq with ⟨k, e, hk⟩ | hq
    · have h2 : ((mW h ad cA G).map Prod.fst)[k]? = some q := by rw [List.getElem?_map, hk]; rfl
      rw [mW_ad h ad cA G G', List.getElem?_map] at h2
      cases hz : (mW h ad cA G')[k]? with
      | none => rw [hz] at h2; cases h2
      | some z =>
        rw [hz] at h2
        have : z.1 = q := Option.some.inj h2
        exact Or.inl ⟨k, z.2, by rw [← this]; exact hz⟩
    · exact Or.inr hq
  funext q
  exact propext ⟨key G G' q, key G' G q⟩
section MBASE
variable {p : Program} {l : Launch} {e : Env} {R : Room} {s : State} {m : MethodId} {args : Array Value} {below : List Frame} {meth : Method} {c : Code} {H : Heap} {locs : List Loc} {cells slots : Nat} {Q : State → Prop}
variable {own : String} {cc : ByteArray} {nL : Nat} {rt : Option FieldType} {pc : Nat} {ls : Array Slot} {rest : List Value} {D : va_G} {cA : Nat → ClassId} {h : Nat} {ad : Nat → Nat} {A : Nat → Prop} {G G1 : GS}
theorem mMet_of {y : MethodName} {rm : Room} {av : List Value} {o : Option Value} {G' : GS} (hy : plainName y.cls = true) (hc : y.cls = RX2) (hlen : (lg_sl (.ref 0 :: av)).length ≤ nL)
    (body : ∀ {p : Program} {e : Env} {s : State} {m : MethodId} {args : Array Value} {below : List Frame} {meth : Method} {c : Code} {ls : Array Slot} {D : va_G} {cA : Nat → ClassId} {h : Nat} {ad : Nat → Nat} {A : Nat → Prop}, CX RX2 cc nL rt D cA A p s m args meth c → WX D A s (mW h ad cA G) s.heap [] → lv_has ls nL (lv_args 0 (.ref h :: av)) →
      W p l e rm s m args below meth c s.heap [] 0 0 (MQ below (mQ D cA h ad A o G') args s 0 0 A) (F0 m 0 ls [])) : mMet l y cc nL rt rm av G o G' := by
  intro D cA h ad sz
  refine Met.ofW (cc := cc) (maxL := nL) (ret := rt) hy rfl ?_
  intro p e s m args below meth c s₁ B hml hv
  obtain ⟨rfl, hsz, hP, hK, hD0⟩ := hv
  subst hsz
  have hts := atoms_spec (ws := ws_ y cc nL rt) B.pre
  rw [lg_entry_eq]
  refine body ⟨⟨B.exec, B.bytes, hml, by rw [← hc]; exact findClass_of_methodNamed B.named, fun w h => hts w (List.mem_cons_of_mem _ h), B.returns, B.notSynchronized⟩, hK, fun q h => Or.inr h⟩ ⟨hP, hD0.self, va_S.rf⟩ (lv_entry (.ref h :: av) ?_)
  have : (lg_sl (.ref h :: av)).length = (lg_sl (.ref 0 :: av)).length := rfl
  rw [this]; exact hlen
theorem mg (X : CX RX2 cc nL rt D cA A p s m args meth c) (Y : WX D A s (mW h ad cA G) H locs) (k : Nat) (hk : k < 38) {index : Nat} {v : Value} (hl : Cond.fieldLink RX2 index RX2 (TX2 k).2.1 (TX2 k).2.2.1 ∈ lw_all) (hm : (TX2 k).1 = RX2) (hv : (mF ad G)[k]? = some v) (hdg : decode cc pc = .ok (.getfield index, 3))
    (kk : W p l e R s m args below meth c H locs cells slots Q (F0 m (pc + 3) ls (v :: rest))) : W p l e R s m args below meth c H locs cells slots Q (F0 m pc ls (.ref h :: rest)) :=
  va_get (D := D) (ci := 0) (v := v) (C := RX2) (T := TX2) (N := 38) X.1.1 X.1.2.1 X.1.2.2.2.2.1 in_X2 X.1.2.2.2.1 X.2.1 Y.1 0 rfl rfl k hk (X.1.2.2.2.2.1 _ hl) (fun _ h9 => by rw [hm] at h9; exact h9) hv hdg kk
theorem mpV (X : CX RX2 cc nL rt D cA A p s m args meth c) (Y : WX D A s (mW h ad cA G) H locs) (k : Nat) (hk : k < 38) {index : Nat} {ty : FieldType} {v : Value} (hl : Cond.fieldLink RX2 index RX2 (TX2 k).2.1 (TX2 k).2.2.1 ∈ lw_all) (hm : (TX2 k).1 = RX2 ∧ (TX2 k).2.2.2 = false) (hty : tyX2 k = ty) (hn : narrow ty v = v) (hfit : fits ty v = true)
    (hset : (mW h ad cA G).set 0 (h, .inr (0, (mF ad G).set k v)) = mW h ad cA G1) (hdg : decode cc pc = .ok (.putfield index, 3))
    (kk : ∀ (H1 : Heap) (locs1 : List Loc), WX D A s (mW h ad cA G1) H1 locs1 → W p l e R s m args below meth c H1 locs1 cells slots Q (F0 m (pc + 3) ls rest)) : W p l e R s m args below meth c H locs cells slots Q (F0 m pc ls (v :: .ref h :: rest)) := by
  subst hty
  refine va_put (D := D) (ci := 0) (v := v) (ty := tyX2 k) (C := RX2) (T := TX2) (N := 38) X.1.1 X.1.2.1 X.1.2.2.2.2.1 in_X2 tyX2 tyX2_ok nmX2 X.1.2.2.2.1 X.2.1 Y.1 Y.2.1 Y.2.2 0 rfl rfl k hk (X.1.2.2.2.2.1 _ hl) (fun _ h9 => by rw [hm.1] at h9; exact h9) hm.2 (tyX2_ok k hk) hn hfit hk hdg (fun H1 locs1 hP hD hS => ?_)
  rw [hset] at hP hD
  exact kk H1 locs1 ⟨hP, hD, hS⟩
theorem mp (X : CX RX2 cc nL rt D cA A p s m args meth c) (Y : WX D A s (mW h ad cA G) H locs) (k : Nat) (hk : k < 38) {index : Nat} {x : Int32} (hl : Cond.fieldLink RX2 index RX2 (TX2 k).2.1 (TX2 k).2.2.1 ∈ lw_all) (hm : (TX2 k).1 = RX2 ∧ (TX2 k).2.2.2 = false) (hty : tyX2 k = .int)
    (hset : ∀ (h : Nat) (ad : Nat → Nat) (cA : Nat → ClassId) (G : GS) (x : Int32), (mW h ad cA G).set 0 (h, .inr (0, (mF ad G).set k (.int x))) = mW h ad cA (gu G 0 k x)) (eG : G1 = gu G 0 k x) (hdg : decode cc pc = .ok (.putfield index, 3))
    (kk : ∀ (H1 : Heap) (locs1 : List Loc), WX D A s (mW h ad cA G1) H1 locs1 → W p l e R s m args below meth c H1 locs1 cells slots Q (F0 m (pc + 3) ls rest)) : W p l e R s m args below meth c H locs cells slots Q (F0 m pc ls (.int x :: .ref h :: rest)) :=
  mpV X Y k hk hl hm hty rfl rfl (by rw [eG]; exact hset h ad cA G x) hdg kk
theorem mpZ (X : CX RX2 cc nL rt D cA A p s m args meth c) (Y : WX D A s (mW h ad cA G) H locs) (k : Nat) (hk : k < 38) {index : Nat} {x : Int32} (hl : Cond.fieldLink RX2 index RX2 (TX2 k).2.1 (TX2 k).2.2.1 ∈ lw_all) (hm : (TX2 k).1 = RX2 ∧ (TX2 k).2.2.2 = false) (hty : tyX2 k = .boolean)
    (hset : ∀ (h : Nat) (ad : Nat → Nat) (cA : Nat → ClassId) (G : GS) (x : Int32), (mW h ad cA G).set 0 (h, .inr (0, (mF ad G).set k (.int x))) = mW h ad cA (gu G 0 k x)) (hz : zb x) (eG : G1 = gu G 0 k x) (hdg : decode cc pc = .ok (.putfield index, 3))
    (kk : ∀ (H1 : Heap) (locs1 : List Loc), WX D A s (mW h ad cA G1) H1 locs1 → W p l e R s m args below meth c H1 locs1 cells slots Q (F0 m (pc + 3) ls rest)) : W p l e R s m args below meth c H locs cells slots Q (F0 m pc ls (.int x :: .ref h :: rest)) :=
  mpV X Y k hk hl hm hty (by rcases hz with q | q <;> subst q <;> rfl) (by rcases hz with q | q <;> subst q <;> rfl) (by rw [eG]; exact hset h ad cA G x) hdg kk
theorem ml (X : CX RX2 cc nL rt D cA A p s m args meth c) (Y : WX D A s (mW h ad cA G) H locs) (j q0 : Nat) {n : Nat} (ha : (mW h ad cA G)[q0]? = some (ad j, .inl (cA 0, n, .inl (G j)))) {i v : Int32} (hin : inb i n) (ev : v = G j i.toNatClampNeg) (hdg : decode cc pc = .ok (.iaload, 1))
    (kk : W p l e R s m args below meth c H locs cells slots Q (F0 m (pc + 1) ls (.int v :: rest))) : W p l e R s m args below meth c H locs cells slots Q (F0 m pc ls (.int i :: .ref (ad j) :: rest)) := by
  subst ev
  exact va_iald X.1.1 X.1.2.1 X.2.1 Y.1 q0 0 ha rfl (inb_in hin) hdg kk
theorem mlZ (X : CX RX2 cc nL rt D cA A p s m args meth c) (Y : WX D A s (mW h ad cA G) H locs) (j q0 : Nat) {n : Nat} (ha : (mW h ad cA G)[q0]? = some (ad j, .inl (cA 1, n, .inl (G j)))) {i v : Int32} (hin : inb i n) (ev : v = G j i.toNatClampNeg) (hdg : decode cc pc = .ok (.baload, 1))
    (kk : W p l e R s m args below meth c H locs cells slots Q (F0 m (pc + 1) ls (.int v :: rest))) : W p l e R s m args below meth c H locs cells slots Q (F0 m pc ls (.int i :: .ref (ad j) :: rest)) := by
  subst ev
  exact va_zald X.1.1 X.1.2.1 X.2.1 Y.1 q0 1 ha rfl (inb_in hin) hdg kk
theorem ms (X : CX RX2 cc nL rt D cA A p s m args meth c) (Y : WX D A s (mW h ad cA G) H locs) (j q0 : Nat) {n : Nat} (ha : (mW h ad cA G)[q0]? = some (ad j, .inl (cA 0, n, .inl (G j)))) {i x : Int32}
    (hset : ∀ (h : Nat) (ad : Nat → Nat) (cA : Nat → ClassId) (G : GS) (i : Nat) (x : Int32), (mW h ad cA G).set q0 (ad j, .inl (cA 0, n, .inl (upd (G j) i x))) = mW h ad cA (gu G j i x)) (hin : inb i n) (eG : G1 = gu G j i.toNatClampNeg x) (hdg : decode cc pc = .ok (.iastore, 1))
    (kk : ∀ (H1 : Heap) (locs1 : List Loc), WX D A s (mW h ad cA G1) H1 locs1 → W p l e R s m args below meth c H1 locs1 cells slots Q (F0 m (pc + 1) ls rest)) : W p l e R s m args below meth c H locs cells slots Q (F0 m pc ls (.int x :: .int i :: .ref (ad j) :: rest)) := by
  refine va_iast X.1.1 X.1.2.1 X.2.1 Y.1 Y.2.1 Y.2.2 q0 0 ha rfl (inb_in hin) hdg (fun H1 locs1 hP hD hS => ?_)
  rw [hset, ← eG] at hP hD
  exact kk H1 locs1 ⟨hP, hD, hS⟩
theorem msZ (X : CX RX2 cc nL rt D cA A p s m args meth c) (Y : WX D A s (mW h ad cA G) H locs) (j q0 : Nat) {n : Nat} (ha : (mW h ad cA G)[q0]? = some (ad j, .inl (cA 1, n, .inl (G j)))) {i x : Int32}
    (hset : ∀ (h : Nat) (ad : Nat → Nat) (cA : Nat → ClassId) (G : GS) (i : Nat) (x : Int32), (mW h ad cA G).set q0 (ad j, .inl (cA 1, n, .inl (upd (G j) i x))) = mW h ad cA (gu G j i x)) (hin : inb i n) (hz : zb x) (eG : G1 = gu G j i.toNatClampNeg x) (hdg : decode cc pc = .ok (.bastore, 1))
    (kk : ∀ (H1 : Heap) (locs1 : List Loc), WX D A s (mW h ad cA G1) H1 locs1 → W p l e R s m args below meth c H1 locs1 cells slots Q (F0 m (pc + 1) ls rest)) : W p l e R s m args below meth c H locs cells slots Q (F0 m pc ls (.int x :: .int i :: .ref (ad j) :: rest)) := by
  have hx : vp_nar .boolean x = x := by rcases hz with q | q <;> subst q <;> rfl
  refine va_zast X.1.1 X.1.2.1 X.2.1 Y.1 Y.2.1 Y.2.2 q0 1 ha rfl (inb_in hin) hdg (fun H1 locs1 hP hD hS => ?_)
  rw [hx, hset, ← eG] at hP hD
  exact kk H1 locs1 ⟨hP, hD, hS⟩
/-- a call of a method of the model on itself -/
theorem mc {y : MethodName} {cc' : ByteArray} {nL' : Nat} {rt' : Option FieldType} {rm : Room} {av : List Value} {o : Option Value} {index : Nat} {st0 : List Value} (n : Nat) (X : CX own cc nL rt D cA A p s m args meth c) (Y : WX D A s (mW h ad cA G) H locs) (hM : mMet l y cc' nL' rt' rm av G o G1)
    (hG : GoodIn lw_all (wsV own index RX2 y (ws_ y cc' nL' rt'))) (hd : y.cls = RX2 ∧ y.cls ≠ "java/lang/invoke/MethodHandle" ∧ y.cls ≠ "java/lang/invoke/VarHandle" ∧ (parseMethodDescriptor y.desc).map (fun d => d.parameters.length) = some n)
    (hrm : rm.cells = 0 ∧ rm.slots = 0 ∧ rm.frames + 1 ≤ R.frames ∧ 8 + (nL' + 11) + rm.locals ≤ R.locals) (hn : av.length = n) (hl : ls.size = nL) (hstack : st0 = av.reverse ++ .ref h :: rest) (hW : (rest.map fun v => v.category).sum ≤ 8) (hc : cells ≤ R.cells ∧ slots ≤ R.slots) (hdg : decode cc pc = .ok (.invokevirtual index, 3))
    (kk : ∀ (H1 : Heap) (locs1 : List Loc), WX D A s (mW h ad cA G1) H1 locs1 → W p l e R s m args below meth c H1 locs1 cells slots Q (F0 m (pc + 3) ls (o.toList ++ rest))) : W p l e R s m args below meth c H locs cells slots Q (F0 m pc ls st0) := by
  obtain ⟨⟨hx, hb, hml, hown, hts, -, -⟩, hK, hA⟩ := X
  obtain ⟨hP, hD, hS⟩ := Y
  have hfr : ∀ q, va_A (mW h ad cA G) H.size q → A q := fun q hq => by
    rcases hq with ⟨k, e, hk⟩ | hq
    · exact hD.2 k _ hk
    · exact hA q (Nat.le_trans hS.1 hq)
  have hr := va_runV (l := l) (e := e) (R := R) (below := below) (meth := meth) (H := H) (locs := locs) (cells := cells) (slots := slots) (mc := 0) (ms := 0) (g := F0 m pc ls st0) (rest := rest) (As := av) (Ts := lw_all) (cc := cc) (nL := nL) ⟨hx, hb, hml, hown, hts⟩ (hM D cA h ad H.size)
    (cwV n hts hG rfl hrm.1 hrm.2.1 hd ⟨hrm.2.2.1, hrm.2.2.2⟩) ⟨fun a U g mk q => by
        obtain ⟨q0, q1, qP, qK, qD⟩ := q
        exact ⟨q0, q1, qP, va_K.moved (u := U) (U := U.calling g mk a) (Vm.Alike.refl U.vm) qK, qD⟩, va_recv hK hP (ci := 0) (q0 := 0) rfl rfl, fun U hU hW => ⟨rfl, by rw [hU], by rw [hU]; exact hP, va_K.moved hW.alike hK, hD.weaken (fun _ _ _ _ => trivial)⟩⟩ rfl hn hl hstack (lv_room hW) hdg hc
  intro T hT X
  obtain ⟨v, st₀, t, T', L, h0, X', hL, e1, e2, ⟨hv, hP1, hz, hk⟩, st⟩ := hr T hT X
  cases hv
  rw [h0] at hz hk
  obtain ⟨t2, a1, b1⟩ := kk T'.heap (locs ++ L) ⟨by rw [e1]; exact hP1, va_D_ad (mW_ad h ad cA G G1) hD,
    ⟨Nat.le_trans hS.1 (by rw [e1]; exact hz), fun q h1 h2 => by rw [e1, hk q (Nat.lt_of_lt_of_le h1 hS.1) (fun z => h2 (hfr q z))]; exact hS.2.1 q h1 h2, fun q hq => by
      rcases List.mem_append.mp hq with h | h
      · exact hS.2.2 q h
      · exact hfr _ (hL q h)⟩⟩ T' rfl X'
  exact ⟨t2, st t2 a1, b1⟩
theorem mcI {y : MethodName} {cc' : ByteArray} {nL' : Nat} {rt' : Option FieldType} {rm : Room} {av : List Value} {r : Int32} {index : Nat} {st0 : List Value} (n : Nat) (X : CX own cc nL rt D cA A p s m args meth c) (Y : WX D A s (mW h ad cA G) H locs) (hM : mMet l y cc' nL' rt' rm av G (some (.int r)) G1)
    (hG : GoodIn lw_all (wsV own index RX2 y (ws_ y cc' nL' rt'))) (hd : y.cls = RX2 ∧ y.cls ≠ "java/lang/invoke/MethodHandle" ∧ y.cls ≠ "java/lang/invoke/VarHandle" ∧ (parseMethodDescriptor y.desc).map (fun d => d.parameters.length) = some n)
    (hrm : rm.cells = 0 ∧ rm.slots = 0 ∧ rm.frames + 1 ≤ R.frames ∧ 8 + (nL' + 11) + rm.locals ≤ R.locals) (hn : av.length = n) (hl : ls.size = nL) (hstack : st0 = av.reverse ++ .ref h :: rest) (hW : (rest.map fun v => v.category).sum ≤ 8) (hc : cells ≤ R.cells ∧ slots ≤ R.slots) (hdg : decode cc pc = .ok (.invokevirtual index, 3))
    (kk : ∀ (H1 : Heap) (locs1 : List Loc), WX D A s (mW h ad cA G1) H1 locs1 → W p l e R s m args below meth c H1 locs1 cells slots Q (F0 m (pc + 3) ls (.int r :: rest))) : W p l e R s m args below meth c H locs cells slots Q (F0 m pc ls st0) := mc n X Y hM hG hd hrm hn hl hstack hW hc hdg kk
theorem mcV {y : MethodName} {cc' : ByteArray} {nL' : Nat} {rt' : Option FieldType} {rm : Room} {av : List Value} {index : Nat} {st0 : List Value} (n : Nat) (X : CX own cc nL rt D cA A p s m args meth c) (Y : WX D A s (mW h ad cA G) H locs) (hM : mMet l y cc' nL' rt' rm av G none G1)
    (hG : GoodIn lw_all (wsV own index RX2 y (ws_ y cc' nL' rt'))) (hd : y.cls = RX2 ∧ y.cls ≠ "java/lang/invoke/MethodHandle" ∧ y.cls ≠ "java/lang/invoke/VarHandle" ∧ (parseMethodDescriptor y.desc).map (fun d => d.parameters.length) = some n)
    (hrm : rm.cells = 0 ∧ rm.slots = 0 ∧ rm.frames + 1 ≤ R.frames ∧ 8 + (nL' + 11) + rm.locals ≤ R.locals) (hn : av.length = n) (hl : ls.size = nL) (hstack : st0 = av.reverse ++ .ref h :: rest) (hW : (rest.map fun v => v.category).sum ≤ 8) (hc : cells ≤ R.cells ∧ slots ≤ R.slots) (hdg : decode cc pc = .ok (.invokevirtual index, 3))
    (kk : ∀ (H1 : Heap) (locs1 : List Loc), WX D A s (mW h ad cA G1) H1 locs1 → W p l e R s m args below meth c H1 locs1 cells slots Q (F0 m (pc + 3) ls rest)) : W p l e R s m args below meth c H locs cells slots Q (F0 m pc ls st0) := mc n X Y hM hG hd hrm hn hl hstack hW hc hdg kk
theorem m_iret {v : Int32} (X : CX own cc nL (some .int) D cA A p s m args meth c) (Y : WX D A s (mW h ad cA G) H locs) (hdg : decode cc pc = .ok (.ireturn, 1)) : W p l e R s m args below meth c H locs 0 0 (MQ below (mQ D cA h ad A (some (.int v)) G) args s 0 0 A) (F0 m pc ls [.int v]) :=
  W.iret (v := v) X.1.1 X.1.2.1 X.1.2.2.2.2.2.1 (fun t ht _ => ⟨rfl, by rw [ht]; exact Y.1, Y.2.2.F ht⟩) Y.2.2.2.2 hdg X.1.2.2.2.2.2.2
theorem m_zret {v : Int32} (X : CX own cc nL (some .boolean) D cA A p s m args meth c) (Y : WX D A s (mW h ad cA G) H locs) (hz : zb v) (hdg : decode cc pc = .ok (.ireturn, 1)) : W p l e R s m args below meth c H locs 0 0 (MQ below (mQ D cA h ad A (some (.int v)) G) args s 0 0 A) (F0 m pc ls [.int v]) :=
  W.zret (v := v) X.1.1 X.1.2.1 X.1.2.2.2.2.2.1 (by rcases hz with h | h <;> subst h <;> rfl) (fun t ht _ => ⟨rfl, by rw [ht]; exact Y.1, Y.2.2.F ht⟩) Y.2.2.2.2 hdg X.1.2.2.2.2.2.2
theorem m_lret {v : Int64} (X : CX own cc nL (some .long) D cA A p s m args meth c) (Y : WX D A s (mW h ad cA G) H locs) (hdg : decode cc pc = .ok (.lreturn, 1)) : W p l e R s m args below meth c H locs 0 0 (MQ below (mQ D cA h ad A (some (.long v)) G) args s 0 0 A) (F0 m pc ls [.long v]) :=
  W.lret (v := v) X.1.1 X.1.2.1 X.1.2.2.2.2.2.1 (fun t ht _ => ⟨rfl, by rw [ht]; exact Y.1, Y.2.2.F ht⟩) Y.2.2.2.2 hdg X.1.2.2.2.2.2.2
theorem m_vret (X : CX own cc nL none D cA A p s m args meth c) (Y : WX D A s (mW h ad cA G) H locs) (hdg : decode cc pc = .ok (.return_, 1)) : W p l e R s m args below meth c H locs 0 0 (MQ below (mQ D cA h ad A none G) args s 0 0 A) (F0 m pc ls []) :=
  W.vret X.1.1 X.1.2.1 X.1.2.2.2.2.2.1 (fun t ht _ => ⟨rfl, by rw [ht]; exact Y.1, Y.2.2.F ht⟩) Y.2.2.2.2 hdg X.1.2.2.2.2.2.2
end MBASE
