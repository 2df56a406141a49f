/-! SMALL WORLDS: contracts over a few cells, that write them and make none; Arrays.fill -/
set_option maxRecDepth 100000
theorem cell_ext {c : ClassId} {n : Nat} {f g : Nat → Int32} (h : ∀ i, i < n → f i = g i) : vp_cell c (n, .inl f) = vp_cell c (n, .inl g) := by
  show arrV c n (fun j => .int (f j)) = arrV c n (fun j => .int (g j))
  unfold arrV
  congr 1
  apply Array.ext
  · simp
  · intro i h1 h2
    simp at h1 ⊢
    exact h i h1
theorem at_ext {D : va_G} {H : Heap} {a n : Nat} {c : ClassId} {f g : Nat → Int32} (h : ∀ i, i < n → f i = g i) (hf : va_at D cls (a, .inl (c, n, .inl f)) H) : va_at D cls (a, .inl (c, n, .inl g)) H := by
  show H[a]? = some (vp_cell c (n, .inl g))
  rw [← cell_ext h]
  exact hf
def kMet (l : Launch) (y : MethodName) (cc : ByteArray) (nL : Nat) (rt : Option FieldType) (rm : Room) (av : List Value) (D : va_G) (cA : Nat → ClassId) (ws : va_W) (o : Option Value) (ws' : va_W) : Prop :=
  ∀ sz : Nat, Met l y (ws_ y cc nL rt) rm (va_Pc av (fun U => U.heap.size = sz ∧ va_P D cls ws U.heap ∧ va_K D cls (tyL cA) U ∧ va_D (fun _ => True) ws ∧ TWs U)) (fun _ st oc t => oc = .returned o ∧ va_P D cls ws' t.heap ∧ va_F (va_A ws sz) st t) 0 0 (va_A ws sz)
section SMALL
variable {p : Program} {l : Launch} {e : Env} {R : Room} {s : State} {m : MethodId} {args : Array Value} {below : List Frame} {meth : Method} {c : Code} {H : Heap} {locs : List Loc} {cells slots : Nat} {Q : State → Prop}
variable {own : String} {cc : ByteArray} {nL : Nat} {rt : Option FieldType} {pc : Nat} {ls : Array Slot} {rest : List Value} {D : va_G} {cA : Nat → ClassId} {ws : va_W}
theorem kMet_of {y : MethodName} {rm : Room} {av : List Value} {o : Option Value} {ws' : va_W} (hy : plainName y.cls = true) (hlen : (lg_sl av).length ≤ nL)
    (body : ∀ {p : Program} {e : Env} {s : State} {m : MethodId} {args : Array Value} {below : List Frame} {meth : Method} {c : Code} {ls : Array Slot} {A : Nat → Prop}, RX y.cls cc nL rt D cA p s m args meth c → WX D A s ws s.heap [] → lv_has ls nL (lv_args 0 av) →
      W p l e rm s m args below meth c s.heap [] 0 0 (MQ below (fun _ st oc t => oc = .returned o ∧ va_P D cls ws' t.heap ∧ va_F A st t) args s 0 0 A) (F0 m 0 ls [])) : kMet l y cc nL rt rm av D cA ws o ws' := by
  intro sz
  refine Met.ofW (cc := cc) (maxL := nL) (ret := rt) hy rfl ?_
  intro p e s m args below meth c s₁ B hml hv
  obtain ⟨rfl, hsz, hP, hK, hD, hT⟩ := hv
  subst hsz
  have hts := atoms_spec (ws := ws_ y cc nL rt) B.pre
  rw [lg_entry_eq]
  exact body ⟨⟨B.exec, B.bytes, hml, findClass_of_methodNamed B.named, fun w h => hts w (List.mem_cons_of_mem _ h), B.returns, B.notSynchronized⟩, hK, hT⟩ ⟨hP, hD.self, va_S.rf⟩ (lv_entry av hlen)
/-- behind such a call -/
theorem k_tail {o : Option Value} {st0 : List Value} {A : Nat → Prop} {w wc wc' w' : va_W} (hr : va_Run p l e R s m args below meth c H locs cells slots 0 0 (F0 m pc ls st0) rest (fun st oc t => oc = .returned o ∧ va_P D cls wc' t.heap ∧ va_F (va_A wc H.size) st t) (va_A wc H.size)) (Y : WX D A s w H locs) (hA : ∀ q, s.heap.size ≤ q → A q) (hsub : ∀ (k : Nat) (z : Nat × va_E), wc[k]? = some z → ∃ j : Nat, w[j]? = some z)
    (hD' : va_D A w') (hnew : ∀ (k : Nat) (z : Nat × va_E), w'[k]? = some z → (∃ j : Nat, wc'[j]? = some z) ∨ ((∃ j : Nat, w[j]? = some z) ∧ ∀ (i : Nat) (y : Nat × va_E), wc[i]? = some y → y.1 ≠ z.1))
    (kk : ∀ (H1 : Heap) (locs1 : List Loc), WX D A s w' H1 locs1 → W p l e R s m args below meth c H1 locs1 cells slots Q (F0 m (pc + 3) ls (o.toList ++ rest))) : W p l e R s m args below meth c H locs cells slots Q (F0 m pc ls st0) := by
  obtain ⟨hP, hD, hS⟩ := Y
  have hfr : ∀ q, va_A wc H.size q → A q := fun q hq => by
    rcases hq with ⟨k, e, hk⟩ | hq
    · obtain ⟨j, hj⟩ := hsub k _ hk
      exact hD.2 j _ hj
    · exact hA q (Nat.le_trans hS.1 hq)
  intro T hT X
  obtain ⟨v, st₀, t, T', L, h0, X', hL, e1, e2, ⟨hv, hP1, hz, hk⟩, st⟩ := hr T hT X
  cases hv
  rw [h0] at hz hk
  obtain ⟨t2, a1, b1⟩ := kk T'.heap (locs ++ L) ⟨fun k z hz' => by
      rcases hnew k z hz' with ⟨j, hj⟩ | ⟨⟨j, hj⟩, hne⟩
      · rw [e1]; exact hP1 j z hj
      · refine (hP j z hj).kept (by
          rw [e1]
          have hlt := (hP j z hj).lt
          refine hk _ hlt (fun hq => ?_)
          rcases hq with ⟨i, e, hi⟩ | hq
          · exact hne i _ hi rfl
          · omega), hD',
    ⟨Nat.le_trans hS.1 (by rw [e1]; exact hz), fun q h1 h2 => by rw [e1, hk q (Nat.lt_of_lt_of_le h1 hS.1) (fun z => h2 (hfr q z))]; exact hS.2.1 q h1 h2, fun q hq => by
      rcases List.mem_append.mp hq with h | h
      · exact hS.2.2 q h
      · exact hfr _ (hL q h)⟩⟩ T' rfl X'
  exact ⟨t2, st t2 a1, b1⟩
/-- what a small world needs at a call -/
theorem k_pre {A : Nat → Prop} {w wc : va_W} (hK : va_K D cls (tyL cA) s) (hT : TWs s) (Y : WX D A s w H locs) (hP : va_P D cls wc H) (hD : va_D (fun _ => True) wc) (av : List Value) : PreS s H (va_Pc av (fun U => U.heap.size = H.size ∧ va_P D cls wc U.heap ∧ va_K D cls (tyL cA) U ∧ va_D (fun _ => True) wc ∧ TWs U)) av :=
  ⟨fun a U g mk q => by
      obtain ⟨q0, q1, qP, qK, qD, qT⟩ := q
      exact ⟨q0, q1, qP, va_K.moved (u := U) (U := U.calling g mk a) (Vm.Alike.refl U.vm) qK, qD, qT.same (u := U) rfl⟩, fun U hU hW => ⟨rfl, by rw [hU], by rw [hU]; exact hP, va_K.moved hW.alike hK, hD, hT.warm hW⟩⟩
theorem k_vret {A : Nat → Prop} {w' : va_W} (B : BX own cc nL none p s m args meth c) (hP : va_P D cls w' H) (hS : va_S A s.heap H locs) (hdg : decode cc pc = .ok (.return_, 1)) : W p l e R s m args below meth c H locs 0 0 (MQ below (fun _ st oc t => oc = .returned none ∧ va_P D cls w' t.heap ∧ va_F A st t) args s 0 0 A) (F0 m pc ls []) :=
  W.vret B.1 B.2.1 B.2.2.2.2.2.1 (fun t ht _ => ⟨rfl, by rw [ht]; exact hP, hS.F ht⟩) hS.2.2 hdg B.2.2.2.2.2.2
set_option maxHeartbeats 4000000 in
/-- Arrays.fill(int[], int) -/
theorem kFill (l : Launch) {a n : Nat} {f : Nat → Int32} {x : Int32} (hn : n < 2 ^ 31) : kMet l yJ0_fill cJ0_fill 4 none (cR 0 0 0) [.ref a, .int x] D cA [(a, .inl (cA 0, n, .inl f))] none [(a, .inl (cA 0, n, .inl (fun _ => x)))] := by
  refine kMet_of (by decide +kernel) (Nat.le_of_ble_eq_true rfl) (fun {p e s m args below meth c ls A} X Y hl => ?_)
  have hx := X.1.1
  have hb := X.1.2.1
  have hl : lv_has ls 4 [(0, .ref a), (1, .int x)] := hl
  refine lv_iconst (v := 0) hx hb dJ0_fill_0 (by decide) ?_
  refine lv_istore_n (lv' := [(2, .int 0), (0, .ref a), (1, .int x)]) hx hb dJ0_fill_1 rfl hl (by decide) rfl (fun ls hl => ?_)
  refine lv_aload_n hx hb dJ0_fill_2 rfl (lv_at hl 1 rfl) ?_
  refine va_alen (v := nI n) hx hb X.2.1 Y.1 0 0 rfl rfl rfl dJ0_fill_3 ?_
  refine lv_istore_n (lv' := [(3, .int (nI n)), (2, .int 0), (0, .ref a), (1, .int x)]) hx hb dJ0_fill_4 rfl hl (by decide) rfl (fun ls hl => ?_)
  have loop : ∀ (k i : Nat), i + k = n → ∀ (g : Nat → Int32), (∀ j, j < i → g j = x) → ∀ (H : Heap) (locs : List Loc), WX D A s [(a, .inl (cA 0, n, .inl g))] H locs → ∀ ls : Array Slot, lv_has ls 4 [(3, .int (nI n)), (2, .int (nI i)), (0, .ref a), (1, .int x)] → W p l e (cR 0 0 0) s m args below meth c H locs 0 0 (MQ below (fun _ st oc t => oc = .returned none ∧ va_P D cls [(a, .inl (cA 0, n, .inl (fun _ => x)))] t.heap ∧ va_F A st t) args s 0 0 A) (F0 m 5 ls []) := by
    intro k
    induction k with
    | zero =>
      intro i hi g hg H locs Y ls hl
      refine lv_iload_n hx hb dJ0_fill_5 rfl (lv_at hl 1 rfl) ?_
      refine lv_iload_n hx hb dJ0_fill_6 rfl (lv_at hl 0 rfl) ?_
      refine lv_icmp_ge (tgt := 20) hx hb dJ0_fill_7 (by decide) (fun _ => ?_) (fun c_ => ?_)
      · refine k_vret X.1 (fun k z hz => ?_) Y.2.2 dJ0_fill_20
        have hk : k = 0 := by
          have := (List.getElem?_eq_some_iff.mp hz).1
          simpa using this
        subst hk
        cases hz
        exact at_ext (fun j hj => hg j (by omega)) (Y.1 0 _ rfl)
      · exact absurd (nI_le (by omega) (by omega)) c_
    | succ k ih =>
      intro i hi g hg H locs Y ls hl
      refine lv_iload_n hx hb dJ0_fill_5 rfl (lv_at hl 1 rfl) ?_
      refine lv_iload_n hx hb dJ0_fill_6 rfl (lv_at hl 0 rfl) ?_
      refine lv_icmp_ge (tgt := 20) hx hb dJ0_fill_7 (by decide) (fun c_ => ?_) (fun _ => ?_)
      · exact absurd c_ (nI_ge (by omega) (by omega))
      · refine lv_aload_n hx hb dJ0_fill_10 rfl (lv_at hl 2 rfl) ?_
        refine lv_iload_n hx hb dJ0_fill_11 rfl (lv_at hl 1 rfl) ?_
        refine lv_iload_n hx hb dJ0_fill_12 rfl (lv_at hl 3 rfl) ?_
        refine va_iast hx hb X.2.1 Y.1 Y.2.1 Y.2.2 0 0 rfl rfl (vp_in_nI (by omega) hn) dJ0_fill_13 (fun H1 locs1 hP hD hS => ?_)
        refine lv_iinc (v := nI (i + 1)) (lv' := [(2, .int (nI (i + 1))), (3, .int (nI n)), (0, .ref a), (1, .int x)]) hx hb dJ0_fill_14 hl (k := 1) rfl (nI_add i 1) (by decide) rfl (fun ls hl => ?_)
        refine lv_goto (tgt := 5) hx hb dJ0_fill_17 (by decide) ?_
        rw [nI_clamp (by omega)] at hP hD
        exact ih (i + 1) (by omega) _ (fun j hj => by
          unfold upd
          by_cases h : j = i
          · rw [if_pos h]
          · rw [if_neg h]; exact hg j (by omega)) H1 locs1 ⟨hP, hD, hS⟩ ls (lv_sub hl [1, 0, 2, 3] rfl)
  exact loop n 0 (by omega) f (fun j hj => by omega) s.heap [] Y ls (lv_sub hl [0, 1, 2, 3] rfl)
set_option maxHeartbeats 4000000 in
/-- Arrays.copyOf(int[], its own length) -/
theorem kCopyI (l : Launch) {a : Nat} {f : Nat → Int32} (sz : Nat) : Met l yJ0_copyOf_2 (ws_ yJ0_copyOf_2 cJ0_copyOf_2 3 (some (.array .int))) (cR 1 1 6) (va_Pc [.ref a, .int 6] (fun U => U.heap.size = sz ∧ va_P D cls [(a, .inl (cA 0, 6, .inl f))] U.heap ∧ va_K D cls (tyL cA) U ∧ va_D (fun _ => True) [(a, .inl (cA 0, 6, .inl f))] ∧ TWs U))
    (fun _ st oc t => ∃ q : Nat, oc = .returned (some (.ref q)) ∧ va_P D cls [(a, .inl (cA 0, 6, .inl f)), (q, .inl (cA 0, 6, .inl f))] t.heap ∧ sz ≤ q ∧ va_F (va_A [(a, .inl (cA 0, 6, .inl f))] sz) st t) 1 6 (va_A [(a, .inl (cA 0, 6, .inl f))] sz) := by
  refine Met.ofW (cc := cJ0_copyOf_2) (maxL := 3) (ret := some (.array .int)) (by decide +kernel) rfl ?_
  intro p e s m args below meth c s₁ B hml hv
  obtain ⟨rfl, hsz, hP, hK, hD, hT⟩ := hv
  subst hsz
  have hts := atoms_spec (ws := ws_ yJ0_copyOf_2 cJ0_copyOf_2 3 (some (.array .int))) B.pre
  have hts : ∀ w ∈ lw_all, w.before _ s = true := fun w h => hts w (List.mem_cons_of_mem _ h)
  have hx := B.exec
  have hb := B.bytes
  have hown : s.vm.findClass "java/util/Arrays" = some m.cls := findClass_of_methodNamed B.named
  rw [lg_entry_eq]
  have hl := lv_entry ([.ref a, .int 6]) (n := 3) (Nat.le_of_ble_eq_true rfl)
  generalize (lg_sl ([.ref a, .int 6]) ++ List.replicate (3 - (lg_sl ([.ref a, .int 6])).length) Slot.unset).toArray = ls at hl ⊢
  have hl : lv_has ls 3 [(0, .ref a), (1, .int 6)] := hl
  have hS : va_S (va_A [(a, .inl (cA 0, 6, .inl f))] s.heap.size) s.heap s.heap [] := va_S.rf
  have hnm : s.vm.findClass "[I" = some (cA 0) := (hK.2 0 (cA 0, .int) rfl).2
  refine lv_iload_n hx hb dJ0_copyOf_2_0 rfl (lv_at hl 1 rfl) ?_
  refine lv_aload_n hx hb dJ0_copyOf_2_1 rfl (lv_at hl 0 rfl) ?_
  refine va_alen (v := 6) hx hb hK hP 0 0 rfl rfl rfl dJ0_copyOf_2_2 ?_
  refine lv_icmp_ne (tgt := 14) hx hb dJ0_copyOf_2_3 (by decide) (fun c_ => absurd rfl c_) (fun _ => ?_)
  refine lv_aload_n hx hb dJ0_copyOf_2_6 rfl (lv_at hl 0 rfl) ?_
  refine va_clone (ad := "[I") hx hb (hml.trans hl.1.symm) hown (hts _ q963) (hts _ q964) (hts _ q365) (hts _ q366) (hts _ q965) (hT.1 ("[I", "java/lang/Cloneable") (by decide)) hK hP hD.self hS (fun q h => Or.inr h) 0 0 rfl (ty := .int) rfl hnm (fun i v hv => ?_) (by decide) (Nat.le_of_ble_eq_true rfl) (by decide) (Nat.le_of_ble_eq_true rfl) dJ0_copyOf_2_7 (fun q H1 hK1 hP1 hD1 hS1 => ?_)
  · have hv : (arrV (cA 0) 6 (fun j => .int (f j))).slots[i]? = some v := hv
    by_cases h : i < 6
    · rw [arrV_read _ _ h] at hv
      cases hv
      rfl
    · have h2 : 6 ≤ i := by omega
      rw [Array.getElem?_eq_none (by rw [arrV_size]; exact h2)] at hv
      cases hv
  · refine va_castA hx hb hown (hts _ q967) hP1 1 rfl hnm dJ0_copyOf_2_10 ?_
    have hq : s.heap.size ≤ q := by
      rcases hD1.2 1 _ rfl with ⟨k, e, hk⟩ | h
      · have hk0 : k = 0 := by
          have := (List.getElem?_eq_some_iff.mp hk).1
          simpa using this
        subst hk0
        have : a = q := congrArg Prod.fst (Option.some.inj hk)
        exact absurd (hD1.1 0 1 _ _ rfl rfl this) (by decide)
      · exact h
    exact W.aret (v := .ref q) hx hb B.returns (Or.inr ⟨_, rfl⟩) (Or.inr ⟨q, rfl⟩) (fun t ht _ => ⟨q, rfl, by rw [ht]; exact hP1, hq, hS1.F ht⟩) hS1.2.2 dJ0_copyOf_2_13 B.notSynchronized
end SMALL
