/-! ROWS: states made, stored, set from now -/
set_option maxRecDepth 100000
/-- states and arrays aside, with the maps own, ow told -/
def RpSo (cA : Nat → ClassId) (G : GS) (Z : ZT) (own : Nat → Nat × Nat × Nat) (ow : Nat → Nat) : Prop :=
    (∀ i, i < 2 → (Z.1 9 i = none ∧ G 35 i = 0) ∨ ∃ a, Z.1 9 i = some a ∧ G 35 i = 1 ∧ StAt cA Z a (own a).1 (own a).2.1 (own a).2.2 (G (40 + i)) ∧ ow (own a).1 = a ∧ ow (own a).2.1 = a ∧ ow (own a).2.2 = a ∧ (own a).1 ≠ (own a).2.1) ∧
    (∀ i, i < 8 → (Z.1 10 i = none ∧ G 36 i = 0) ∨ ∃ a, Z.1 10 i = some a ∧ G 36 i = 1 ∧ StAt cA Z a (own a).1 (own a).2.1 (own a).2.2 (G (50 + i)) ∧ ow (own a).1 = a ∧ ow (own a).2.1 = a ∧ ow (own a).2.2 = a ∧ (own a).1 ≠ (own a).2.1) ∧
    (∀ i j a, i < 8 → j < 8 → Z.1 10 i = some a → Z.1 10 j = some a → i = j) ∧
    (∀ i j a, i < 2 → j < 8 → Z.1 9 i = some a → Z.1 10 j = some a → False) ∧
    ((Z.1 38 0 = none) ∨ ∃ a, Z.1 38 0 = some a ∧ a ∈ Z.2.1 ∧ Z.2.2 a = .inl (cA 0, 6, .inl (G 38)) ∧ ow a = a)
theorem RpSo.toS {cA : Nat → ClassId} {G : GS} {Z : ZT} {own : Nat → Nat × Nat × Nat} {ow : Nat → Nat} (h : RpSo cA G Z own ow) : RpS cA G Z := ⟨own, ow, h⟩
/-- a state at q, its arrays its own -/
def FrSt (cA : Nat → ClassId) (G : GS) (Z : ZT) (q r n w : Nat) (f : Nat → Int32) : Prop := ∃ own ow, RpSo cA G Z own ow ∧ own q = (r, n, w) ∧ ow r = q ∧ ow n = q ∧ ow w = q ∧ r ≠ n ∧ StAt cA Z q r n w f
/-- the contents of the pool with the state at q set to f -/
def stUp (cA : Nat → ClassId) (g : Nat → va_E) (q r n w : Nat) (f1 f2 f3 : Nat → Int32) (th dy : Int32) : Nat → va_E := va_up (va_up (va_up (va_up g q (.inr (2, [.ref r, .ref n, .ref w, .int th, .int dy]))) r (.inl (cA 0, 6, .inl f1))) n (.inl (cA 0, 6, .inl f2))) w (.inl (cA 0, 8, .inl f3))
theorem stUp_ne {cA : Nat → ClassId} {g : Nat → va_E} {q r n w a : Nat} {f1 f2 f3 : Nat → Int32} {th dy : Int32} (h1 : a ≠ q) (h2 : a ≠ r) (h3 : a ≠ n) (h4 : a ≠ w) : stUp cA g q r n w f1 f2 f3 th dy a = g a := by
  unfold stUp
  rw [va_up_ne _ _ h4, va_up_ne _ _ h3, va_up_ne _ _ h2, va_up_ne _ _ h1]
theorem stUp_q {cA : Nat → ClassId} {g : Nat → va_E} {q r n w : Nat} {f1 f2 f3 : Nat → Int32} {th dy : Int32} (h2 : q ≠ r) (h3 : q ≠ n) (h4 : q ≠ w) : stUp cA g q r n w f1 f2 f3 th dy q = .inr (2, [.ref r, .ref n, .ref w, .int th, .int dy]) := by
  unfold stUp
  rw [va_up_ne _ _ h4, va_up_ne _ _ h3, va_up_ne _ _ h2, va_up_self]
theorem stUp_r {cA : Nat → ClassId} {g : Nat → va_E} {q r n w : Nat} {f1 f2 f3 : Nat → Int32} {th dy : Int32} (h3 : r ≠ n) (h4 : r ≠ w) : stUp cA g q r n w f1 f2 f3 th dy r = .inl (cA 0, 6, .inl f1) := by
  unfold stUp
  rw [va_up_ne _ _ h4, va_up_ne _ _ h3, va_up_self]
theorem stUp_n {cA : Nat → ClassId} {g : Nat → va_E} {q r n w : Nat} {f1 f2 f3 : Nat → Int32} {th dy : Int32} (h4 : n ≠ w) : stUp cA g q r n w f1 f2 f3 th dy n = .inl (cA 0, 6, .inl f2) := by
  unfold stUp
  rw [va_up_ne _ _ h4, va_up_self]
theorem stUp_w {cA : Nat → ClassId} {g : Nat → va_E} {q r n w : Nat} {f1 f2 f3 : Nat → Int32} {th dy : Int32} : stUp cA g q r n w f1 f2 f3 th dy w = .inl (cA 0, 8, .inl f3) := by
  unfold stUp
  rw [va_up_self]
theorem StAt.apart {cA : Nat → ClassId} {Z : ZT} {b r n w : Nat} {f : Nat → Int32} (hst : StAt cA Z b r n w f) : b ≠ r ∧ b ≠ n ∧ b ≠ w ∧ r ≠ w ∧ n ≠ w := by
  obtain ⟨m1, m2, m3, m4, m5, ⟨g1, m6, -⟩, ⟨g2, m7, -⟩, ⟨g3, m8, -⟩⟩ := hst
  refine ⟨fun e => (by rw [e, m6] at m5; cases m5), fun e => (by rw [e, m7] at m5; cases m5), fun e => (by rw [e, m8] at m5; cases m5), fun e => ?_, fun e => ?_⟩
  · rw [e, m8] at m6
    injection m6 with m6; injection m6 with _ m6; injection m6 with m6; omega
  · rw [e, m8] at m7
    injection m7 with m7; injection m7 with _ m7; injection m7 with m7; omega
section STATE3
variable {p : Program} {l : Launch} {e : Env} {R : Room} {s : State} {m : MethodId} {args : Array Value} {below : List Frame} {meth : Method} {c : Code} {H : Heap} {locs : List Loc} {cells slots : Nat} {Q : State → Prop}
variable {own : String} {cc : ByteArray} {nL : Nat} {rt : Option FieldType} {pc : Nat} {ls : Array Slot} {rest : List Value} {D : va_G} {cA : Nat → ClassId} {h : Nat} {ad : Nat → Nat} {A : Nat → Prop} {G G1 : GS} {Z Z0 Z1 : ZT}
theorem CY.frBack {i : Nat} (Y : CY D cA A s h ad G Z H locs) (hi : i < 8) (hn : G 36 i = 1) : ∃ v r n w, Z.1 10 i = some v ∧ FrSt cA G Z v r n w (G (50 + i)) := by
  obtain ⟨-, -, -, own', ow, s1, s2, s3⟩ := Y.2
  rcases s2 i hi with ⟨-, h2⟩ | ⟨a, h1, -, h3, h4, h5, h6, h7⟩
  · rw [h2] at hn; exact absurd hn (by decide)
  · exact ⟨a, (own' a).1, (own' a).2.1, (own' a).2.2, h1, own', ow, ⟨s1, s2, s3⟩, rfl, h4, h5, h6, h7, h3⟩
/-- the state at q set anew: what the made objects are then -/
theorem Rp.setSt {q r n w : Nat} {f f1 f2 f3 : Nat → Int32} {th dy : Int32} {fn : Nat → Int32} (hR : Rp cA G Z) (hF : FrSt cA G Z q r n w f) (e0 : ∀ k, k < 39 → G1 k = G k) (e60 : ∀ k, k < 8 → G1 (60 + k) = G (60 + k))
    (e40 : ∀ i, i < 2 → (Z.1 9 i = some q → G1 (40 + i) = fn) ∧ (Z.1 9 i ≠ some q → G1 (40 + i) = G (40 + i))) (e50 : ∀ i, i < 8 → (Z.1 10 i = some q → G1 (50 + i) = fn) ∧ (Z.1 10 i ≠ some q → G1 (50 + i) = G (50 + i)))
    (t1 : ∀ i, i < 6 → f1 i = fn i) (t2 : ∀ i, i < 6 → f2 i = fn (6 + i)) (t3 : ∀ i, i < 8 → f3 i = fn (12 + i)) (t4 : th = fn 20) (t5 : dy = fn 21) (hZ1 : Z1 = (Z.1, Z.2.1, stUp cA Z.2.2 q r n w f1 f2 f3 th dy)) :
    Rp cA G1 Z1 ∧ FrSt cA G1 Z1 q r n w fn := by
  subst hZ1
  obtain ⟨hN, hO, hV, -⟩ := hR
  obtain ⟨own', ow, ⟨s1, s2, s3, s4, s5⟩, o1, o2, o3, o4, hrn, hst⟩ := hF
  obtain ⟨a1, a2, a3, a4, a5⟩ := hst.apart
  obtain ⟨m1, m2, m3, m4, m5, ⟨g1, m6, -⟩, ⟨g2, m7, -⟩, ⟨g3, m8, -⟩⟩ := hst
  have hst' : StAt cA (Z.1, Z.2.1, stUp cA Z.2.2 q r n w f1 f2 f3 th dy) q r n w fn := ⟨m1, m2, m3, m4, by rw [← t4, ← t5]; exact stUp_q a1 a2 a3, ⟨f1, stUp_r hrn a4, t1⟩, ⟨f2, stUp_n a5, t2⟩, ⟨f3, stUp_w, t3⟩⟩
  have key : ∀ b, b ≠ q → (∀ g, Z.2.2 b ≠ .inl (cA 0, 6, .inl g)) → (∀ g, Z.2.2 b ≠ .inl (cA 0, 8, .inl g)) → stUp cA Z.2.2 q r n w f1 f2 f3 th dy b = Z.2.2 b := fun b h1 h2 h3 => stUp_ne h1 (fun e => h2 g1 (by rw [e]; exact m6)) (fun e => h2 g2 (by rw [e]; exact m7)) (fun e => h3 g3 (by rw [e]; exact m8))
  have keyO : ∀ b ci fs, Z.2.2 b = .inr (ci, fs) → ci ≠ 2 → stUp cA Z.2.2 q r n w f1 f2 f3 th dy b = Z.2.2 b := fun b ci fs hb hc => key b (fun e => by rw [e, m5] at hb; injection hb with hb; injection hb with hb; exact hc hb.symm) (fun g e => by rw [hb] at e; cases e) (fun g e => by rw [hb] at e; cases e)
  have keyV : ∀ b g, Z.2.2 b = .inl (cA 0, 4, .inl g) → stUp cA Z.2.2 q r n w f1 f2 f3 th dy b = Z.2.2 b := fun b g hb => key b (fun e => (by rw [e, m5] at hb; cases hb)) (fun g' e => by rw [hb] at e; injection e with e; injection e with _ e; injection e with e; omega) (fun g' e => by rw [hb] at e; injection e with e; injection e with _ e; injection e with e; omega)
  have st : ∀ b fb, b ≠ q → StAt cA Z b (own' b).1 (own' b).2.1 (own' b).2.2 fb → ow (own' b).1 = b → ow (own' b).2.1 = b → ow (own' b).2.2 = b → StAt cA (Z.1, Z.2.1, stUp cA Z.2.2 q r n w f1 f2 f3 th dy) b (own' b).1 (own' b).2.1 (own' b).2.2 fb := by
    intro b fb hb hs p1 p2 p3
    have hs0 := hs
    obtain ⟨-, -, -, -, k5, ⟨k1, k6, -⟩, ⟨k2, k7, -⟩, ⟨k3, k8, -⟩⟩ := hs
    have ar : ∀ x, ow x = b → (∃ c1, Z.2.2 x = .inl c1) → stUp cA Z.2.2 q r n w f1 f2 f3 th dy x = Z.2.2 x := fun x hx ⟨c1, hc⟩ => stUp_ne (fun e => by rw [e, m5] at hc; cases hc) (fun e => hb (by rw [← hx, e]; exact o2)) (fun e => hb (by rw [← hx, e]; exact o3)) (fun e => hb (by rw [← hx, e]; exact o4))
    exact hs0.mv (fun _ _ => rfl) (fun _ h => h) (key b hb (fun g e => by rw [k5] at e; cases e) (fun g e => by rw [k5] at e; cases e)) (ar _ p1 ⟨_, k6⟩) (ar _ p2 ⟨_, k7⟩) (ar _ p3 ⟨_, k8⟩)
  have so : RpSo cA G1 (Z.1, Z.2.1, stUp cA Z.2.2 q r n w f1 f2 f3 th dy) own' ow := by
    refine ⟨fun i hi => ?_, fun i hi => ?_, s3, s4, ?_⟩
    · rw [e0 35 (by decide)]
      rcases s1 i hi with h | ⟨b, h1, h2, h3, h4, h5, h6, h7⟩
      · exact Or.inl h
      · by_cases hb : b = q
        · subst hb
          refine Or.inr ⟨b, h1, h2, ?_, h4, h5, h6, h7⟩
          rw [(e40 i hi).1 h1, o1]
          exact hst'
        · refine Or.inr ⟨b, h1, h2, ?_, h4, h5, h6, h7⟩
          rw [(e40 i hi).2 (fun e => hb (by rw [h1] at e; exact Option.some.inj e))]
          exact st b _ hb h3 h4 h5 h6
    · rw [e0 36 (by decide)]
      rcases s2 i hi with h | ⟨b, h1, h2, h3, h4, h5, h6, h7⟩
      · exact Or.inl h
      · by_cases hb : b = q
        · subst hb
          refine Or.inr ⟨b, h1, h2, ?_, h4, h5, h6, h7⟩
          rw [(e50 i hi).1 h1, o1]
          exact hst'
        · refine Or.inr ⟨b, h1, h2, ?_, h4, h5, h6, h7⟩
          rw [(e50 i hi).2 (fun e => hb (by rw [h1] at e; exact Option.some.inj e))]
          exact st b _ hb h3 h4 h5 h6
    · rw [e0 38 (by decide)]
      rcases s5 with h | ⟨a, h1, h2, h3, h4⟩
      · exact Or.inl h
      · refine Or.inr ⟨a, h1, h2, ?_, h4⟩
        have hq : a ≠ q := fun e => by rw [e, m5] at h3; cases h3
        rw [← h3]
        exact stUp_ne hq (fun e => hq (by rw [← h4, e]; exact o2)) (fun e => hq (by rw [← h4, e]; exact o3)) (fun e => hq (by rw [← h4, e]; exact o4))
  refine ⟨⟨hN.mv (fun i _ => by rw [e0 30 (by decide)]) (fun i _ => by rw [e0 31 (by decide)]) (fun _ _ => rfl) (fun _ h => h) (fun b ci fs _ hb hc => keyO b ci fs hb hc), hO.mv (fun i _ => by rw [e0 32 (by decide)]) (fun i _ => by rw [e0 33 (by decide)]) (fun i _ => by rw [e0 34 (by decide)]) (fun _ _ => rfl) (fun _ h => h) (fun b ci fs _ hb hc => keyO b ci fs hb hc),
    hV.mv (fun i _ => by rw [e0 37 (by decide)]) (fun i hi j _ => by rw [e60 i hi]) (fun _ _ => rfl) (fun _ h => h) (fun b g _ hb => keyV b g hb), so.toS⟩, own', ow, so, o1, o2, o3, o4, hrn, hst'⟩
theorem cX0W_eq {Z1 : ZT} (e0 : ∀ k, k < 30 → G1 k = G k) (e1 : Z1.1 = Z.1) : cX0W h ad cA G1 Z1 = cX0W h ad cA G Z := by
  unfold cX0W cF nF
  rw [e0 4 (by decide), e0 20 (by decide), e0 21 (by decide), e0 22 (by decide), e0 14 (by decide), e0 16 (by decide), e0 17 (by decide), e0 18 (by decide), e0 0 (by decide), e0 8 (by decide), e1]
/-- a made state set from now -/
theorem c_setSt {q r n w index : Nat} {f : Nat → Int32} (X : CC RX0 cc nL rt D cA A p s m args meth c) (Y : CY D cA A s h ad G Z H locs) (hF : FrSt cA G Z q r n w f) (e0 : ∀ k, k < 39 → G1 k = G k) (e60 : ∀ k, k < 8 → G1 (60 + k) = G (60 + k))
    (e40 : ∀ i, i < 2 → (Z.1 9 i = some q → G1 (40 + i) = snap G) ∧ (Z.1 9 i ≠ some q → G1 (40 + i) = G (40 + i))) (e50 : ∀ i, i < 8 → (Z.1 10 i = some q → G1 (50 + i) = snap G) ∧ (Z.1 10 i ≠ some q → G1 (50 + i) = G (50 + i)))
    (hq : Cond.methodLink RX0 index yX1_set ∈ lw_all) (hR : 2 ≤ R.frames ∧ 80 ≤ R.locals) (hl : ls.size = nL) (hW : (rest.map fun v => v.category).sum ≤ 8) (hc : cells ≤ R.cells ∧ slots ≤ R.slots) (hdg : decode cc pc = .ok (.invokevirtual index, 3))
    (kk : ∀ (H1 : Heap) (locs1 : List Loc) (Z1 : ZT), Z1.1 = Z.1 → CY D cA A s h ad G1 Z1 H1 locs1 → FrSt cA G1 Z1 q r n w (snap G) → W p l e R s m args below meth c H1 locs1 cells slots Q (F0 m (pc + 3) ls (.ref q :: rest))) : W p l e R s m args below meth c H locs cells slots Q (F0 m pc ls (.ref (ad 8) :: .ref q :: rest)) := by
  obtain ⟨Z1, hZ1⟩ : ∃ Z1 : ZT, Z1 = (Z.1, Z.2.1, stUp cA Z.2.2 q r n w (G 20) (G 21) (G 22) (G 8 3) (G 8 4)) := ⟨_, rfl⟩
  obtain ⟨hR1, hF1⟩ := Rp.setSt (fn := snap G) (f1 := G 20) (f2 := G 21) (f3 := G 22) (th := G 8 3) (dy := G 8 4) Y.2 hF e0 e60 e40 e50 (fun i hi => by unfold snap; rw [if_pos hi]) (fun i hi => by unfold snap; rw [if_neg (by omega), if_pos (by omega), show 6 + i - 6 = i from by omega]) (fun i hi => by unfold snap; rw [if_neg (by omega), if_neg (by omega), if_pos (by omega), show 12 + i - 12 = i from by omega]) rfl rfl hZ1
  obtain ⟨own', ow, -, o1, o2, o3, o4, hrn, hst⟩ := hF
  have hnd := nodup_now Y.1.2.1 hst hrn
  obtain ⟨a1, a2, a3, a4, a5⟩ := hst.apart
  have hst0 := hst
  obtain ⟨m1, m2, m3, m4, m5, ⟨g1, m6, -⟩, ⟨g2, m7, -⟩, ⟨g3, m8, -⟩⟩ := hst
  obtain ⟨wc, ewc⟩ : ∃ wc : va_W, wc = stW cA q r n w g1 g2 g3 (f 20) (f 21) ++ nowW cA ad G := ⟨_, rfl⟩
  obtain ⟨wd, ewd⟩ : ∃ wd : va_W, wd = stW cA q r n w (G 20) (G 21) (G 22) (G 8 3) (G 8 4) ++ nowW cA ad G := ⟨_, rfl⟩
  have hin : ∀ z ∈ wc, z ∈ cW h ad cA G Z := fun z hz => by
    rw [ewc] at hz
    rcases List.mem_append.mp hz with hz | hz
    · exact st_sub hst0 m6 m7 m8 z hz
    · exact now_sub z hz
  have hfix : cX0W h ad cA G1 Z1 = cX0W h ad cA G Z := cX0W_eq (fun k hk => e0 k (by omega)) (by rw [hZ1])
  have hL1 : Z1.2.1 = Z.2.1 := by rw [hZ1]
  have hu : Z1.2.2 = stUp cA Z.2.2 q r n w (G 20) (G 21) (G 22) (G 8 3) (G 8 4) := by rw [hZ1]
  have hin2 : ∀ z ∈ wd, z ∈ cW h ad cA G1 Z1 := fun z hz => by
    rw [ewd] at hz
    rcases List.mem_append.mp hz with hz | hz
    · simp only [List.mem_cons, List.not_mem_nil, or_false] at hz
      rcases hz with e | e | e | e <;> subst e
      · rw [← stUp_q (cA := cA) (g := Z.2.2) (f1 := G 20) (f2 := G 21) (f3 := G 22) (th := G 8 3) (dy := G 8 4) a1 a2 a3, ← hu]; exact cW_mem (by rw [hL1]; exact m1)
      · rw [← stUp_r (cA := cA) (g := Z.2.2) (q := q) (f1 := G 20) (f2 := G 21) (f3 := G 22) (th := G 8 3) (dy := G 8 4) hrn a4, ← hu]; exact cW_mem (by rw [hL1]; exact m2)
      · rw [← stUp_n (cA := cA) (g := Z.2.2) (q := q) (r := r) (f1 := G 20) (f2 := G 21) (f3 := G 22) (th := G 8 3) (dy := G 8 4) a5, ← hu]; exact cW_mem (by rw [hL1]; exact m3)
      · rw [← stUp_w (cA := cA) (g := Z.2.2) (q := q) (r := r) (n := n) (f1 := G 20) (f2 := G 21) (f3 := G 22) (th := G 8 3) (dy := G 8 4), ← hu]; exact cW_mem (by rw [hL1]; exact m4)
    · have h1 := now_sub (Z := Z) (h := h) z hz
      have h2 : z ∈ cX0W h ad cA G Z := by
        simp only [List.mem_cons, List.not_mem_nil, or_false] at hz
        rcases hz with e | e | e | e <;> subst e
        · exact List.mem_of_getElem? (i := 4) rfl
        · exact List.mem_of_getElem? (i := 5) rfl
        · exact List.mem_of_getElem? (i := 6) rfl
        · exact List.mem_of_getElem? (i := 7) rfl
      unfold cW
      rw [hfix]
      exact List.mem_append_left _ h2
  have hPc : va_P D cls wc H := fun k z hz => by
    obtain ⟨j, hj⟩ := List.mem_iff_getElem?.mp (hin z (List.mem_of_getElem? hz))
    exact Y.1.1 j z hj
  have hDc : va_D (fun _ => True) wc := D_of_mem Y.1.2.1 hin (by
    rw [ewc]
    have h1 : ([ad 8, ad 20, ad 21, ad 22] ++ [q, r, n, w]).Nodup := hnd
    have h2 := (List.perm_append_comm (l₁ := [ad 8, ad 20, ad 21, ad 22]) (l₂ := [q, r, n, w])).nodup_iff.mp h1
    exact h2)
  have hD' : va_D A (cW h ad cA G1 Z1) := D_addr Y.1.2.1 (cW_adr h ad cA G G1 hL1)
  obtain ⟨hx, hb, hml, hown, hts, hrt, hlk⟩ := X.1.1
  have hM := kSet (D := D) (cA := cA) l (a := q) (r := r) (n := n) (w := w) (o := ad 8) (r2 := ad 20) (n2 := ad 21) (w2 := ad 22) (f1 := g1) (f2 := g2) (f3 := g3) (g1 := G 20) (g2 := G 21) (g3 := G 22) (k1 := G 20) (k2 := G 21) (k3 := G 22) (th := f 20) (dy := f 21) (th2 := G 8 3) (dy2 := G 8 4)
    (fun i hi => rfl) (fun i hi => rfl) (fun i hi => rfl) H.size
  have hM : Met l yX1_set (ws_ yX1_set cX1_set 2 (some (.object "PerilSeat$State"))) (cR 1 0 0) (va_Pc [.ref q, .ref (ad 8)] (fun U => U.heap.size = H.size ∧ va_P D cls wc U.heap ∧ va_K D cls (tyL cA) U ∧ va_D (fun _ => True) wc ∧ TWs U)) (fun _ st oc t => oc = .returned (some (.ref q)) ∧ va_P D cls wd t.heap ∧ va_F (va_A wc H.size) st t) 0 0 (va_A wc H.size) := by rw [ewc, ewd]; exact hM
  refine k_tail (o := some (.ref q)) (w := cW h ad cA G Z) (wc := wc) (wc' := wd) (w' := cW h ad cA G1 Z1) (st0 := .ref (ad 8) :: .ref q :: rest) (va_runV (l := l) (e := e) (R := R) (below := below) (meth := meth) (H := H) (locs := locs) (cells := cells) (slots := slots) (mc := 0) (ms := 0) (rest := rest) (As := [.ref (ad 8)]) (Ts := lw_all) (cc := cc) (nL := nL) (C := RX1) ⟨hx, hb, hml, hown, hts⟩ hM
    (cwV 1 hts (lw_V hq q916 q917 q68 q918) rfl rfl rfl ⟨rfl, by decide +kernel⟩ ⟨hR.1, by show 8 + (2 + 11) + 40 * 1 ≤ R.locals; omega⟩) (k_preV (ci := 2) (q0 := 0) (q := (RX1, TX1, 5)) X.1.2.1 X.2.1 Y.1 hPc hDc [.ref (ad 8)] rfl rfl (by rw [ewc]; rfl)) rfl rfl hl rfl (lv_room hW) hdg hc) Y.1 X.1.2.2 (fun k z hz => List.mem_iff_getElem?.mp (hin z (List.mem_of_getElem? hz))) hD' (hnew_ad hD' hin2 (by rw [ewc, ewd]; rfl) (fun k z hz hne => ?_)) (fun H1 locs1 Y1 => kk H1 locs1 Z1 (by rw [hZ1]) ⟨Y1, hR1⟩ hF1)
  by_cases hk : k < 15
  · rw [cW_low _ _ _ _ _ hk] at hz ⊢
    rw [hfix] at hz
    exact hz
  · obtain ⟨i, rfl⟩ : ∃ i, k = 15 + i := ⟨k - 15, by omega⟩
    rw [cW_pl] at hz ⊢
    rw [hL1] at hz
    cases ha : Z.2.1[i]? with
    | none => rw [ha] at hz; cases hz
    | some a =>
      rw [ha] at hz
      have hz : (a, Z1.2.2 a) = z := Option.some.inj hz
      subst hz
      rw [ewc] at hne
      have hne : a ∉ [q, r, n, w] ++ [ad 8, ad 20, ad 21, ad 22] := hne
      simp only [List.cons_append, List.nil_append, List.mem_cons, List.not_mem_nil, or_false, not_or] at hne
      rw [hu, stUp_ne hne.1 hne.2.1 hne.2.2.1 hne.2.2.2.1]
      rfl
end STATE3
