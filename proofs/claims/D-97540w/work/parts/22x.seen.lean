/-! ROWS: what is seen, stored -/
set_option maxRecDepth 100000
section SEEN
variable {p : Program} {l : Launch} {e : Env} {R : Room} {s : State} {m : MethodId} {args : Array Value} {below : List Frame} {meth : Method} {c : Code} {H : Heap} {locs : List Loc} {cells slots : Nat} {Q : State → Prop}
variable {own : String} {cc : ByteArray} {nL : Nat} {rt : Option FieldType} {pc : Nat} {ls : Array Slot} {rest : List Value} {D : va_G} {cA : Nat → ClassId} {h : Nat} {ad : Nat → Nat} {A : Nat → Prop} {G G1 : GS} {Z Z0 Z1 : ZT}
/-- a row of ints into an array of rows -/
theorem w_astI {ws : va_W} {a v n n' q0 qk : Nat} {f : Nat → Option Nat} {g : Nat → Int32} {i : Int32} (hexec : p.tables.exec = Jvm.exec) (hb : c.code = cc) (hK : va_K D cls (tyL cA) s) (hRR : va_RR s) (Y : WX D A s ws H locs) (ha : ws[q0]? = some (a, .inl (cA 5, n, oref f))) (hv : ws[qk]? = some (v, .inl (cA 0, n', .inl g))) (hin : vp_in i n) (hdg : decode cc pc = .ok (.aastore, 1))
    (kk : ∀ (H1 : Heap) (locs1 : List Loc), WX D A s (ws.set q0 (a, .inl (cA 5, n, oref (va_up f i.toNatClampNeg (some v))))) H1 locs1 → W p l e R s m args below meth c H1 locs1 cells slots Q (F0 m (pc + 1) ls rest)) : W p l e R s m args below meth c H locs cells slots Q (F0 m pc ls (.ref v :: .int i :: .ref a :: rest)) := by
  obtain ⟨hP, hD, hS⟩ := Y
  have hlt : i.toNatClampNeg < n := Nat.not_le.mp fun q => hin (Or.inr q)
  have h0 : ¬ i < 0 := fun q => hin (Or.inl q)
  obtain ⟨comp, c5, kA, r1, r2, r3, r4⟩ := hRR
  have h5 : s.vm.findClass "[[I" = some (cA 5) := (hK.2 5 (cA 5, .array .int) rfl).2
  have hI : s.vm.findClass "[I" = some (cA 0) := (hK.2 0 (cA 0, .int) rfl).2
  cases r4.symm.trans h5
  cases r1.symm.trans hI
  obtain ⟨k0, hk0, -⟩ := Vm.findClass_spec hI
  refine W.aast hexec hb (hP q0 _ ha) (fun q h => by cases h) (fun h => by cases h) r2 r3 rfl hk0 ⟨h0, by show _ < (arrV _ _ _).slots.size; rw [arrV_size]; exact hlt⟩ (hP qk _ hv) (fun q h => by cases h) hk0 (by
      show s.vm.assignable (cA 0) (cA 0) = true
      unfold Vm.assignable Vm.assignableAux
      simp only [beq_self_eq_true, Bool.true_or, if_true]) rfl rfl hdg fun H1 e z oq => ?_
  refine kk H1 _ ⟨hP.set hD ha ?_ oq, hD.set ha, hS.put z oq (hD.2 q0 _ ha)⟩
  show H1[a]? = some (vp_cell _ _)
  rw [e]
  rw [vp_cell_q, vp_cell_q, arrV_store]
  congr 2
  funext q
  by_cases hq : q = i.toNatClampNeg
  · subst hq
    simp [updV, va_up, va_rf]
  · simp [updV, va_up, hq]
/-- sights[i] = a row made of four numbers -/
theorem Rp.sight {q i : Nat} {f g : Nat → Int32} (hR : Rp cA G Z) (hq : q ∉ Z.2.1) (hi : i < 8) (hg : ∀ j, j < 4 → g j = f j) (eG : G1 = grow (gu G 37 i 1) (60 + i) f) (hZ1 : Z1 = (fun k => bif Nat.beq k 12 then va_up (Z.1 12) i (some q) else Z.1 k, Z.2.1 ++ [q], va_up Z.2.2 q (.inl (cA 0, 4, .inl g)))) : Rp cA G1 Z1 := by
  subst hZ1
  have hG : ∀ k, k ≠ 37 → k ≠ 60 + i → G1 k = G k := fun k h1 h2 => by
    rw [eG, grow_ne h2]
    funext b
    rw [gu_ap, if_neg (fun e => h1 e.1)]
  have hf : G1 (60 + i) = f := by rw [eG, grow_self]
  have hfl : G1 37 = upd (G 37) i 1 := by rw [eG, grow_ne (by omega), gu_row]
  obtain ⟨hN, hO, hV, own', ow, s1, s2, s3, s4, s5⟩ := hR
  have hL : ∀ a, a ∈ Z.2.1 → a ∈ Z.2.1 ++ [q] := fun a h => List.mem_append_left _ h
  have key : ∀ b, b ∈ Z.2.1 → va_up Z.2.2 q (.inl (cA 0, 4, .inl g)) b = Z.2.2 b := fun b hb => va_up_ne _ _ (show b ≠ q from fun e => hq (e ▸ hb))
  have st : ∀ b f, StAt cA Z b (own' b).1 (own' b).2.1 (own' b).2.2 f → StAt cA (fun k => bif Nat.beq k 12 then va_up (Z.1 12) i (some q) else Z.1 k, Z.2.1 ++ [q], va_up Z.2.2 q (.inl (cA 0, 4, .inl g))) b (own' b).1 (own' b).2.1 (own' b).2.2 f := fun b f hs => hs.mv (fun _ _ => rfl) hL (key _ hs.1) (key _ hs.2.1) (key _ hs.2.2.1) (key _ hs.2.2.2.1)
  refine ⟨hN.mv (fun i _ => by rw [hG 30 (by decide) (by omega)]) (fun i _ => by rw [hG 31 (by decide) (by omega)]) (fun _ _ => rfl) hL (fun b ci fs hb _ _ => key b hb), hO.mv (fun i _ => by rw [hG 32 (by decide) (by omega)]) (fun i _ => by rw [hG 33 (by decide) (by omega)]) (fun i _ => by rw [hG 34 (by decide) (by omega)]) (fun _ _ => rfl) hL (fun b ci fs hb _ _ => key b hb), fun k hk => ?_, own', ow, fun k hk => ?_, fun k hk => ?_, s3, s4, ?_⟩
  · rw [hfl]
    by_cases e : k = i
    · refine Or.inr ⟨q, ?_, List.mem_append_right _ (List.mem_singleton.mpr rfl), ?_, g, va_up_self _ _ _, fun j hj => ?_⟩
      · show va_up (Z.1 12) i (some q) k = some q
        rw [e]; exact va_up_self _ _ _
      · unfold upd; rw [if_pos e]
      · rw [e, hf]; exact hg j hj
    · have e1 : (fun k => bif Nat.beq k 12 then va_up (Z.1 12) i (some q) else Z.1 k) 12 k = Z.1 12 k := va_up_ne _ _ e
      have e2 : upd (G 37) i 1 k = G 37 k := by unfold upd; rw [if_neg e]
      rw [e2, hG (60 + k) (by omega) (by omega)]
      rcases hV k hk with q | ⟨b, q1, q2, q3, g', q4, q5⟩
      · exact Or.inl ⟨e1.trans q.1, q.2⟩
      · exact Or.inr ⟨b, e1.trans q1, hL b q2, q3, g', by rw [← q4]; exact key b q2, q5⟩
  · rw [hG 35 (by decide) (by omega), hG (40 + k) (by omega) (by omega)]
    rcases s1 k hk with q | ⟨b, q1, q2, q3, q4⟩
    · exact Or.inl q
    · exact Or.inr ⟨b, q1, q2, st b _ q3, q4⟩
  · rw [hG 36 (by decide) (by omega), hG (50 + k) (by omega) (by omega)]
    rcases s2 k hk with q | ⟨b, q1, q2, q3, q4⟩
    · exact Or.inl q
    · exact Or.inr ⟨b, q1, q2, st b _ q3, q4⟩
  · rw [hG 38 (by decide) (by omega)]
    rcases s5 with h | ⟨a, h1, h2, h3, h4⟩
    · exact Or.inl h
    · exact Or.inr ⟨a, h1, hL a h2, by rw [← h3]; exact key a h2, h4⟩
end SEEN
