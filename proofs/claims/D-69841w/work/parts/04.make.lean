/-! THE ABSTRACT STEP, 4: what is made (objects, arrays), arrays of references, casts, constants. -/
/-- what the tables' words say of a class that 'new' names: fs: its fields as they are born -/
def ab_NW (cl : List vw_C) (All : List Cond) (own : String) (index ci : Nat) (fs : List Value) : Prop := ∃ (C : String) (T : u_T) (N : Nat) (ty : Nat → FieldType), cl[ci]? = some (C, T, N) ∧ fs.length = N ∧ (∀ w ∈ u_ws C T N, w ∈ All) ∧
  (∀ j, j < N → parseFieldDescriptor (T j).2.2.1 = some (ty j)) ∧ (∀ j, j < N → defaultValue (ty j) = vp_V fs j) ∧ Cond.classLink own index C ∈ All ∧ Cond.instantiable C N ∈ All ∧ Cond.initialized C ∈ All
/-- an array of zeros, by the type of its elements -/
def ab_zero : FieldType → Nat → Option vp_A
  | .int, n => some (n, .inl (fun _ => 0))
  | .byte, n => some (n, .inl (fun _ => 0))
  | .boolean, n => some (n, .inl (fun _ => 0))
  | .long, n => some (n, .inr (.inl (fun _ => 0)))
  | _, _ => none
theorem ab_zero_cell {ty : FieldType} {n : Nat} {x : vp_A} (h : ab_zero ty n = some x) (cA : ClassId) : vp_cell cA x = arrV cA n (fun _ => defaultValue ty) := by
  unfold ab_zero at h
  split at h <;> first | (cases Option.some.inj h; rfl) | cases h
theorem ab_zero_ref {ty : FieldType} {n : Nat} {x : vp_A} (h : ab_zero ty n = some x) : ∀ C, ty ≠ .object C := by
  intro C e
  subst e
  simp [ab_zero] at h
section AB4
variable {p : Program} {l : Launch} {e : Env} {R : Room} {s : State} {m : MethodId} {args : Array Value} {below : List Frame} {meth : Method} {c : Code} {H : Heap} {locs : List Loc} {cells slots : Nat} {Q : State → Prop} {cc : ByteArray} {pc : Nat} {ls : Array Slot} {rest : List Value}
variable {D : va_G} {cl : List vw_C} {aC : Nat → ClassId} {ak : List FieldType} {All Nst : List Cond} {own : String} {h : ab_H} {n n0 : Nat} {B : Heap}
theorem ab_new (hexec : p.tables.exec = Jvm.exec) (hb : c.code = cc) (hts : ∀ w ∈ All, w.before args s = true) (hown : s.vm.findClass own = some m.cls) (hK : va_K D cl (ab_ty aC ak) s) (r : ab_R D cl aC B n0 h n H) {index ci : Nat} {fs : List Value} (hN : ab_NW cl All own index ci fs)
    (hcells : cells + 1 ≤ R.cells) (hslots : slots + fs.length ≤ R.slots) (hdg : decode cc pc = .ok (.new index, 3))
    (kk : ∀ H1 : Heap, ab_R D cl aC B n0 (ab_up h n (.inr (ci, fs))) (n + 1) H1 → W p l e R s m args below meth c H1 locs (cells + 1) (slots + fs.length) Q (F0 m (pc + 3) ls (.ref n :: rest))) : W p l e R s m args below meth c H locs cells slots Q (F0 m pc ls rest) := by
  obtain ⟨C, T, N, ty, hc, hlen, hin, hty, hfs, h1, h2, h3⟩ := hN
  subst hlen
  have hKn := hK.1 ci _ hc
  refine W.newcK hexec hb hown (hts _ h1) (hts _ h2) (hts _ h3) rfl hdg hcells hslots hKn.2.1 r.1 fun H1 kC hkC e1 z1 o1 => ?_
  exact kk H1 (r.push (e := .inr (ci, fs)) ⟨_, hc, (u_born ty hts hin hKn hkC e1 hty).to hfs⟩ z1 o1)
theorem ab_newa (hexec : p.tables.exec = Jvm.exec) (hb : c.code = cc) (hts : ∀ w ∈ All, w.before args s = true) (hK : va_K D cl (ab_ty aC ak) s) (r : ab_R D cl aC B n0 h n H) {atype : ArrayType} {k : Nat} (hk : ak[k]? = some (newarray.typeOf atype)) (hw : Cond.arrayClass (newarray.typeOf atype) ∈ All)
    {i : Int32} {N : Nat} {x : vp_A} (hx : ab_zero (newarray.typeOf atype) N = some x) (hn : ¬ i < 0) (hN : i.toNatClampNeg = N) (hbytes : N * componentBytes (newarray.typeOf atype) ≤ 536870912) (hcells : cells + 1 ≤ R.cells) (hslots : slots + N ≤ R.slots) (hdg : decode cc pc = .ok (.newarray atype, 2))
    (kk : ∀ H1 : Heap, ab_R D cl aC B n0 (ab_up h n (.inl (k, x))) (n + 1) H1 → W p l e R s m args below meth c H1 locs (cells + 1) (slots + N) Q (F0 m (pc + 2) ls (.ref n :: rest))) : W p l e R s m args below meth c H locs cells slots Q (F0 m pc ls (.int i :: rest)) := by
  refine va_newaK hexec hb (hts _ hw) rfl hdg rfl hn hN hbytes hcells hslots r.1 fun H1 cA e1 z1 o1 hAr hNm => ?_
  have hRA := (hK.2 k _ (ab_ty_at hk)).2
  have hcA : aC k = cA := by
    have h9 : s.vm.findClass ("[" ++ (newarray.typeOf atype).toString) = some (aC k) := by
      have hno := ab_zero_ref hx
      revert hRA hno
      cases newarray.typeOf atype <;> intro hRA hno <;> first | exact hRA | exact absurd rfl (hno _)
    exact Option.some.inj (h9.symm.trans hNm)
  refine kk H1 (r.push (e := .inl (k, x)) ?_ z1 o1)
  show H1[n]? = some (vp_cell (aC k) x)
  rw [ab_zero_cell hx, hcA]
  exact e1
theorem ab_anew (hexec : p.tables.exec = Jvm.exec) (hb : c.code = cc) (hts : ∀ w ∈ All, w.before args s = true) (hnw : ab_N Nst s) (hown : s.vm.findClass own = some m.cls) (hK : va_K D cl (ab_ty aC ak) s) (r : ab_R D cl aC B n0 h n H) {index k : Nat} {C : String} (hk : ak[k]? = some (.object C)) (hlink : Cond.classLink own index C ∈ All) (hover : Cond.arrayOver (.object C) ∈ Nst)
    {i : Int32} {N : Nat} (hn : ¬ i < 0) (hN : i.toNatClampNeg = N) (hbytes : N * 4 ≤ 536870912) (hcells : cells + 1 ≤ R.cells) (hslots : slots + N ≤ R.slots) (hdg : decode cc pc = .ok (.anewarray index, 3))
    (kk : ∀ H1 : Heap, ab_R D cl aC B n0 (ab_up h n (.inl (k, N, .inr (.inr (.inr (.inr (fun _ => none))))))) (n + 1) H1 → W p l e R s m args below meth c H1 locs (cells + 1) (slots + N) Q (F0 m (pc + 3) ls (.ref n :: rest))) : W p l e R s m args below meth c H locs cells slots Q (F0 m pc ls (.int i :: rest)) := by
  subst hN
  refine W.anew hexec hb hown (hts _ hlink) (hnw.use hover) rfl hdg rfl hn hbytes hcells hslots fun cA kA comp f1 f2 f3 f4 => ?_
  obtain ⟨kA', comp', g1, g2, g3, g4⟩ := (hK.2 k _ (ab_ty_at hk)).2
  have hcA : aC k = cA := Option.some.inj (g4.symm.trans f1)
  have hHn := r.1
  rw [hHn]
  refine kk _ (r.push (e := .inl (k, i.toNatClampNeg, .inr (.inr (.inr (.inr (fun _ => none)))))) ?_ (by rw [Array.size_push, hHn]) (fun q hq => by rw [Array.getElem?_push, if_neg (by rw [hHn]; exact Nat.ne_of_lt hq)]))
  show (H.push _)[n]? = some (vp_cell (aC k) _)
  rw [vp_cell_q, hcA, ← hHn, Array.getElem?_push_size]
  exact congrArg some (arrV_new cA i.toNatClampNeg .null)
theorem ab_aastN (hexec : p.tables.exec = Jvm.exec) (hb : c.code = cc) (hK : va_K D cl (ab_ty aC ak) s) (r : ab_R D cl aC B n0 h n H) {a k N : Nat} {f : Nat → Option Nat} {C : String} (ha0 : n0 ≤ a) (ha : h a = some (.inl (k, N, .inr (.inr (.inr (.inr f)))))) (ht : ak[k]? = some (.object C)) {i : Int32} (hin : vp_in i N) (hdg : decode cc pc = .ok (.aastore, 1))
    (kk : ∀ (H1 : Heap) (j : Nat), ab_R D cl aC B n0 (ab_up h a (.inl (k, N, .inr (.inr (.inr (.inr (va_up f i.toNatClampNeg none))))))) n H1 → W p l e R s m args below meth c H1 (locs ++ [⟨a, j⟩]) cells slots Q (F0 m (pc + 1) ls rest)) : W p l e R s m args below meth c H locs cells slots Q (F0 m pc ls (.null :: .int i :: .ref a :: rest)) := by
  refine va_WaastN (C := C) hexec hb (r.2.1 a _ ha) ((hK.2 k _ (ab_ty_at ht)).1 N (fun j => va_rf (f j))) (fun q => by cases q) (by show ¬ (i < 0 ∨ (arrV _ _ _).slots.size ≤ _); rw [arrV_size]; exact hin) rfl rfl hdg fun H1 e z oq => ?_
  refine kk H1 _ (r.put ha0 ?_ z oq)
  show H1[a]? = some (vp_cell _ _)
  rw [e]
  show some ((vp_cell _ _).setSlot _ _) = some (vp_cell _ _)
  rw [vp_cell_q, vp_cell_q, arrV_store]
  congr 2
  funext q
  by_cases hq : q = i.toNatClampNeg
  · subst hq
    simp [updV, va_up, va_rf]
  · simp [updV, va_up, hq]
/-- an object goes into an array: of its own class, or of one that the tables say it can be cast to -/
theorem ab_aast (hexec : p.tables.exec = Jvm.exec) (hb : c.code = cc) (hnw : ab_N Nst s) (hK : va_K D cl (ab_ty aC ak) s) (r : ab_R D cl aC B n0 h n H) {a k N v ci : Nat} {vs : List Value} {f : Nat → Option Nat} {E : String} {q9 : vw_C} (ha0 : n0 ≤ a) (ha : h a = some (.inl (k, N, .inr (.inr (.inr (.inr f)))))) (ht : ak[k]? = some (.object E)) (hv : h v = some (.inr (ci, vs))) (hc : cl[ci]? = some q9) (hcast : q9.1 = E ∨ Cond.castable q9.1 E ∈ Nst)
    {i : Int32} (hin : vp_in i N) (hdg : decode cc pc = .ok (.aastore, 1))
    (kk : ∀ (H1 : Heap) (j : Nat), ab_R D cl aC B n0 (ab_up h a (.inl (k, N, .inr (.inr (.inr (.inr (va_up f i.toNatClampNeg (some v)))))))) n H1 → W p l e R s m args below meth c H1 (locs ++ [⟨a, j⟩]) cells slots Q (F0 m (pc + 1) ls rest)) : W p l e R s m args below meth c H locs cells slots Q (F0 m pc ls (.ref v :: .int i :: .ref a :: rest)) := by
  have hlt : i.toNatClampNeg < N := Nat.not_le.mp fun q => hin (Or.inr q)
  have h0 : ¬ i < 0 := fun q => hin (Or.inl q)
  obtain ⟨r9, hr9, cellV, g1, g2, g3, -⟩ := r.2.1 v _ hv
  have hcls := (hK.1 ci q9 hc).2
  obtain ⟨kA, comp, k1, k2, k3, -⟩ := (hK.2 k _ (ab_ty_at ht)).2
  obtain ⟨kE, hkE, -⟩ := Vm.findClass_spec k3
  obtain ⟨kC, hkC, -⟩ := hcls.2
  have hasg : s.vm.assignable (D.1 ci) comp = true := by
    rcases hcast with hcast | hcast
    · have e1 : comp = D.1 ci := by
        rw [← hcast] at k3
        exact Option.some.inj (k3.symm.trans hcls.1)
      rw [e1]
      exact va_assign hcls
    · obtain ⟨c0, t1, f1, f2, f3⟩ := Cond.castable_spec (hnw.use (A := args) hcast)
      cases hcls.1.symm.trans f1
      cases k3.symm.trans f2
      exact f3
  refine W.aast hexec hb (r.2.1 a _ ha) (fun q h => by cases h) (fun h => by cases h) k1 k2 rfl hkE ⟨h0, by show _ < (arrV _ _ _).slots.size; rw [arrV_size]; exact hlt⟩ g1 (fun q h => by rw [g3] at h; cases h) (by rw [g2]; exact hkC) (by rw [g2]; exact hasg) rfl rfl hdg fun H1 e z oq => ?_
  refine kk H1 _ (r.put ha0 ?_ z oq)
  show H1[a]? = some (vp_cell _ _)
  rw [e]
  show some ((vp_cell _ _).setSlot _ _) = some (vp_cell _ _)
  rw [vp_cell_q, vp_cell_q, arrV_store]
  congr 2
  funext q
  by_cases hq : q = i.toNatClampNeg
  · subst hq
    simp [updV, va_up, va_rf]
  · simp [updV, va_up, hq]
theorem ab_cast (hexec : p.tables.exec = Jvm.exec) (hb : c.code = cc) (hts : ∀ w ∈ All, w.before args s = true) (hown : s.vm.findClass own = some m.cls) (hK : va_K D cl (ab_ty aC ak) s) (r : ab_R D cl aC B n0 h n H) {index ci a : Nat} {vs : List Value} {q9 : vw_C} (ha : h a = some (.inr (ci, vs))) (hc : cl[ci]? = some q9) (hlink : Cond.classLink own index q9.1 ∈ All) (hdg : decode cc pc = .ok (.checkcast index, 3))
    (kk : W p l e R s m args below meth c H locs cells slots Q (F0 m (pc + 3) ls (.ref a :: rest))) : W p l e R s m args below meth c H locs cells slots Q (F0 m pc ls (.ref a :: rest)) := by
  obtain ⟨r9, hr9, cellV, g1, g2, g3, -⟩ := r.2.1 a _ ha
  have hcls := (hK.1 ci q9 hc).2
  exact va_castS hexec hb hown (hts _ hlink) hcls ⟨cellV, g1, by rw [g3]; rfl, by rw [g2]; exact hcls.1⟩ hdg kk
end AB4
