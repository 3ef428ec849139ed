/-! THE ABSTRACT STEP, 3: the heap. ab_H: what is known of the heap's cells, by address: an array (the number of its kind, its contents) or an object (the number of its class, its fields). ab_R: the machine's heap holds it. -/
abbrev ab_E : Type := (Nat × vp_A) ⊕ (Nat × List Value)
abbrev ab_H : Type := Nat → Option ab_E
def ab_i (aC : Nat → ClassId) : ab_E → va_E
  | .inl q => .inl (aC q.1, q.2)
  | .inr o => .inr o
def ab_up (h : ab_H) (a : Nat) (e : ab_E) : ab_H := fun b => if b = a then some e else h b
theorem ab_up_self (h : ab_H) (a : Nat) (e : ab_E) : ab_up h a e a = some e := by simp [ab_up]
theorem ab_up_ne (h : ab_H) {a b : Nat} (e : ab_E) (hb : b ≠ a) : ab_up h a e b = h b := by simp [ab_up, hb]
def ab_R (D : va_G) (cl : List vw_C) (aC : Nat → ClassId) (B : Heap) (n0 : Nat) (h : ab_H) (n : Nat) (H : Heap) : Prop := H.size = n ∧ (∀ (a : Nat) (e : ab_E), h a = some e → va_at D cl (a, ab_i aC e) H) ∧ n0 ≤ n ∧ ∀ q : Nat, q < n0 → H[q]? = B[q]?
theorem ab_R.lt {D : va_G} {cl : List vw_C} {aC : Nat → ClassId} {B : Heap} {n0 : Nat} {h : ab_H} {n : Nat} {H : Heap} (r : ab_R D cl aC B n0 h n H) {a : Nat} {e : ab_E} (ha : h a = some e) : a < n := by
  have h1 := (r.2.1 a e ha).lt
  rw [r.1] at h1
  exact h1
theorem ab_R.put {D : va_G} {cl : List vw_C} {aC : Nat → ClassId} {B : Heap} {n0 : Nat} {h : ab_H} {n : Nat} {H H1 : Heap} (r : ab_R D cl aC B n0 h n H) {a : Nat} {e : ab_E} (ha0 : n0 ≤ a) (he : va_at D cl (a, ab_i aC e) H1) (z : H1.size = H.size) (o : ∀ q : Nat, q ≠ a → H1[q]? = H[q]?) : ab_R D cl aC B n0 (ab_up h a e) n H1 := by
  refine ⟨z.trans r.1, fun b x hx => ?_, r.2.2.1, fun q hq => (o q (by omega)).trans (r.2.2.2 q hq)⟩
  by_cases hb : b = a
  · subst hb
    rw [ab_up_self] at hx
    cases Option.some.inj hx
    exact he
  · rw [ab_up_ne h e hb] at hx
    exact (r.2.1 b x hx).kept (o b hb)
theorem ab_R.push {D : va_G} {cl : List vw_C} {aC : Nat → ClassId} {B : Heap} {n0 : Nat} {h : ab_H} {n : Nat} {H H1 : Heap} (r : ab_R D cl aC B n0 h n H) {e : ab_E} (he : va_at D cl (n, ab_i aC e) H1) (z : H1.size = n + 1) (o : ∀ q : Nat, q < n → H1[q]? = H[q]?) : ab_R D cl aC B n0 (ab_up h n e) (n + 1) H1 := by
  have hn0 := r.2.2.1
  refine ⟨z, fun b x hx => ?_, by omega, fun q hq => (o q (by omega)).trans (r.2.2.2 q hq)⟩
  by_cases hb : b = n
  · subst hb
    rw [ab_up_self] at hx
    cases Option.some.inj hx
    exact he
  · rw [ab_up_ne h e hb] at hx
    exact (r.2.1 b x hx).kept (o b (r.lt hx))
/-- the kinds of arrays, with their classes -/
def ab_ty (aC : Nat → ClassId) (ak : List FieldType) : List (ClassId × FieldType) := (List.range ak.length).map (fun k => (aC k, ak.getD k .int))
theorem ab_ty_at {aC : Nat → ClassId} {ak : List FieldType} {k : Nat} {ty : FieldType} (h : ak[k]? = some ty) : (ab_ty aC ak)[k]? = some (aC k, ty) := by
  obtain ⟨hk, he⟩ := List.getElem?_eq_some_iff.mp h
  simp [ab_ty, hk, he]
/-- what the tables' words say of a field that an instruction names: the class ci's field k -/
def ab_FG (cl : List vw_C) (All Nst : List Cond) (own : String) (index ci k : Nat) : Prop := ∃ (C : String) (T : u_T) (N : Nat), cl[ci]? = some (C, T, N) ∧ k < N ∧ (∀ w ∈ u_ws C T N, w ∈ All) ∧
  (Cond.fieldLink own index (T k).1 (T k).2.1 (T k).2.2.1 ∈ All ∨ ∃ host : String, Cond.fieldLinkNest own index (T k).1 (T k).2.1 (T k).2.2.1 host ∈ Nst)
/-- .. and of one that is written: its type; fin: a final one, in its own class's constructor -/
def ab_FP (cl : List vw_C) (All Nst : List Cond) (own : String) (index ci k : Nat) (ty : FieldType) (fin : Bool) : Prop := ∃ (C : String) (T : u_T) (N : Nat) (ty0 : Nat → FieldType), cl[ci]? = some (C, T, N) ∧ k < N ∧ (∀ w ∈ u_ws C T N, w ∈ All) ∧
  (∀ j, j < N → parseFieldDescriptor (T j).2.2.1 = some (ty0 j)) ∧ (∀ a, a < N → ∀ b, b < N → a ≠ b → (T a).2.1 ≠ (T b).2.1) ∧ ty0 k = ty ∧ (T k).2.2.2 = fin ∧
  (match fin with
   | true => (T k).1 = own ∧ Cond.fieldLink own index (T k).1 (T k).2.1 (T k).2.2.1 ∈ All
   | false => Cond.fieldLink own index (T k).1 (T k).2.1 (T k).2.2.1 ∈ All ∨ ∃ host : String, Cond.fieldLinkNest own index (T k).1 (T k).2.1 (T k).2.2.1 host ∈ Nst)
/-- the words that ride beside the list, by their kinds -/
def ab_nk : Cond → Bool
  | .fieldLinkNest .. => true
  | .methodLinkNest .. => true
  | .castable .. => true
  | .declares _ => true
  | .arrayOver (.object _) => true
  | _ => false
theorem ab_nk_use {w : Cond} (h : ab_nk w = true) {A : Array Value} {U : State} (hz : va_Nw w U) : w.before A U = true := by
  unfold ab_nk at h
  split at h
  · exact va_Nw.use rfl hz
  · exact va_Nw.use rfl hz
  · exact va_Nw.use rfl hz
  · exact va_Nw.use rfl hz
  · exact va_AO.use hz
  · cases h
theorem ab_nk_same {w : Cond} (h : ab_nk w = true) {s U : State} (hv : s.vm = U.vm) (hz : va_Nw w s) : va_Nw w U := by
  unfold ab_nk at h
  split at h
  · exact va_Nw.same rfl hv hz
  · exact va_Nw.same rfl hv hz
  · exact va_Nw.same rfl hv hz
  · exact va_Nw.same rfl hv hz
  · exact va_AO.moved (by rw [hv]; exact Vm.Alike.refl _) hz
  · cases h
theorem ab_nk_warm {w : Cond} (h : ab_nk w = true) {s U : State} (hW : s.WarmedH U.vm) (hz : va_Nw w s) : va_Nw w U := by
  unfold ab_nk at h
  split at h
  · exact va_Nw.warmF hW hz
  · exact va_Nw.warmM hW hz
  · exact va_Nw.warmC hW hz
  · exact va_Nw.warmD hW hz
  · exact va_AO.moved hW.alike hz
  · cases h
def ab_N (Nst : List Cond) (U : State) : Prop := ∀ w ∈ Nst, ab_nk w = true ∧ va_Nw w U
theorem ab_N.use {Nst : List Cond} {U : State} (h : ab_N Nst U) {w : Cond} (hw : w ∈ Nst) {A : Array Value} : w.before A U = true := ab_nk_use (h w hw).1 (h w hw).2
theorem ab_N.warm {Nst : List Cond} {s U : State} (h : ab_N Nst s) (hW : s.WarmedH U.vm) : ab_N Nst U := fun w hw => ⟨(h w hw).1, ab_nk_warm (h w hw).1 hW (h w hw).2⟩
theorem ab_N.same {Nst : List Cond} {s U : State} (h : ab_N Nst s) (hv : s.vm = U.vm) : ab_N Nst U := fun w hw => ⟨(h w hw).1, ab_nk_same (h w hw).1 hv (h w hw).2⟩
section AB3
variable {p : Program} {l : Launch} {e : Env} {R : Room} {s : State} {m : MethodId} {args : Array Value} {below : List Frame} {meth : Method} {c : Code} {H : Heap} {locs : List Loc} {cells slots : Nat} {Q : State → Prop} {cc : ByteArray} {pc : Nat} {ls : Array Slot} {rest : List Value}
variable {D : va_G} {cl : List vw_C} {aC : Nat → ClassId} {ak : List FieldType} {All Nst : List Cond} {own : String} {h : ab_H} {n n0 : Nat} {B : Heap}
theorem ab_getf (hexec : p.tables.exec = Jvm.exec) (hb : c.code = cc) (hts : ∀ w ∈ All, w.before args s = true) (hnw : ab_N Nst s) (hown : s.vm.findClass own = some m.cls) (hK : va_K D cl (ab_ty aC ak) s) (r : ab_R D cl aC B n0 h n H) {index ci k : Nat} (hF : ab_FG cl All Nst own index ci k)
    {a : Nat} {fs : List Value} (ha : h a = some (.inr (ci, fs))) {v : Value} (hv : fs[k]? = some v) (hdg : decode cc pc = .ok (.getfield index, 3))
    (kk : W p l e R s m args below meth c H locs cells slots Q (F0 m (pc + 3) ls (v :: rest))) : W p l e R s m args below meth c H locs cells slots Q (F0 m pc ls (.ref a :: rest)) := by
  obtain ⟨C, T, N, hc, hk, hin, hl⟩ := hF
  have hP : va_P D cl [(a, .inr (ci, fs))] H := by
    intro j q hj
    match j, hj with
    | 0, hj => cases hj; exact r.2.1 a _ ha
    | j + 1, hj => simp at hj
  rcases hl with hl | ⟨host, hl⟩
  · exact va_get hexec hb hts hin hown hK hP 0 rfl hc k hk (hts _ hl) (fun _ q => q) hv hdg kk
  · exact va_getN hexec hb hts hin hown hK hP 0 rfl hc k hk (hnw.use hl) (fun _ q => q) hv hdg kk
theorem ab_putf (hexec : p.tables.exec = Jvm.exec) (hb : c.code = cc) (hts : ∀ w ∈ All, w.before args s = true) (hnw : ab_N Nst s) (hown : s.vm.findClass own = some m.cls) (hK : va_K D cl (ab_ty aC ak) s) (r : ab_R D cl aC B n0 h n H) {index ci k : Nat} {ty : FieldType} {fin : Bool} (hF : ab_FP cl All Nst own index ci k ty fin) (hfi : fin = true → meth.name = "<init>")
    {a : Nat} {fs : List Value} (ha0 : n0 ≤ a) (ha : h a = some (.inr (ci, fs))) {v : Value} (hn : narrow ty v = v) (hfit : fits ty v = true) (hlen : k < fs.length) (hdg : decode cc pc = .ok (.putfield index, 3))
    (kk : ∀ (H1 : Heap) (i : Nat), ab_R D cl aC B n0 (ab_up h a (.inr (ci, fs.set k v))) n H1 → W p l e R s m args below meth c H1 (locs ++ [⟨a, i⟩]) cells slots Q (F0 m (pc + 3) ls rest)) : W p l e R s m args below meth c H locs cells slots Q (F0 m pc ls (v :: .ref a :: rest)) := by
  obtain ⟨C, T, N, ty0, hc, hk, hin, hty, hnm, hte, hfn, hl⟩ := hF
  subst hte
  have hap := va_apart (own := own) hts hin ty0 hty hnm hK hc
  obtain ⟨r9, h1, cell, q1, q2, q3, q4⟩ := r.2.1 a _ ha
  have hr : r9 = (C, T, N) := Option.some.inj (h1.symm.trans hc)
  subst hr
  obtain ⟨hS, hfc, kC, hkC, hkind⟩ := hK.1 ci _ hc
  obtain ⟨cf, kf, fi, f, hi, hsl⟩ := hS k hk
  have hlay := hts _ (hin _ (u_in_lay hk))
  unfold u_lay at hlay
  have hst := (u_facts hfc hkC (u_lays hts hin hk) hi).1
  have key : ∀ H1 : Heap, H1[a]? = some (cell.setSlot f.slot v) → H1.size = H.size → (∀ q, q ≠ a → H1[q]? = H[q]?) → ab_R D cl aC B n0 (ab_up h a (.inr (ci, fs.set k v))) n H1 := by
    intro H1 e1 e2 e3
    rw [hsl] at e1
    exact r.put (e := .inr (ci, fs.set k v)) ha0 ⟨_, hc, t_OB.to (V := updV (vp_V fs) k v) ⟨_, e1, q2, q3, t_set q4 hap hk v⟩ (fun j _ => vp_updV_set hlen v j)⟩ e2 e3
  cases fin with
  | true =>
    rw [if_pos hfn] at hlay
    have hcf : m.cls = cf := by
      obtain ⟨_, _, c', _, _, _, -, -, hf', -, -, -, hown2, -⟩ := Cond.laysFinal_spec hlay
      have e1 : c' = cf := by have := hi.symm.trans hf'; simp at this; exact this.1.symm
      rw [hl.1] at hown2
      rw [← e1]; exact Option.some.inj (hown.symm.trans hown2)
    have h6 := u_fits hfc hkC hkind (Or.inr hlay) hi (hty k hk) hn hfit
    exact W.putFinK hexec hb hown (hts _ hl.2) hi hst hcf (hfi rfl) (by rw [q2]; exact h6) q1 q3 (by rw [hsl]; exact k2_hasslot (q4 k hk)) rfl rfl hdg fun H' e1 e2 e3 => kk H' _ (key H' e1 e2 e3)
  | false =>
    rw [if_neg (by rw [hfn]; decide)] at hlay
    have h6 := u_store hfc hkC hkind hlay hi (hty k hk) hn hfit
    rcases hl with hl | ⟨host, hl⟩
    · exact W.putK hexec hb (f := f) ⟨hown, hts _ hl, ⟨_, _, _, hi⟩, hst⟩ (by rw [q2]; exact h6) q1 q3 (by rw [hsl]; exact k2_hasslot (q4 k hk)) rfl rfl hdg fun H' e1 e2 e3 => kk H' _ (key H' e1 e2 e3)
    · exact va_WputK hexec hb (f := f) hown (hnw.use hl) hi hst (by rw [q2]; exact h6) q1 q3 (by rw [hsl]; exact k2_hasslot (q4 k hk)) rfl rfl hdg fun H' e1 e2 e3 => kk H' _ (key H' e1 e2 e3)
theorem ab_P1 (r : ab_R D cl aC B n0 h n H) {a : Nat} {k : Nat} {x : vp_A} (ha : h a = some (.inl (k, x))) : va_P D cl [(a, .inl (aC k, x))] H := by
  intro j q hj
  match j, hj with
  | 0, hj => cases hj; exact r.2.1 a _ ha
  | j + 1, hj => simp at hj
theorem ab_alen (hexec : p.tables.exec = Jvm.exec) (hb : c.code = cc) (hK : va_K D cl (ab_ty aC ak) s) (r : ab_R D cl aC B n0 h n H) {a k : Nat} {x : vp_A} {ty : FieldType} (ha : h a = some (.inl (k, x))) (ht : ak[k]? = some ty) (hdg : decode cc pc = .ok (.arraylength, 1))
    (kk : W p l e R s m args below meth c H locs cells slots Q (F0 m (pc + 1) ls (.int (Int32.ofNat x.1) :: rest))) : W p l e R s m args below meth c H locs cells slots Q (F0 m pc ls (.ref a :: rest)) :=
  va_alen hexec hb hK (ab_P1 r ha) 0 k rfl (ab_ty_at ht) rfl hdg kk
theorem ab_iald (hexec : p.tables.exec = Jvm.exec) (hb : c.code = cc) (hK : va_K D cl (ab_ty aC ak) s) (r : ab_R D cl aC B n0 h n H) {a k N : Nat} {f : Nat → Int32} (ha : h a = some (.inl (k, N, .inl f))) (ht : ak[k]? = some .int) {i : Int32} (hin : vp_in i N) (hdg : decode cc pc = .ok (.iaload, 1))
    (kk : W p l e R s m args below meth c H locs cells slots Q (F0 m (pc + 1) ls (.int (f i.toNatClampNeg) :: rest))) : W p l e R s m args below meth c H locs cells slots Q (F0 m pc ls (.int i :: .ref a :: rest)) :=
  va_iald hexec hb hK (ab_P1 r ha) 0 k rfl (ab_ty_at ht) hin hdg kk
theorem ab_bald (hexec : p.tables.exec = Jvm.exec) (hb : c.code = cc) (hK : va_K D cl (ab_ty aC ak) s) (r : ab_R D cl aC B n0 h n H) {a k N : Nat} {f : Nat → Int32} (ha : h a = some (.inl (k, N, .inl f))) (ht : ak[k]? = some .byte ∨ ak[k]? = some .boolean) {i : Int32} (hin : vp_in i N) (hdg : decode cc pc = .ok (.baload, 1))
    (kk : W p l e R s m args below meth c H locs cells slots Q (F0 m (pc + 1) ls (.int (f i.toNatClampNeg) :: rest))) : W p l e R s m args below meth c H locs cells slots Q (F0 m pc ls (.int i :: .ref a :: rest)) := by
  rcases ht with ht | ht
  · exact va_bald hexec hb hK (ab_P1 r ha) 0 k rfl (ab_ty_at ht) hin hdg kk
  · exact va_zald hexec hb hK (ab_P1 r ha) 0 k rfl (ab_ty_at ht) hin hdg kk
theorem ab_lald (hexec : p.tables.exec = Jvm.exec) (hb : c.code = cc) (hK : va_K D cl (ab_ty aC ak) s) (r : ab_R D cl aC B n0 h n H) {a k N : Nat} {f : Nat → Int64} (ha : h a = some (.inl (k, N, .inr (.inl f)))) (ht : ak[k]? = some .long) {i : Int32} (hin : vp_in i N) (hdg : decode cc pc = .ok (.laload, 1))
    (kk : W p l e R s m args below meth c H locs cells slots Q (F0 m (pc + 1) ls (.long (f i.toNatClampNeg) :: rest))) : W p l e R s m args below meth c H locs cells slots Q (F0 m pc ls (.int i :: .ref a :: rest)) :=
  va_lald hexec hb hK (ab_P1 r ha) 0 k rfl (ab_ty_at ht) hin hdg kk
theorem ab_aald (hexec : p.tables.exec = Jvm.exec) (hb : c.code = cc) (hK : va_K D cl (ab_ty aC ak) s) (r : ab_R D cl aC B n0 h n H) {a k N : Nat} {f : Nat → Option Nat} {C : String} (ha : h a = some (.inl (k, N, .inr (.inr (.inr (.inr f)))))) (ht : ak[k]? = some (.object C)) {i : Int32} (hin : vp_in i N) (hdg : decode cc pc = .ok (.aaload, 1))
    (kk : W p l e R s m args below meth c H locs cells slots Q (F0 m (pc + 1) ls (va_rf (f i.toNatClampNeg) :: rest))) : W p l e R s m args below meth c H locs cells slots Q (F0 m pc ls (.int i :: .ref a :: rest)) :=
  va_aldq hexec hb hK (ab_P1 r ha) 0 k rfl (ab_ty_at ht) hin hdg kk
theorem ab_iast (hexec : p.tables.exec = Jvm.exec) (hb : c.code = cc) (hK : va_K D cl (ab_ty aC ak) s) (r : ab_R D cl aC B n0 h n H) {a k N : Nat} {f : Nat → Int32} (ha0 : n0 ≤ a) (ha : h a = some (.inl (k, N, .inl f))) (ht : ak[k]? = some .int) {i x : Int32} (hin : vp_in i N) (hdg : decode cc pc = .ok (.iastore, 1))
    (kk : ∀ (H1 : Heap) (j : Nat), ab_R D cl aC B n0 (ab_up h a (.inl (k, N, .inl (upd f i.toNatClampNeg x)))) n H1 → W p l e R s m args below meth c H1 (locs ++ [⟨a, j⟩]) cells slots Q (F0 m (pc + 1) ls rest)) : W p l e R s m args below meth c H locs cells slots Q (F0 m pc ls (.int x :: .int i :: .ref a :: rest)) := by
  refine W.iast hexec hb (r.2.1 a _ ha) ((hK.2 k _ (ab_ty_at ht)).1 N (fun j => .int (f j))) (fun q => by cases q) (by show ¬ (i < 0 ∨ (arrV _ _ _).slots.size ≤ _); rw [arrV_size]; exact hin) rfl rfl hdg fun H1 e z oq => ?_
  refine kk H1 _ (r.put ha0 ?_ z oq)
  show H1[a]? = some (vp_cell _ _)
  rw [e]
  show some ((vp_cell _ _).setSlot _ _) = some (vp_cell _ _)
  rw [vp_cell_i, vp_cell_i, arrV_store]
  congr 2
  funext q
  by_cases hq : q = i.toNatClampNeg
  · subst hq
    simp [updV, upd]
  · simp [updV, upd, hq]
theorem ab_bast (hexec : p.tables.exec = Jvm.exec) (hb : c.code = cc) (hK : va_K D cl (ab_ty aC ak) s) (r : ab_R D cl aC B n0 h n H) {a k N : Nat} {f : Nat → Int32} (ha0 : n0 ≤ a) (ha : h a = some (.inl (k, N, .inl f))) (ht : ak[k]? = some .byte) {i x : Int32} (hin : vp_in i N) (hdg : decode cc pc = .ok (.bastore, 1))
    (kk : ∀ (H1 : Heap) (j : Nat), ab_R D cl aC B n0 (ab_up h a (.inl (k, N, .inl (upd f i.toNatClampNeg (vp_nar .byte x))))) n H1 → W p l e R s m args below meth c H1 (locs ++ [⟨a, j⟩]) cells slots Q (F0 m (pc + 1) ls rest)) : W p l e R s m args below meth c H locs cells slots Q (F0 m pc ls (.int x :: .int i :: .ref a :: rest)) := by
  refine W.bast hexec hb (r.2.1 a _ ha) ((hK.2 k _ (ab_ty_at ht)).1 N (fun j => .int (f j))) (fun q => by cases q) (by show ¬ (i < 0 ∨ (arrV _ _ _).slots.size ≤ _); rw [arrV_size]; exact hin) rfl rfl hdg fun H1 e z oq => ?_
  refine kk H1 _ (r.put ha0 ?_ z oq)
  show H1[a]? = some (vp_cell _ _)
  rw [e]
  show some ((vp_cell _ _).setSlot _ _) = some (vp_cell _ _)
  rw [vp_cell_i, vp_cell_i, arrV_store]
  congr 2
  funext q
  by_cases hq : q = i.toNatClampNeg
  · subst hq
    simp [updV, upd, vp_nar]
    try rfl
  · simp [updV, upd, hq]
theorem ab_zast (hexec : p.tables.exec = Jvm.exec) (hb : c.code = cc) (hK : va_K D cl (ab_ty aC ak) s) (r : ab_R D cl aC B n0 h n H) {a k N : Nat} {f : Nat → Int32} (ha0 : n0 ≤ a) (ha : h a = some (.inl (k, N, .inl f))) (ht : ak[k]? = some .boolean) {i x : Int32} (hin : vp_in i N) (hdg : decode cc pc = .ok (.bastore, 1))
    (kk : ∀ (H1 : Heap) (j : Nat), ab_R D cl aC B n0 (ab_up h a (.inl (k, N, .inl (upd f i.toNatClampNeg (vp_nar .boolean x))))) n H1 → W p l e R s m args below meth c H1 (locs ++ [⟨a, j⟩]) cells slots Q (F0 m (pc + 1) ls rest)) : W p l e R s m args below meth c H locs cells slots Q (F0 m pc ls (.int x :: .int i :: .ref a :: rest)) := by
  refine W.zast hexec hb (r.2.1 a _ ha) ((hK.2 k _ (ab_ty_at ht)).1 N (fun j => .int (f j))) (fun q => by cases q) (by show ¬ (i < 0 ∨ (arrV _ _ _).slots.size ≤ _); rw [arrV_size]; exact hin) rfl rfl hdg fun H1 e z oq => ?_
  refine kk H1 _ (r.put ha0 ?_ z oq)
  show H1[a]? = some (vp_cell _ _)
  rw [e]
  show some ((vp_cell _ _).setSlot _ _) = some (vp_cell _ _)
  rw [vp_cell_i, vp_cell_i, arrV_store]
  congr 2
  funext q
  by_cases hq : q = i.toNatClampNeg
  · subst hq
    simp [updV, upd, vp_nar]
    try rfl
  · simp [updV, upd, hq]
theorem ab_last (hexec : p.tables.exec = Jvm.exec) (hb : c.code = cc) (hK : va_K D cl (ab_ty aC ak) s) (r : ab_R D cl aC B n0 h n H) {a k N : Nat} {f : Nat → Int64} (ha0 : n0 ≤ a) (ha : h a = some (.inl (k, N, .inr (.inl f)))) (ht : ak[k]? = some .long) {i : Int32} {x : Int64} (hin : vp_in i N) (hdg : decode cc pc = .ok (.lastore, 1))
    (kk : ∀ (H1 : Heap) (j : Nat), ab_R D cl aC B n0 (ab_up h a (.inl (k, N, .inr (.inl (vp_updL f i.toNatClampNeg x))))) n H1 → W p l e R s m args below meth c H1 (locs ++ [⟨a, j⟩]) cells slots Q (F0 m (pc + 1) ls rest)) : W p l e R s m args below meth c H locs cells slots Q (F0 m pc ls (.long x :: .int i :: .ref a :: rest)) := by
  refine W.last hexec hb (r.2.1 a _ ha) ((hK.2 k _ (ab_ty_at ht)).1 N (fun j => .long (f j))) (fun q => by cases q) (by show ¬ (i < 0 ∨ (arrV _ _ _).slots.size ≤ _); rw [arrV_size]; exact hin) rfl rfl hdg fun H1 e z oq => ?_
  refine kk H1 _ (r.put ha0 ?_ z oq)
  show H1[a]? = some (vp_cell _ _)
  rw [e]
  show some ((vp_cell _ _).setSlot _ _) = some (vp_cell _ _)
  rw [vp_cell_l, vp_cell_l, arrV_store]
  congr 2
  funext q
  by_cases hq : q = i.toNatClampNeg
  · subst hq
    simp [updV, vp_updL]
  · simp [updV, vp_updL, hq]
end AB3
