/-! THE TYPED STATE: what each cell is (zs_K: an object's class, or an array's kind and length), each field by itself (zs_I, zs_J, zs_R: ints, longs, references; a field's number is 1000 * class + place), each array's contents (zs_i, zs_j, zs_r), the heap's size, the slots used. zs_h: the heap of it. -/
abbrev zs_T : Type := (Nat → Option (Nat ⊕ (Nat × Nat))) × (Nat → Nat → Int32) × (Nat → Nat → Int64) × (Nat → Nat → Option Nat) × (Nat → Nat → Int32) × (Nat → Nat → Int64) × (Nat → Nat → Option Nat) × Nat × Nat
def zs_K (S : zs_T) (a : Nat) : Option (Nat ⊕ (Nat × Nat)) := S.1 a
def zs_I (S : zs_T) (f a : Nat) : Int32 := S.2.1 f a
def zs_J (S : zs_T) (f a : Nat) : Int64 := S.2.2.1 f a
def zs_R (S : zs_T) (f a : Nat) : Option Nat := S.2.2.2.1 f a
def zs_i (S : zs_T) (a j : Nat) : Int32 := S.2.2.2.2.1 a j
def zs_j (S : zs_T) (a j : Nat) : Int64 := S.2.2.2.2.2.1 a j
def zs_r (S : zs_T) (a j : Nat) : Option Nat := S.2.2.2.2.2.2.1 a j
def zs_N (S : zs_T) : Nat := S.2.2.2.2.2.2.2.1
def zs_M (S : zs_T) : Nat := S.2.2.2.2.2.2.2.2
def zs_u {α : Type} (m : Nat → Nat → α) (f a : Nat) (v : α) : Nat → Nat → α := fun g b => if g = f ∧ b = a then v else m g b
def zs_z {α : Type} (m : Nat → Nat → α) (a : Nat) (v : α) : Nat → Nat → α := fun g b => if b = a then v else m g b
def zs_y {α : Type} (m : Nat → Nat → α) (a : Nat) (v : α) : Nat → Nat → α := fun b j => if b = a then v else m b j
def zs_sI (S : zs_T) (f a : Nat) (v : Int32) : zs_T := (S.1, zs_u S.2.1 f a v, S.2.2)
def zs_sJ (S : zs_T) (f a : Nat) (v : Int64) : zs_T := (S.1, S.2.1, zs_u S.2.2.1 f a v, S.2.2.2)
def zs_sR (S : zs_T) (f a : Nat) (v : Option Nat) : zs_T := (S.1, S.2.1, S.2.2.1, zs_u S.2.2.2.1 f a v, S.2.2.2.2)
def zs_si (S : zs_T) (a j : Nat) (v : Int32) : zs_T := (S.1, S.2.1, S.2.2.1, S.2.2.2.1, zs_u S.2.2.2.2.1 a j v, S.2.2.2.2.2)
def zs_sj (S : zs_T) (a j : Nat) (v : Int64) : zs_T := (S.1, S.2.1, S.2.2.1, S.2.2.2.1, S.2.2.2.2.1, zs_u S.2.2.2.2.2.1 a j v, S.2.2.2.2.2.2)
def zs_sr (S : zs_T) (a j : Nat) (v : Option Nat) : zs_T := (S.1, S.2.1, S.2.2.1, S.2.2.2.1, S.2.2.2.2.1, S.2.2.2.2.2.1, zs_u S.2.2.2.2.2.2.1 a j v, S.2.2.2.2.2.2.2)
/-- a new cell, all of it zero -/
def zs_nw (S : zs_T) (e : Nat ⊕ (Nat × Nat)) (m : Nat) : zs_T := (fun b => if b = zs_N S then some e else S.1 b, zs_z S.2.1 (zs_N S) 0, zs_z S.2.2.1 (zs_N S) 0, zs_z S.2.2.2.1 (zs_N S) none, zs_y S.2.2.2.2.1 (zs_N S) 0, zs_y S.2.2.2.2.2.1 (zs_N S) 0, zs_y S.2.2.2.2.2.2.1 (zs_N S) none, zs_N S + 1, zs_M S + m)
/-- what is read of what was written -/
theorem zs_rd : (∀ S f a v g b, zs_I (zs_sI S f a v) g b = if g = f ∧ b = a then v else zs_I S g b) ∧ (∀ S f a v g b, zs_J (zs_sI S f a v) g b = zs_J S g b) ∧ (∀ S f a v g b, zs_R (zs_sI S f a v) g b = zs_R S g b) ∧ (∀ S f a v b, zs_K (zs_sI S f a v) b = zs_K S b) ∧ (∀ S f a v b j, zs_i (zs_sI S f a v) b j = zs_i S b j) ∧ (∀ S f a v b j, zs_j (zs_sI S f a v) b j = zs_j S b j) ∧ (∀ S f a v b j, zs_r (zs_sI S f a v) b j = zs_r S b j) ∧ (∀ S f a v, zs_N (zs_sI S f a v) = zs_N S) ∧ (∀ S f a v, zs_M (zs_sI S f a v) = zs_M S) ∧
    (∀ S f a v g b, zs_J (zs_sJ S f a v) g b = if g = f ∧ b = a then v else zs_J S g b) ∧ (∀ S f a v g b, zs_I (zs_sJ S f a v) g b = zs_I S g b) ∧ (∀ S f a v g b, zs_R (zs_sJ S f a v) g b = zs_R S g b) ∧ (∀ S f a v b, zs_K (zs_sJ S f a v) b = zs_K S b) ∧ (∀ S f a v b j, zs_i (zs_sJ S f a v) b j = zs_i S b j) ∧ (∀ S f a v b j, zs_j (zs_sJ S f a v) b j = zs_j S b j) ∧ (∀ S f a v b j, zs_r (zs_sJ S f a v) b j = zs_r S b j) ∧ (∀ S f a v, zs_N (zs_sJ S f a v) = zs_N S) ∧ (∀ S f a v, zs_M (zs_sJ S f a v) = zs_M S) ∧
    (∀ S f a v g b, zs_R (zs_sR S f a v) g b = if g = f ∧ b = a then v else zs_R S g b) ∧ (∀ S f a v g b, zs_I (zs_sR S f a v) g b = zs_I S g b) ∧ (∀ S f a v g b, zs_J (zs_sR S f a v) g b = zs_J S g b) ∧ (∀ S f a v b, zs_K (zs_sR S f a v) b = zs_K S b) ∧ (∀ S f a v b j, zs_i (zs_sR S f a v) b j = zs_i S b j) ∧ (∀ S f a v b j, zs_j (zs_sR S f a v) b j = zs_j S b j) ∧ (∀ S f a v b j, zs_r (zs_sR S f a v) b j = zs_r S b j) ∧ (∀ S f a v, zs_N (zs_sR S f a v) = zs_N S) ∧ (∀ S f a v, zs_M (zs_sR S f a v) = zs_M S) :=
  ⟨fun _ _ _ _ _ _ => rfl, fun _ _ _ _ _ _ => rfl, fun _ _ _ _ _ _ => rfl, fun _ _ _ _ _ => rfl, fun _ _ _ _ _ _ => rfl, fun _ _ _ _ _ _ => rfl, fun _ _ _ _ _ _ => rfl, fun _ _ _ _ => rfl, fun _ _ _ _ => rfl, fun _ _ _ _ _ _ => rfl, fun _ _ _ _ _ _ => rfl, fun _ _ _ _ _ _ => rfl, fun _ _ _ _ _ => rfl, fun _ _ _ _ _ _ => rfl, fun _ _ _ _ _ _ => rfl, fun _ _ _ _ _ _ => rfl, fun _ _ _ _ => rfl, fun _ _ _ _ => rfl, fun _ _ _ _ _ _ => rfl, fun _ _ _ _ _ _ => rfl, fun _ _ _ _ _ _ => rfl, fun _ _ _ _ _ => rfl, fun _ _ _ _ _ _ => rfl, fun _ _ _ _ _ _ => rfl, fun _ _ _ _ _ _ => rfl, fun _ _ _ _ => rfl, fun _ _ _ _ => rfl⟩
theorem zs_rda : (∀ S a j v b k, zs_i (zs_si S a j v) b k = if b = a ∧ k = j then v else zs_i S b k) ∧ (∀ S a j v b k, zs_j (zs_si S a j v) b k = zs_j S b k) ∧ (∀ S a j v b k, zs_r (zs_si S a j v) b k = zs_r S b k) ∧ (∀ S a j v b, zs_K (zs_si S a j v) b = zs_K S b) ∧ (∀ S a j v g b, zs_I (zs_si S a j v) g b = zs_I S g b) ∧ (∀ S a j v g b, zs_J (zs_si S a j v) g b = zs_J S g b) ∧ (∀ S a j v g b, zs_R (zs_si S a j v) g b = zs_R S g b) ∧ (∀ S a j v, zs_N (zs_si S a j v) = zs_N S) ∧ (∀ S a j v, zs_M (zs_si S a j v) = zs_M S) ∧
    (∀ S a j v b k, zs_j (zs_sj S a j v) b k = if b = a ∧ k = j then v else zs_j S b k) ∧ (∀ S a j v b k, zs_i (zs_sj S a j v) b k = zs_i S b k) ∧ (∀ S a j v b k, zs_r (zs_sj S a j v) b k = zs_r S b k) ∧ (∀ S a j v b, zs_K (zs_sj S a j v) b = zs_K S b) ∧ (∀ S a j v g b, zs_I (zs_sj S a j v) g b = zs_I S g b) ∧ (∀ S a j v g b, zs_J (zs_sj S a j v) g b = zs_J S g b) ∧ (∀ S a j v g b, zs_R (zs_sj S a j v) g b = zs_R S g b) ∧ (∀ S a j v, zs_N (zs_sj S a j v) = zs_N S) ∧ (∀ S a j v, zs_M (zs_sj S a j v) = zs_M S) ∧
    (∀ S a j v b k, zs_r (zs_sr S a j v) b k = if b = a ∧ k = j then v else zs_r S b k) ∧ (∀ S a j v b k, zs_i (zs_sr S a j v) b k = zs_i S b k) ∧ (∀ S a j v b k, zs_j (zs_sr S a j v) b k = zs_j S b k) ∧ (∀ S a j v b, zs_K (zs_sr S a j v) b = zs_K S b) ∧ (∀ S a j v g b, zs_I (zs_sr S a j v) g b = zs_I S g b) ∧ (∀ S a j v g b, zs_J (zs_sr S a j v) g b = zs_J S g b) ∧ (∀ S a j v g b, zs_R (zs_sr S a j v) g b = zs_R S g b) ∧ (∀ S a j v, zs_N (zs_sr S a j v) = zs_N S) ∧ (∀ S a j v, zs_M (zs_sr S a j v) = zs_M S) :=
  ⟨fun _ _ _ _ _ _ => rfl, fun _ _ _ _ _ _ => rfl, fun _ _ _ _ _ _ => rfl, fun _ _ _ _ _ => rfl, fun _ _ _ _ _ _ => rfl, fun _ _ _ _ _ _ => rfl, fun _ _ _ _ _ _ => rfl, fun _ _ _ _ => rfl, fun _ _ _ _ => rfl, fun _ _ _ _ _ _ => rfl, fun _ _ _ _ _ _ => rfl, fun _ _ _ _ _ _ => rfl, fun _ _ _ _ _ => rfl, fun _ _ _ _ _ _ => rfl, fun _ _ _ _ _ _ => rfl, fun _ _ _ _ _ _ => rfl, fun _ _ _ _ => rfl, fun _ _ _ _ => rfl, fun _ _ _ _ _ _ => rfl, fun _ _ _ _ _ _ => rfl, fun _ _ _ _ _ _ => rfl, fun _ _ _ _ _ => rfl, fun _ _ _ _ _ _ => rfl, fun _ _ _ _ _ _ => rfl, fun _ _ _ _ _ _ => rfl, fun _ _ _ _ => rfl, fun _ _ _ _ => rfl⟩
theorem zs_rdn : (∀ S e m b, zs_K (zs_nw S e m) b = if b = zs_N S then some e else zs_K S b) ∧ (∀ S e m g b, zs_I (zs_nw S e m) g b = if b = zs_N S then 0 else zs_I S g b) ∧ (∀ S e m g b, zs_J (zs_nw S e m) g b = if b = zs_N S then 0 else zs_J S g b) ∧ (∀ S e m g b, zs_R (zs_nw S e m) g b = if b = zs_N S then none else zs_R S g b) ∧ (∀ S e m b j, zs_i (zs_nw S e m) b j = if b = zs_N S then 0 else zs_i S b j) ∧ (∀ S e m b j, zs_j (zs_nw S e m) b j = if b = zs_N S then 0 else zs_j S b j) ∧ (∀ S e m b j, zs_r (zs_nw S e m) b j = if b = zs_N S then none else zs_r S b j) ∧ (∀ S e m, zs_N (zs_nw S e m) = zs_N S + 1) ∧ (∀ S e m, zs_M (zs_nw S e m) = zs_M S + m) :=
  ⟨fun _ _ _ _ => rfl, fun _ _ _ _ _ => rfl, fun _ _ _ _ _ => rfl, fun _ _ _ _ _ => rfl, fun _ _ _ _ _ => rfl, fun _ _ _ _ _ => rfl, fun _ _ _ _ _ => rfl, fun _ _ _ => rfl, fun _ _ _ => rfl⟩
/-- a field's value: t: 0 an int, 1 a long, 2 a reference -/
def zs_v (S : zs_T) (c a k t : Nat) : Value := match t with
  | 0 => .int (zs_I S (1000 * c + k) a)
  | 1 => .long (zs_J S (1000 * c + k) a)
  | _ => va_rf (zs_R S (1000 * c + k) a)
def zs_c (S : zs_T) (a t : Nat) : (Nat → Int32) ⊕ (Nat → Int64) ⊕ (Nat → UInt32) ⊕ (Nat → UInt64) ⊕ (Nat → Option Nat) := match t with
  | 0 => .inl (zs_i S a)
  | 1 => .inr (.inl (zs_j S a))
  | _ => .inr (.inr (.inr (.inr (zs_r S a))))
def zs_tag : FieldType → Nat
  | .int => 0
  | .byte => 0
  | .boolean => 0
  | .long => 1
  | _ => 2
abbrev zs_F : Type := (Nat → List FieldType) × List FieldType
/-- a cell: G: the fields' types by class; the kinds of arrays -/
def zs_e (G : zs_F) (S : zs_T) (a : Nat) : Nat ⊕ (Nat × Nat) → ab_E
  | .inl c => .inr (c, (G.1 c).mapIdx (fun k t => zs_v S c a k (zs_tag t)))
  | .inr (k, n) => .inl (k, n, zs_c S a (zs_tag (G.2.getD k .int)))
def zs_h (G : zs_F) (S : zs_T) : ab_H := fun a => (zs_K S a).map (zs_e G S a)
theorem zs_h_at {G : zs_F} {S : zs_T} {a : Nat} {e : Nat ⊕ (Nat × Nat)} (h : zs_K S a = some e) : zs_h G S a = some (zs_e G S a e) := by
  simp [zs_h, h]
/-- a field is read -/
theorem zs_h_fld {G : zs_F} {S : zs_T} {a c k : Nat} {ty : FieldType} (h : zs_K S a = some (.inl c)) (ht : (G.1 c)[k]? = some ty) : ∃ fs, zs_h G S a = some (.inr (c, fs)) ∧ fs[k]? = some (zs_v S c a k (zs_tag ty)) ∧ k < fs.length := by
  refine ⟨_, zs_h_at h, ?_, ?_⟩
  · rw [List.getElem?_mapIdx, ht]
    rfl
  · rw [List.length_mapIdx]
    exact (List.getElem?_eq_some_iff.mp ht).1
/-- all but one cell the same -/
theorem zs_h_up {G : zs_F} {S S1 : zs_T} {a : Nat} {e : Nat ⊕ (Nat × Nat)} (h1 : zs_K S1 a = some e) (hk : ∀ b, b ≠ a → zs_K S1 b = zs_K S b) (he : ∀ b q, b ≠ a → zs_K S b = some q → zs_e G S1 b q = zs_e G S b q) {x : ab_E} (hx : zs_e G S1 a e = x) : ab_up (zs_h G S) a x = zs_h G S1 := by
  funext b
  unfold ab_up zs_h
  split
  · rename_i hb
    subst hb
    rw [h1, ← hx]
    rfl
  · rename_i hb
    rw [hk b hb]
    cases hq : zs_K S b with
    | none => rfl
    | some q =>
      simp only [Option.map_some]
      rw [he b q hb hq]
/-- the same values, cell by cell -/
theorem zs_e_eq {G : zs_F} {S S1 : zs_T} {b : Nat} (hI : ∀ g, zs_I S1 g b = zs_I S g b) (hJ : ∀ g, zs_J S1 g b = zs_J S g b) (hR : ∀ g, zs_R S1 g b = zs_R S g b) (hi : ∀ j, zs_i S1 b j = zs_i S b j) (hj : ∀ j, zs_j S1 b j = zs_j S b j) (hr : ∀ j, zs_r S1 b j = zs_r S b j) (q : Nat ⊕ (Nat × Nat)) : zs_e G S1 b q = zs_e G S b q := by
  have hv : ∀ c k t, zs_v S1 c b k t = zs_v S c b k t := by
    intro c k t
    unfold zs_v
    rw [hI, hJ, hR]
  have hc : ∀ t, zs_c S1 b t = zs_c S b t := by
    intro t
    unfold zs_c
    rw [show zs_i S1 b = zs_i S b from funext hi, show zs_j S1 b = zs_j S b from funext hj, show zs_r S1 b = zs_r S b from funext hr]
  unfold zs_e
  split
  · congr 2
    exact congrArg (fun f => List.mapIdx f _) (funext fun k => funext fun t => hv _ _ _)
  · rw [hc]
/-- fields are set, one by one -/
theorem zs_set {G : zs_F} {S S1 : zs_T} {c a k : Nat} {v : Value} {ty : FieldType} (ht : (G.1 c)[k]? = some ty) (hv : zs_v S1 c a k (zs_tag ty) = v) (ho : ∀ j t, j ≠ k → zs_v S1 c a j t = zs_v S c a j t) : ((G.1 c).mapIdx (fun k t => zs_v S c a k (zs_tag t))).set k v = (G.1 c).mapIdx (fun k t => zs_v S1 c a k (zs_tag t)) := by
  apply List.ext_getElem?
  intro j
  rw [List.getElem?_set, List.getElem?_mapIdx, List.getElem?_mapIdx, List.length_mapIdx]
  have hk := (List.getElem?_eq_some_iff.mp ht).1
  by_cases hj : k = j
  · subst hj
    rw [if_pos rfl, if_pos hk, ht]
    simp [hv]
  · rw [if_neg hj]
    cases (G.1 c)[j]? with
    | none => rfl
    | some t =>
      simp only [Option.map_some]
      rw [ho j _ (fun h => hj h.symm)]
theorem zs_h_sI {G : zs_F} {S : zs_T} {a c k : Nat} {ty : FieldType} {v : Int32} (h : zs_K S a = some (.inl c)) (ht : (G.1 c)[k]? = some ty) (h0 : zs_tag ty = 0) {fs : List Value} (hf : zs_h G S a = some (.inr (c, fs))) : ab_up (zs_h G S) a (.inr (c, fs.set k (.int v))) = zs_h G (zs_sI S (1000 * c + k) a v) := by
  rw [zs_h_at h] at hf
  cases Option.some.inj hf
  refine zs_h_up (G := G) (S := S) (S1 := zs_sI S (1000 * c + k) a v) (e := .inl c) h (fun b _ => rfl) (fun b q hb _ => zs_e_eq (S := S) (S1 := zs_sI S (1000 * c + k) a v) (fun g => by simp [zs_rd, hb]) (fun _ => rfl) (fun _ => rfl) (fun _ => rfl) (fun _ => rfl) (fun _ => rfl) q) ?_
  unfold zs_e
  dsimp only
  rw [zs_set ht (S1 := zs_sI S (1000 * c + k) a v)]
  · rw [h0]; simp [zs_v, zs_rd]
  · intro j t hj
    unfold zs_v
    split <;> simp [zs_rd, hj]
theorem zs_h_sJ {G : zs_F} {S : zs_T} {a c k : Nat} {ty : FieldType} {v : Int64} (h : zs_K S a = some (.inl c)) (ht : (G.1 c)[k]? = some ty) (h0 : zs_tag ty = 1) {fs : List Value} (hf : zs_h G S a = some (.inr (c, fs))) : ab_up (zs_h G S) a (.inr (c, fs.set k (.long v))) = zs_h G (zs_sJ S (1000 * c + k) a v) := by
  rw [zs_h_at h] at hf
  cases Option.some.inj hf
  refine zs_h_up (G := G) (S := S) (S1 := zs_sJ S (1000 * c + k) a v) (e := .inl c) h (fun b _ => rfl) (fun b q hb _ => zs_e_eq (S := S) (S1 := zs_sJ S (1000 * c + k) a v) (fun _ => rfl) (fun g => by simp [zs_rd, hb]) (fun _ => rfl) (fun _ => rfl) (fun _ => rfl) (fun _ => rfl) q) ?_
  unfold zs_e
  dsimp only
  rw [zs_set ht (S1 := zs_sJ S (1000 * c + k) a v)]
  · rw [h0]; simp [zs_v, zs_rd]
  · intro j t hj
    unfold zs_v
    split <;> simp [zs_rd, hj]
theorem zs_h_sR {G : zs_F} {S : zs_T} {a c k : Nat} {ty : FieldType} {v : Option Nat} (h : zs_K S a = some (.inl c)) (ht : (G.1 c)[k]? = some ty) (h0 : zs_tag ty = 2) {fs : List Value} (hf : zs_h G S a = some (.inr (c, fs))) : ab_up (zs_h G S) a (.inr (c, fs.set k (va_rf v))) = zs_h G (zs_sR S (1000 * c + k) a v) := by
  rw [zs_h_at h] at hf
  cases Option.some.inj hf
  refine zs_h_up (G := G) (S := S) (S1 := zs_sR S (1000 * c + k) a v) (e := .inl c) h (fun b _ => rfl) (fun b q hb _ => zs_e_eq (S := S) (S1 := zs_sR S (1000 * c + k) a v) (fun _ => rfl) (fun _ => rfl) (fun g => by simp [zs_rd, hb]) (fun _ => rfl) (fun _ => rfl) (fun _ => rfl) q) ?_
  unfold zs_e
  dsimp only
  rw [zs_set ht (S1 := zs_sR S (1000 * c + k) a v)]
  · rw [h0]; simp [zs_v, zs_rd]
  · intro j t hj
    unfold zs_v
    split <;> simp [zs_rd, hj]
theorem zs_h_si {G : zs_F} {S : zs_T} {a k n j : Nat} {v : Int32} {g : Nat → Int32} (h : zs_K S a = some (.inr (k, n))) (h0 : zs_tag (G.2.getD k .int) = 0) (hg : g = upd (zs_i S a) j v) : ab_up (zs_h G S) a (.inl (k, n, .inl g)) = zs_h G (zs_si S a j v) := by
  refine zs_h_up (G := G) (S := S) (S1 := zs_si S a j v) (e := .inr (k, n)) h (fun b _ => rfl) (fun b q hb _ => zs_e_eq (S := S) (S1 := zs_si S a j v) (fun _ => rfl) (fun _ => rfl) (fun _ => rfl) (fun j => by simp [zs_rda, hb]) (fun _ => rfl) (fun _ => rfl) q) ?_
  unfold zs_e
  dsimp only
  rw [h0, hg]
  simp only [zs_c]
  congr 4
  funext i
  simp [zs_rda, upd]
theorem zs_h_sj {G : zs_F} {S : zs_T} {a k n j : Nat} {v : Int64} {g : Nat → Int64} (h : zs_K S a = some (.inr (k, n))) (h0 : zs_tag (G.2.getD k .int) = 1) (hg : g = vp_updL (zs_j S a) j v) : ab_up (zs_h G S) a (.inl (k, n, .inr (.inl g))) = zs_h G (zs_sj S a j v) := by
  refine zs_h_up (G := G) (S := S) (S1 := zs_sj S a j v) (e := .inr (k, n)) h (fun b _ => rfl) (fun b q hb _ => zs_e_eq (S := S) (S1 := zs_sj S a j v) (fun _ => rfl) (fun _ => rfl) (fun _ => rfl) (fun _ => rfl) (fun j => by simp [zs_rda, hb]) (fun _ => rfl) q) ?_
  unfold zs_e
  dsimp only
  rw [h0, hg]
  simp only [zs_c]
  congr 5
  funext i
  simp [zs_rda, vp_updL]
theorem zs_h_sr {G : zs_F} {S : zs_T} {a k n j : Nat} {v : Option Nat} {g : Nat → Option Nat} (h : zs_K S a = some (.inr (k, n))) (h0 : zs_tag (G.2.getD k .int) = 2) (hg : g = va_up (zs_r S a) j v) : ab_up (zs_h G S) a (.inl (k, n, .inr (.inr (.inr (.inr g))))) = zs_h G (zs_sr S a j v) := by
  refine zs_h_up (G := G) (S := S) (S1 := zs_sr S a j v) (e := .inr (k, n)) h (fun b _ => rfl) (fun b q hb _ => zs_e_eq (S := S) (S1 := zs_sr S a j v) (fun _ => rfl) (fun _ => rfl) (fun _ => rfl) (fun _ => rfl) (fun _ => rfl) (fun j => by simp [zs_rda, hb]) q) ?_
  unfold zs_e
  dsimp only
  rw [h0, hg]
  simp only [zs_c]
  congr 8
  funext i
  simp [zs_rda, va_up]
theorem zs_h_nw {G : zs_F} {S : zs_T} {e : Nat ⊕ (Nat × Nat)} {m : Nat} {x : ab_E} (hx : zs_e G (zs_nw S e m) (zs_N S) e = x) : ab_up (zs_h G S) (zs_N S) x = zs_h G (zs_nw S e m) := by
  refine zs_h_up (e := e) (by simp [zs_rdn]) (fun b hb => by simp [zs_rdn, hb]) (fun b q hb _ => zs_e_eq (fun g => by simp [zs_rdn, hb]) (fun g => by simp [zs_rdn, hb]) (fun g => by simp [zs_rdn, hb]) (fun g => by simp [zs_rdn, hb]) (fun g => by simp [zs_rdn, hb]) (fun g => by simp [zs_rdn, hb]) q) hx
