/-! SYMBOLS: the component's search -/
/-- what stands behind a schema -/
def tBd (S : zs_T) (a : Nat) : Nat := if tK S a = 10 then tBs S a else if tK S a = 11 then tBs S (tBs S a) else a
/-- a schema's own type -/
def tSc (S : zs_T) (a : Nat) : Nat := if tK S a = 11 then tBs S a else a
section SY
variable {σ : Nat → Nat} {n0 e0 : Nat} {bf : ab_B} {d : Nat} {S T : zs_T} {Q : zs_Q} {m : Nat} {A : Nat → Nat} {τ ς : Nat → Nat} {ity bty cty sty nty mty : Nat}
theorem TR.scbase (W : TR S T A τ ς ity bty cty sty nty mty) {a : Nat} (ha : 0 < τ a) (hk : tK S a = 10) : zs_R S 6002 a = some (tBs S a) ∧ 0 < τ (tBs S a) ∧ (zs_i T (A 8059) (ς a)).toInt = τ (tBs S a) ∧ (tK S (tBs S a) = 7 ∨ tK S (tBs S a) = 8) := by
  obtain ⟨h1, h2, h3, h4, b, h5, h6, h7, h8⟩ := (W.ty a ha).sch hk
  have e : tBs S a = b := by simp [tBs, h5]
  rw [e]
  exact ⟨h5, h6, h7, h8⟩
theorem TR.gbase (W : TR S T A τ ς ity bty cty sty nty mty) {a : Nat} (ha : 0 < τ a) (hk : tK S a = 11) : zs_R S 6002 a = some (tBs S a) ∧ 0 < τ (tBs S a) ∧ tK S (tBs S a) = 10 ∧ (zs_i T (A 8045) (τ a)).toInt = ς (tBs S a) := by
  obtain ⟨b, h5, h6, h7, h8⟩ := (W.ty a ha).giv hk
  have e : tBs S a = b := by simp [tBs, h5]
  rw [e]
  exact ⟨h5, h6, h7, h8⟩
theorem TR.bd (W : TR S T A τ ς ity bty cty sty nty mty) {a : Nat} (ha : 0 < τ a) : 0 < τ (tBd S a) := by
  unfold tBd
  split
  · rename_i h; exact (W.scbase ha h).2.1
  · split
    · rename_i h
      have g := W.gbase ha h
      exact (W.scbase g.2.1 g.2.2.1).2.1
    · exact ha
theorem c_schema (hB : zt_B bf) (hd : 1 ≤ d) (W : TR S T A τ ς ity bty cty sty nty mty) {a : Nat} (ha : 0 < τ a) {K : Option Nat → zs_T → Prop} (h : K (some (tSc S a)) S) : zs_C (zx σ n0 bf) d 6005 [.ref a] S (zs_kR K Q) := by
  have t := W.ty a ha
  refine u_X7_schema hB hd ?_
  refine ⟨t.K, fun g => ?_, fun g => ?_⟩
  · have hn : ¬ tK S a = 11 := fun q => g (zi_eq.mpr q)
    have e : tSc S a = a := by unfold tSc; rw [if_neg hn]
    rw [e] at h
    exact h
  · have hk : tK S a = 11 := zi_eq.mp (Classical.not_not.mp g)
    have e : tSc S a = tBs S a := by unfold tSc; rw [if_pos hk]
    rw [e] at h
    rw [(W.gbase ha hk).1]
    exact h
theorem c_body (hB : zt_B bf) (hd : 2 ≤ d) (W : TR S T A τ ς ity bty cty sty nty mty) {a : Nat} (ha : 0 < τ a) {K : Option Nat → zs_T → Prop} (h : K (some (tBd S a)) S) : zs_C (zx σ n0 bf) d 6003 [.ref a] S (zs_kR K Q) := by
  have t := W.ty a ha
  refine u_X7_body hB (by omega) ?_
  refine ⟨t.K, c_isSchema hB (by omega) t.K ?_⟩
  intro v hv
  have hv := bv.of hv
  refine ⟨fun g => ?_, fun g => ⟨t.K, c_schema hB (by omega) W ha ?_⟩⟩
  · have hn := hv.n g
    have e : tBd S a = a := by
      unfold tBd
      rw [if_neg (fun q => hn (.inl q)), if_neg (fun q => hn (.inr q))]
    rw [e] at h
    exact h
  · rcases hv.y g with hk | hk
    · have e1 : tSc S a = a := by unfold tSc; rw [if_neg (by omega)]
      have e2 : tBd S a = tBs S a := by unfold tBd; rw [if_pos hk]
      have sb := W.scbase ha hk
      refine ⟨_, rfl, by rw [e1]; exact t.K, ?_⟩
      rw [e1, sb.1]
      rw [e2] at h
      exact h
    · have gb := W.gbase ha hk
      have sb := W.scbase gb.2.1 gb.2.2.1
      have e1 : tSc S a = tBs S a := by unfold tSc; rw [if_pos hk]
      have e2 : tBd S a = tBs S (tBs S a) := by unfold tBd; rw [if_neg (by omega), if_pos hk]
      refine ⟨_, rfl, by rw [e1]; exact (W.ty _ gb.2.1).K, ?_⟩
      rw [e1, sb.1]
      rw [e2] at h
      exact h
/-- the symbols that are known: Ls; of a record that a with has opened its fields -/
def syS (S : zs_T) (τ : Nat → Nat) (rd sl : Nat) (Ls : List Nat) (FL : Nat → List Nat) : Prop := (zs_R S 4008 rd = some sl) ∧ (zL S sl (Ls.map some)) ∧ (∀ s, s ∈ Ls → zs_K S s = some (.inl 7) ∧ s < zs_N S) ∧ (∀ s, s ∈ Ls → (zs_I S 7001 s).toInt = 6 → ∃ ty fs, zs_R S 7002 s = some ty ∧ 0 < τ ty ∧ zs_R S 6006 (tBd S ty) = some fs ∧ flR S 100 fs (FL s) ∧ (∀ x, x ∈ FL s → zs_K S x = some (.inl 12) ∧ x < zs_N S))
theorem syS.R {S : zs_T} {τ : Nat → Nat} {rd sl : Nat} {Ls : List Nat} {FL : Nat → List Nat} (W : syS S τ rd sl Ls FL) : zs_R S 4008 rd = some sl := W.1
theorem syS.l {S : zs_T} {τ : Nat → Nat} {rd sl : Nat} {Ls : List Nat} {FL : Nat → List Nat} (W : syS S τ rd sl Ls FL) : zL S sl (Ls.map some) := W.2.1
theorem syS.K {S : zs_T} {τ : Nat → Nat} {rd sl : Nat} {Ls : List Nat} {FL : Nat → List Nat} (W : syS S τ rd sl Ls FL) : ∀ s, s ∈ Ls → zs_K S s = some (.inl 7) ∧ s < zs_N S := W.2.2.1
theorem syS.rec {S : zs_T} {τ : Nat → Nat} {rd sl : Nat} {Ls : List Nat} {FL : Nat → List Nat} (W : syS S τ rd sl Ls FL) : ∀ s, s ∈ Ls → (zs_I S 7001 s).toInt = 6 → ∃ ty fs, zs_R S 7002 s = some ty ∧ 0 < τ ty ∧ zs_R S 6006 (tBd S ty) = some fs ∧ flR S 100 fs (FL s) ∧ (∀ x, x ∈ FL s → zs_K S x = some (.inl 12) ∧ x < zs_N S) := W.2.2.2
theorem syS.mk {S : zs_T} {τ : Nat → Nat} {rd sl : Nat} {Ls : List Nat} {FL : Nat → List Nat} (h0 : zs_R S 4008 rd = some sl) (h1 : zL S sl (Ls.map some)) (h2 : ∀ s, s ∈ Ls → zs_K S s = some (.inl 7) ∧ s < zs_N S) (h3 : ∀ s, s ∈ Ls → (zs_I S 7001 s).toInt = 6 → ∃ ty fs, zs_R S 7002 s = some ty ∧ 0 < τ ty ∧ zs_R S 6006 (tBd S ty) = some fs ∧ flR S 100 fs (FL s) ∧ (∀ x, x ∈ FL s → zs_K S x = some (.inl 12) ∧ x < zs_N S)) : syS S τ rd sl Ls FL := ⟨h0, h1, h2, h3⟩
/-- the search, from the last on -/
def syF (S : zs_T) (FL : Nat → List Nat) (name : Int32) : List Nat → Option (Nat × Option Nat)
  | [] => none
  | s :: r => if (zs_I S 7001 s).toInt = 6 then (match (FL s).find? (fun x => decide (zs_I S 12000 x = name)) with
      | some f => some (s, some f)
      | none => if zs_I S 7000 s = name then some (s, none) else syF S FL name r) else if zs_I S 7000 s = name then some (s, none) else syF S FL name r
/-- a field that a with has made known -/
def syA (S : zs_T) (S1 : zs_T) (a s f : Nat) : Prop := (zs_K S1 a = some (.inl 7)) ∧ (zs_I S1 7000 a = zs_I S 12000 f) ∧ ((zs_I S1 7001 a).toInt = 5) ∧ (zs_R S1 7002 a = zs_R S 12001 f) ∧ (zs_R S1 7012 a = some f) ∧ (zs_R S1 7013 a = zs_R S 7002 s) ∧ (zs_I S1 7008 a = zs_I S 7008 s) ∧ (zs_R S1 7007 a = zs_R S 7007 s) ∧ (zs_I S1 7009 a = zs_I S 7009 s) ∧ (zs_J S1 7003 a = 0) ∧ (zs_R S1 7006 a = none)
theorem syA.K {S : zs_T} {S1 : zs_T} {a s f : Nat} (W : syA S S1 a s f) : zs_K S1 a = some (.inl 7) := W.1
theorem syA.name {S : zs_T} {S1 : zs_T} {a s f : Nat} (W : syA S S1 a s f) : zs_I S1 7000 a = zs_I S 12000 f := W.2.1
theorem syA.kind {S : zs_T} {S1 : zs_T} {a s f : Nat} (W : syA S S1 a s f) : (zs_I S1 7001 a).toInt = 5 := W.2.2.1
theorem syA.type {S : zs_T} {S1 : zs_T} {a s f : Nat} (W : syA S S1 a s f) : zs_R S1 7002 a = zs_R S 12001 f := W.2.2.2.1
theorem syA.fld {S : zs_T} {S1 : zs_T} {a s f : Nat} (W : syA S S1 a s f) : zs_R S1 7012 a = some f := W.2.2.2.2.1
theorem syA.rcd {S : zs_T} {S1 : zs_T} {a s f : Nat} (W : syA S S1 a s f) : zs_R S1 7013 a = zs_R S 7002 s := W.2.2.2.2.2.1
theorem syA.slot {S : zs_T} {S1 : zs_T} {a s f : Nat} (W : syA S S1 a s f) : zs_I S1 7008 a = zs_I S 7008 s := W.2.2.2.2.2.2.1
theorem syA.own {S : zs_T} {S1 : zs_T} {a s f : Nat} (W : syA S S1 a s f) : zs_R S1 7007 a = zs_R S 7007 s := W.2.2.2.2.2.2.2.1
theorem syA.prot {S : zs_T} {S1 : zs_T} {a s f : Nat} (W : syA S S1 a s f) : zs_I S1 7009 a = zs_I S 7009 s := W.2.2.2.2.2.2.2.2.1
theorem syA.v {S : zs_T} {S1 : zs_T} {a s f : Nat} (W : syA S S1 a s f) : zs_J S1 7003 a = 0 := W.2.2.2.2.2.2.2.2.2.1
theorem syA.rout {S : zs_T} {S1 : zs_T} {a s f : Nat} (W : syA S S1 a s f) : zs_R S1 7006 a = none := W.2.2.2.2.2.2.2.2.2.2
theorem syA.mk {S : zs_T} {S1 : zs_T} {a s f : Nat} (h0 : zs_K S1 a = some (.inl 7)) (h1 : zs_I S1 7000 a = zs_I S 12000 f) (h2 : (zs_I S1 7001 a).toInt = 5) (h3 : zs_R S1 7002 a = zs_R S 12001 f) (h4 : zs_R S1 7012 a = some f) (h5 : zs_R S1 7013 a = zs_R S 7002 s) (h6 : zs_I S1 7008 a = zs_I S 7008 s) (h7 : zs_R S1 7007 a = zs_R S 7007 s) (h8 : zs_I S1 7009 a = zs_I S 7009 s) (h9 : zs_J S1 7003 a = 0) (h10 : zs_R S1 7006 a = none) : syA S S1 a s f := ⟨h0, h1, h2, h3, h4, h5, h6, h7, h8, h9, h10⟩
theorem c_here_10 (hB : zt_B bf) (Ll : zbl (zx σ n0 bf) n0 e0) (hd : 7 ≤ d) {rd sl : Nat} {Ls : List Nat} {FL : Nat → List Nat} (hrd : zs_K S rd = some (.inl 4)) (W : syS S τ rd sl Ls FL) {p1 : Int32} {bs : Nat} (hbs : (zs_I S 4009 rd).toInt = bs) :
    ∀ (k : Nat) {p2 : Int32}, p2.toInt = (k : Int) - 1 → k ≤ Ls.length → Q (.returned (some (va_rf (((Ls.take k).drop bs).reverse.find? (fun s => decide (zs_I S 7000 s = p1)))))) S → zs_U (zx σ n0 bf) d 4012 10 [(0, .ref rd), (1, .int p1), (2, .int p2)] [] S Q
  | 0, p2, h2, hk, h => by
    refine u_X5_here_10 hB ⟨hrd, fun _ => (by
      simp only [List.take_zero, List.drop_nil, List.reverse_nil, List.find?_nil] at h
      exact h), fun g => absurd (zi_lt.mpr (by omega)) g⟩
  | k + 1, p2, h2, hk, h => by
    have hl : (Ls.map some).length = Ls.length := List.length_map _
    have hsz := W.l.2.2.1
    rw [hl] at hsz
    refine u_X5_here_10 hB ⟨hrd, fun g => ?_, fun g => ⟨sl, W.R, W.l.1, Ll.get (i := k) (by omega) W.l (by omega) (by omega) ?_⟩⟩ <;> simp only [zi_lt] at g
    · have e : (Ls.take (k + 1)).drop bs = [] := List.drop_eq_nil_of_le (by rw [List.length_take]; omega)
      rw [e] at h
      exact h
    · have hx : Ls[k]? = some (Ls[k]'(by omega)) := List.getElem?_eq_getElem (by omega)
      have hg : (Ls.map some).getD k none = some (Ls[k]'(by omega)) := by simp [List.getD, hx]
      have hK := (W.K _ (List.getElem_mem (show k < Ls.length by omega))).1
      rw [hg]
      have et : (Ls.take (k + 1)).drop bs = (Ls.take k).drop bs ++ [Ls[k]'(by omega)] := by
        rw [List.take_add_one, hx, Option.toList_some, List.drop_append_of_le_length (by rw [List.length_take]; omega)]
      refine ⟨fun a ha => (by cases ha; exact hK), _, rfl, hK, fun g2 => ?_, fun g2 => ⟨hrd, sl, W.R, W.l.1, Ll.get (i := k) (by omega) W.l (by omega) (by omega) ?_⟩⟩
      · refine c_here_10 hB Ll hd hrd W hbs k ?_ (by omega) ?_
        · rw [zi_add] <;> simp only [zi_lit] <;> omega
        · rw [et, List.reverse_append, List.reverse_singleton, List.singleton_append, List.find?_cons_of_neg (by simpa using g2)] at h
          exact h
      · rw [hg]
        refine ⟨fun a ha => (by cases ha; exact hK), ?_⟩
        rw [et, List.reverse_append, List.reverse_singleton, List.singleton_append, List.find?_cons_of_pos (by simpa using g2)] at h
        exact h
/-- a name of this block -/
theorem c_here (hB : zt_B bf) (Ll : zbl (zx σ n0 bf) n0 e0) (hd : 8 ≤ d) {rd sl : Nat} {Ls : List Nat} {FL : Nat → List Nat} (hrd : zs_K S rd = some (.inl 4)) (W : syS S τ rd sl Ls FL) {p1 : Int32} {bs : Nat} (hbs : (zs_I S 4009 rd).toInt = bs) {K : Option Nat → zs_T → Prop} (h : K ((Ls.drop bs).reverse.find? (fun s => decide (zs_I S 7000 s = p1))) S) : zs_C (zx σ n0 bf) d 4012 [.ref rd, .int p1] S (zs_kR K Q) := by
  have hl : (Ls.map some).length = Ls.length := List.length_map _
  have hsz := W.l.2.2.1
  rw [hl] at hsz
  refine u_X5_here hB (by omega) ⟨hrd, sl, W.R, W.l.1, Ll.size (by omega) W.l ?_⟩
  intro v hv
  rw [hl] at hv
  refine c_here_10 hB Ll (by omega) hrd W hbs Ls.length ?_ (Nat.le_refl _) ?_
  · rw [zi_sub] <;> simp only [zi_lit] <;> omega
  · rw [List.take_length]
    cases hq : ((Ls.drop bs).reverse.find? (fun s => decide (zs_I S 7000 s = p1))) with
    | none => rw [hq] at h; exact h
    | some x => rw [hq] at h; exact h
/-- a field that a with has made known comes as a new symbol -/
theorem c_fieldSym (hB : zt_B bf) (Lb : zb (zx σ n0 bf) n0) (hd : 3 ≤ d) {s f : Nat} (hs : zs_K S s = some (.inl 7)) (hs2 : s < zs_N S) (hf : zs_K S f = some (.inl 12)) (hf2 : f < zs_N S) (hN : n0 ≤ zs_N S) (hpr : zs_b (zs_I S 7009 s)) {K : Option Nat → zs_T → Prop} (h : ∀ S1, syA S S1 (zs_N S) s f → (∀ b, b < zs_N S → zf_at S S1 b) → zs_N S1 = zs_N S + 1 → zs_M S1 = zs_M S + 14 → (zW S → zW S1) → K (some (zs_N S)) S1) : zs_C (zx σ n0 bf) d 4029 [.ref s, .ref f] S (zs_kR K Q) := by
  have ns : s ≠ zs_N S := by omega
  have nf : f ≠ zs_N S := by omega
  refine u_X5_fieldOf (p0 := some s) (p1 := some f) hB (by omega) ?_
  rintro _ _ rfl rfl
  refine ⟨f, rfl, by simpa [zs_rdn, nf] using hf, ?_⟩
  refine u_X8_init hB (by omega) (Lb.obj (by omega) ⟨by simp [zs_rdn], hN, ?_⟩)
  rintro _ rfl _ rfl
  refine ⟨by simpa [zs_rd, zs_rdn, nf] using hf, by simp [zs_rd, zs_rdn], hN, ?_⟩
  rintro _ rfl _ rfl
  refine ⟨s, rfl, by simpa [zs_rd, zs_rdn, ns] using hs, ?_⟩
  rintro _ rfl
  refine ⟨s, rfl, by simpa [zs_rd, zs_rdn, ns] using hs, zs_N S, rfl, by simp [zs_rd, zs_rdn], hN, ?_⟩
  rintro _ rfl _ rfl
  refine ⟨by simpa [zs_rd, zs_rdn, ns] using hpr, ?_⟩
  rintro _ rfl
  refine h _ ⟨by simp [zs_rd, zs_rdn], by simp [zs_rd, zs_rdn, nf], by simp [zs_rd, zs_rdn], by simp [zs_rd, zs_rdn, nf], by simp [zs_rd, zs_rdn], by simp [zs_rd, zs_rdn, ns], by simp [zs_rd, zs_rdn, ns], by simp [zs_rd, zs_rdn, ns], by simp [zs_rd, zs_rdn, ns], by simp [zs_rd, zs_rdn], by simp [zs_rd, zs_rdn]⟩ ?_ (by simp [zs_rd, zs_rdn]) (by simp [zs_rd, zs_rdn]) (fun w => ?_)
  · intro b hb
    have nb : b ≠ zs_N S := by omega
    exact zf_trans (zf_nw nb) (zf_trans (zf_sI nb) (zf_trans (zf_sI nb) (zf_trans (zf_sR nb) (zf_trans (zf_sR nb) (zf_trans (zf_sR nb) (zf_trans (zf_sI nb) (zf_trans (zf_sR nb) (zf_sI nb))))))))
  · intro a ha
    have := w.nw (e := .inl 7) (m := 14) a (by simpa [zs_rd] using ha)
    simpa [zs_rd] using this
/-- the search of a name -/
theorem c_find_10 (hB : zt_B bf) (Lb : zb (zx σ n0 bf) n0) (Ll : zbl (zx σ n0 bf) n0 e0) (hd : 120 ≤ d) {rd sl : Nat} {Ls : List Nat} {FL : Nat → List Nat} (hrd : zs_K S rd = some (.inl 4)) (hN : n0 ≤ zs_N S) (W : syS S τ rd sl Ls FL) (TW : TR S T A τ ς ity bty cty sty nty mty) (hpr : ∀ s, s ∈ Ls → zs_b (zs_I S 7009 s)) {p1 : Int32}
    (kn : syF S FL p1 Ls.reverse = none → Q (.returned (some .null)) S)
    (ks : ∀ s, s ∈ Ls → syF S FL p1 Ls.reverse = some (s, none) → Q (.returned (some (.ref s))) S)
    (kf : ∀ s f S1, s ∈ Ls → f ∈ FL s → syF S FL p1 Ls.reverse = some (s, some f) → syA S S1 (zs_N S) s f → (∀ b, b < zs_N S → zf_at S S1 b) → zs_N S1 = zs_N S + 1 → zs_M S1 = zs_M S + 14 → (zW S → zW S1) → Q (.returned (some (.ref (zs_N S)))) S1) :
    ∀ (k : Nat) {p2 : Int32}, p2.toInt = (k : Int) - 1 → k ≤ Ls.length → syF S FL p1 Ls.reverse = syF S FL p1 (Ls.take k).reverse → zs_U (zx σ n0 bf) d 4028 10 [(0, .ref rd), (1, .int p1), (2, .int p2)] [] S Q
  | 0, p2, h2, hk, h => by
    refine u_X5_find_10 hB ⟨fun _ => kn (by rw [h]; rfl), fun g => absurd (zi_lt.mpr (by simp only [zi_lit]; omega)) g⟩
  | k + 1, p2, h2, hk, h => by
    have hl : (Ls.map some).length = Ls.length := List.length_map _
    have hsz := W.l.2.2.1
    rw [hl] at hsz
    have hx : Ls[k]? = some (Ls[k]'(by omega)) := List.getElem?_eq_getElem (by omega)
    have hmem : Ls[k]'(by omega) ∈ Ls := List.getElem_mem (show k < Ls.length by omega)
    have hg : (Ls.map some).getD k none = some (Ls[k]'(by omega)) := by simp [List.getD, hx]
    generalize hs : Ls[k]'(by omega) = s at hx hmem hg
    have et : (Ls.take (k + 1)).reverse = s :: (Ls.take k).reverse := by rw [List.take_add_one, hx, Option.toList_some, List.reverse_append]; rfl
    obtain ⟨hK, hlt⟩ := W.K _ hmem
    rw [et] at h
    -- no field: its own name
    have own : ((zs_I S 7001 s).toInt = 6 → (FL s).find? (fun x => decide (zs_I S 12000 x = p1)) = none) → w_X5_find_53 (zx σ n0 bf) d rd p1 p2 (some s) none S Q := by
      intro hno
      have hu : syF S FL p1 (s :: (Ls.take k).reverse) = if zs_I S 7000 s = p1 then some (s, none) else syF S FL p1 (Ls.take k).reverse := by
        rw [syF]
        split
        · rename_i g; rw [hno g]
        · rfl
      refine ⟨fun _ => ⟨s, rfl, hK, fun g => ?_, fun g => ?_⟩, fun b hb => (by cases hb)⟩
      · refine c_find_10 hB Lb Ll hd hrd hN W TW hpr kn ks kf k ?_ (by omega) ?_
        · rw [zi_add] <;> simp only [zi_lit] <;> omega
        · rw [h, hu, if_neg g]
      · exact ks s hmem (by rw [h, hu, if_pos (Classical.not_not.mp g)])
    refine u_X5_find_10 hB ⟨fun g => absurd (zi_lt.mp g) (by simp only [zi_lit]; omega), fun _ => ⟨hrd, sl, W.R, W.l.1, Ll.get (i := k) (by omega) W.l (by omega) (by omega) ?_⟩⟩
    rw [hg]
    refine ⟨fun a ha => (by cases ha; exact hK), s, rfl, hK, fun g => own (fun q => absurd (zi_eq.mpr q) g), fun g => ?_⟩
    have h6 : (zs_I S 7001 s).toInt = 6 := zi_eq.mp (Classical.not_not.mp g)
    obtain ⟨ty, fs, r1, r2, r3, r4, r5⟩ := W.rec s hmem h6
    have tb := TW.bd r2
    refine ⟨ty, r1, (TW.ty ty r2).K, c_body hB (by omega) TW r2 ⟨_, rfl, (TW.ty _ tb).K, fs, r3, (show zs_K S fs = some (.inl 13) from r4.1), c_Ffind hB Ll 100 r4 (by omega) ?_⟩⟩
    cases hfd : ((FL s).find? (fun x => decide (zs_I S 12000 x = p1))) with
    | none => exact own (fun _ => hfd)
    | some f =>
      have hfm : f ∈ FL s := List.mem_of_find?_eq_some hfd
      have hu : syF S FL p1 (s :: (Ls.take k).reverse) = some (s, some f) := by
        rw [syF, if_pos h6, hfd]
      refine ⟨fun q => (by cases q), fun b hb => ?_⟩
      refine c_fieldSym (s := s) (f := f) hB Lb (by omega) hK hlt (r5 f hfm).1 (r5 f hfm).2 hN (hpr s hmem) ?_
      intro S1 a1 a2 a3 a4 a5
      exact kf s f S1 hmem hfm (h.trans hu) a1 a2 a3 a4 a5
theorem c_find (hB : zt_B bf) (Lb : zb (zx σ n0 bf) n0) (Ll : zbl (zx σ n0 bf) n0 e0) (hd : 121 ≤ d) {rd sl : Nat} {Ls : List Nat} {FL : Nat → List Nat} (hrd : zs_K S rd = some (.inl 4)) (hN : n0 ≤ zs_N S) (W : syS S τ rd sl Ls FL) (TW : TR S T A τ ς ity bty cty sty nty mty) (hpr : ∀ s, s ∈ Ls → zs_b (zs_I S 7009 s)) {p1 : Int32} {K : Option Nat → zs_T → Prop}
    (kn : syF S FL p1 Ls.reverse = none → K none S)
    (ks : ∀ s, s ∈ Ls → syF S FL p1 Ls.reverse = some (s, none) → K (some s) S)
    (kf : ∀ s f S1, s ∈ Ls → f ∈ FL s → syF S FL p1 Ls.reverse = some (s, some f) → syA S S1 (zs_N S) s f → (∀ b, b < zs_N S → zf_at S S1 b) → zs_N S1 = zs_N S + 1 → zs_M S1 = zs_M S + 14 → (zW S → zW S1) → K (some (zs_N S)) S1) : zs_C (zx σ n0 bf) d 4028 [.ref rd, .int p1] S (zs_kR K Q) := by
  have hl : (Ls.map some).length = Ls.length := List.length_map _
  have hsz := W.l.2.2.1
  rw [hl] at hsz
  refine u_X5_find hB (by omega) ⟨hrd, sl, W.R, W.l.1, Ll.size (by omega) W.l ?_⟩
  intro v hv
  rw [hl] at hv
  refine c_find_10 hB Lb Ll (by omega) hrd hN W TW hpr kn ks kf Ls.length ?_ (Nat.le_refl _) (by rw [List.take_length])
  rw [zi_sub] <;> simp only [zi_lit] <;> omega
end SY
