/-! FIELDS OF RECORDS, in the order of the text -/
/-- fl: the fields that lie in fs, those of its variants behind -/
def flR (S : zs_T) : Nat → Nat → List Nat → Prop
  | 0, _, _ => False
  | f + 1, fs, fl => zs_K S fs = some (.inl 13) ∧ ∃ (al : Nat) (own : List Nat), zs_R S 13000 fs = some al ∧ zL S al (own.map some) ∧ (∀ x, x ∈ own → zs_K S x = some (.inl 12)) ∧
    ((zs_R S 13001 fs = none ∧ fl = own) ∨ ∃ (pt vl : Nat) (vs : List (Nat × Nat × List Nat)), zs_R S 13001 fs = some pt ∧ zs_K S pt = some (.inl 14) ∧ zs_R S 14001 pt = some vl ∧ zL S vl (vs.map (fun v => some v.1)) ∧ (∀ v, v ∈ vs → zs_K S v.1 = some (.inl 15) ∧ zs_R S 15002 v.1 = some v.2.1 ∧ zs_K S v.2.1 = some (.inl 13) ∧ flR S f v.2.1 v.2.2) ∧ fl = own ++ (vs.map (fun v => v.2.2)).flatten)
theorem find_app {α : Type} (p : α → Bool) (a b : List α) : (a ++ b).find? p = (a.find? p).or (b.find? p) := List.find?_append
section FL
variable {σ : Nat → Nat} {n0 e0 : Nat} {bf : ab_B} {S : zs_T} {Q : zs_Q}
theorem c_Ffind (hB : zt_B bf) (Ll : zbl (zx σ n0 bf) n0 e0) {p1 : Int32} : ∀ (f : Nat) {d fs : Nat} {fl : List Nat} {K : Option Nat → zs_T → Prop} {Q : zs_Q}, flR S f fs fl → f + 8 ≤ d → K (fl.find? (fun x => decide (zs_I S 12000 x = p1))) S → zs_C (zx σ n0 bf) d 13000 [.ref fs, .int p1] S (zs_kR K Q) := by
  intro f
  induction f with
  | zero => intro d fs fl K Q h; exact h.elim
  | succ f ih =>
    intro d fs fl K Q h hd hK
    obtain ⟨hk, al, own, h1, h2, h3, h4⟩ := h
    have hlen : (own.map some).length = own.length := List.length_map _
    have hsz := h2.2.2.1
    rw [hlen] at hsz
    -- the variants, from v on
    have lv : ∀ (pt vl : Nat) (vs : List (Nat × Nat × List Nat)), zs_R S 13001 fs = some pt → zs_K S pt = some (.inl 14) → zs_R S 14001 pt = some vl → zL S vl (vs.map (fun v => some v.1)) → (∀ v, v ∈ vs → zs_K S v.1 = some (.inl 15) ∧ zs_R S 15002 v.1 = some v.2.1 ∧ zs_K S v.2.1 = some (.inl 13) ∧ flR S f v.2.1 v.2.2) →
        ∀ (r : List (Nat × Nat × List Nat)) (k : Nat) (p2 : Int32), vs.drop k = r → k + r.length = vs.length → p2.toInt = k → K (((r.map (fun v => v.2.2)).flatten).find? (fun x => decide (zs_I S 12000 x = p1))) S → zs_U (zx σ n0 bf) (d - 1) 13000 51 [(0, .ref fs), (1, .int p1), (2, .int p2)] [] S (zs_kR K Q) := by
      intro pt vl vs a1 a2 a3 a4 a5 r
      have hl2 : (vs.map (fun v => some v.1)).length = vs.length := List.length_map _
      have hs2 := a4.2.2.1
      rw [hl2] at hs2
      induction r with
      | nil =>
        intro k p2 b1 b2 b3 b4
        refine u_X14_find_51 hB ⟨hk, fun g => (by rw [a1] at g; cases g), fun q hq => ?_⟩
        rw [a1] at hq
        cases hq
        refine ⟨a2, vl, a3, a4.1, Ll.size (by omega) a4 ?_⟩
        intro v hv
        rw [hl2] at hv
        simp only [List.length_nil] at b2
        refine ⟨fun _ => b4, fun g => absurd (zi_le.mpr (by omega)) g⟩
      | cons x r ihr =>
        intro k p2 b1 b2 b3 b4
        simp only [List.length_cons] at b2
        have hx : vs[k]? = some x := by
          have := congrArg List.head? b1
          rw [List.head?_drop] at this
          exact this
        have hmem : x ∈ vs := List.mem_of_getElem? hx
        obtain ⟨c1, c2, c3, c4⟩ := a5 x hmem
        refine u_X14_find_51 hB ⟨hk, fun g => (by rw [a1] at g; cases g), fun q hq => ?_⟩
        rw [a1] at hq
        cases hq
        refine ⟨a2, vl, a3, a4.1, Ll.size (by omega) a4 ?_⟩
        intro v hv
        rw [hl2] at hv
        refine ⟨fun g => absurd (zi_le.mp g) (by omega), fun _ => ⟨hk, pt, a1, a2, vl, a3, a4.1, Ll.get (i := k) (by omega) a4 b3 (by omega) ?_⟩⟩
        have hg : (vs.map (fun v => some v.1)).getD k none = some x.1 := by simp [List.getD, hx]
        rw [hg]
        refine ⟨fun a ha => (by cases ha; exact c1), x.1, rfl, c1, x.2.1, c2, c3, ih c4 (by omega) ?_⟩
        rw [List.map_cons, List.flatten_cons, find_app] at b4
        cases hfd : (x.2.2.find? (fun x => decide (zs_I S 12000 x = p1))) with
        | none =>
          rw [hfd] at b4
          refine ⟨fun _ => ihr (k + 1) _ (by rw [← List.drop_drop, b1]; rfl) (by omega) (by rw [zi_add] <;> simp only [zi_lit] <;> omega) b4, fun a ha => (by cases ha)⟩
        | some y =>
          rw [hfd] at b4
          exact ⟨fun g => (by cases g), fun a _ => b4⟩
    -- the own ones, from k on
    have lo : ∀ (r : List Nat) (k : Nat) (p2 : Int32), own.drop k = r → k + r.length = own.length → p2.toInt = k → own.find? (fun x => decide (zs_I S 12000 x = p1)) = r.find? (fun x => decide (zs_I S 12000 x = p1)) → zs_U (zx σ n0 bf) (d - 1) 13000 2 [(0, .ref fs), (1, .int p1), (2, .int p2)] [] S (zs_kR K Q) := by
      intro r
      induction r with
      | nil =>
        intro k p2 b1 b2 b3 b4
        simp only [List.length_nil] at b2
        refine u_X14_find_2 hB ⟨hk, al, h1, h2.1, Ll.size (by omega) h2 ?_⟩
        intro v hv
        rw [hlen] at hv
        refine ⟨fun _ => ?_, fun g => absurd (zi_le.mpr (by omega)) g⟩
        rcases h4 with ⟨g1, rfl⟩ | ⟨pt, vl, vs, g1, g2, g3, g4, g5, rfl⟩
        · refine u_X14_find_51 hB ⟨hk, fun _ => ?_, fun q hq => by rw [g1] at hq; cases hq⟩
          rw [b4] at hK
          exact hK
        · rw [find_app, b4] at hK
          exact lv pt vl vs g1 g2 g3 g4 g5 vs 0 0 rfl (by omega) rfl hK
      | cons x r ihr =>
        intro k p2 b1 b2 b3 b4
        simp only [List.length_cons] at b2
        have hx : own[k]? = some x := by
          have := congrArg List.head? b1
          rw [List.head?_drop] at this
          exact this
        have hmem : x ∈ own := List.mem_of_getElem? hx
        have hkx := h3 x hmem
        have hg : (own.map some).getD k none = some x := by simp [List.getD, hx]
        refine u_X14_find_2 hB ⟨hk, al, h1, h2.1, Ll.size (by omega) h2 ?_⟩
        intro v hv
        rw [hlen] at hv
        refine ⟨fun g => absurd (zi_le.mp g) (by omega), fun _ => ⟨hk, al, h1, h2.1, Ll.get (i := k) (by omega) h2 b3 (by omega) ?_⟩⟩
        rw [hg]
        refine ⟨fun a ha => (by cases ha; exact hkx), x, rfl, hkx, fun g => ?_, fun g => ⟨hk, al, h1, h2.1, Ll.get (i := k) (by omega) h2 b3 (by omega) ?_⟩⟩
        · refine ihr (k + 1) _ (by rw [← List.drop_drop, b1]; rfl) (by omega) (by rw [zi_add] <;> simp only [zi_lit] <;> omega) ?_
          rw [b4, List.find?_cons_of_neg]
          simpa using g
        · rw [hg]
          refine ⟨fun a ha => (by cases ha; exact hkx), ?_⟩
          have e : own.find? (fun x => decide (zs_I S 12000 x = p1)) = some x := by
            rw [b4, List.find?_cons_of_pos]
            simpa using g
          have e2 : fl.find? (fun x => decide (zs_I S 12000 x = p1)) = some x := by
            rcases h4 with ⟨g1, rfl⟩ | ⟨pt, vl, vs, g1, g2, g3, g4, g5, rfl⟩
            · exact e
            · rw [find_app, e]; rfl
          rw [e2] at hK
          exact hK
    refine u_X14_find hB (by omega) ?_
    exact lo own 0 0 rfl (by omega) rfl rfl
end FL
