/-! STEPS OVER THE TYPED STATE. zs_E: a run from here ends as Q says; zs_U: so from every frame that holds these locals; zs_C: a call. -/
abbrev zs_X : Type := ab_T × ab_B × zs_F
abbrev zs_Q : Type := Outcome → zs_T → Prop
def zs_E (X : zs_X) (d y pc : Nat) (lv : ab_L) (st : List Value) (S : zs_T) (Q : zs_Q) : Prop := ∃ (o : Outcome) (S1 : zs_T) (mc ms : Nat), ab_Ev X.1 X.2.1 d y pc lv st (zs_h X.2.2 S) (zs_N S) (o, zs_h X.2.2 S1, zs_N S1, mc, ms) ∧ zs_N S1 = zs_N S + mc ∧ zs_M S1 = zs_M S + ms ∧ Q o S1
def zs_C (X : zs_X) (d z : Nat) (av : List Value) (S : zs_T) (Q : zs_Q) : Prop := 1 ≤ d ∧ ∃ (o : Outcome) (S1 : zs_T) (mc ms : Nat), ab_Ca X.1 X.2.1 (d - 1) z av (zs_h X.2.2 S) (zs_N S) (o, zs_h X.2.2 S1, zs_N S1, mc, ms) ∧ zs_N S1 = zs_N S + mc ∧ zs_M S1 = zs_M S + ms ∧ Q o S1
def zs_in (L lv : ab_L) : Prop := ∀ q ∈ L, ab_get lv q.1 = some q.2
def zs_U (X : zs_X) (d y pc : Nat) (L : ab_L) (st : List Value) (S : zs_T) (Q : zs_Q) : Prop := ∀ lv, zs_in L lv → zs_E X d y pc lv st S Q
theorem zs_get {L lv : ab_L} {i : Nat} {v : Value} (h : zs_in L lv) (hg : ab_get L i = some v) : ab_get lv i = some v := by
  unfold ab_get at hg
  cases hf : L.find? (fun q => q.1 == i) with
  | none => rw [hf] at hg; cases hg
  | some q =>
    rw [hf] at hg
    have h1 : q.2 = v := Option.some.inj hg
    have h2 : (q.1 == i) = true := List.find?_some (p := fun q : Nat × Value => q.1 == i) hf
    have h3 : q.1 = i := by simpa using h2
    have h4 := h q (List.mem_of_find?_eq_some hf)
    rw [h3, h1] at h4
    exact h4
theorem zs_find {lv : ab_L} {i : Nat} {v : Value} {p : Nat × Value → Bool} (h : ab_get lv i = some v) (hp : p (i, v) = true) : ab_get (lv.filter p) i = some v := by
  unfold ab_get at h ⊢
  induction lv with
  | nil => simp at h
  | cons a r ih =>
    rw [List.find?_cons] at h
    by_cases ha : (a.1 == i) = true
    · rw [ha] at h
      simp only [Option.map_some] at h
      have h1 : a = (i, v) := by
        have h2 : a.1 = i := by simpa using ha
        have h3 : a.2 = v := Option.some.inj h
        rw [← h2, ← h3]
      rw [h1, List.filter_cons_of_pos hp, List.find?_cons]
      simp
    · have ha' : (a.1 == i) = false := by simpa using ha
      rw [ha'] at h
      rw [List.filter_cons]
      split
      · rw [List.find?_cons, ha']
        exact ih h
      · exact ih h
theorem zs_in_put1 {L lv : ab_L} (h : zs_in L lv) (i : Nat) (v : Value) : zs_in (ab_put1 L i v) (ab_put1 lv i v) := by
  intro q hq
  rcases List.mem_cons.mp hq with hq | hq
  · subst hq; simp [ab_get, ab_put1]
  · obtain ⟨h1, h2⟩ := List.mem_filter.mp hq
    have h3 : (q.1 == i) = false := by
      cases hb : (q.1 == i) with
      | false => rfl
      | true => rw [hb] at h2; simp at h2
    have h4 := zs_find (p := fun q => !(q.1 == i) && !(q.1 + 1 == i && q.2.category == 2)) (h q h1) h2
    unfold ab_put1
    unfold ab_get at h4 ⊢
    rw [List.find?_cons]
    have h5 : (i == q.1) = false := by
      have h6 : q.1 ≠ i := by simpa using h3
      simpa using fun h => h6 h.symm
    simp only [h5]
    exact h4
theorem zs_in_put2 {L lv : ab_L} (h : zs_in L lv) (i : Nat) (v : Value) : zs_in (ab_put2 L i v) (ab_put2 lv i v) := by
  intro q hq
  rcases List.mem_cons.mp hq with hq | hq
  · subst hq; simp [ab_get, ab_put2]
  · obtain ⟨h1, h2⟩ := List.mem_filter.mp hq
    have h3 : (q.1 == i) = false := by
      cases hb : (q.1 == i) with
      | false => rfl
      | true => rw [hb] at h2; simp at h2
    have h4 := zs_find (p := fun q => !(q.1 == i) && (!(q.1 == i + 1) && !(q.1 + 1 == i && q.2.category == 2))) (h q h1) h2
    unfold ab_put2
    unfold ab_get at h4 ⊢
    rw [List.find?_cons]
    have h5 : (i == q.1) = false := by
      have h6 : q.1 ≠ i := by simpa using h3
      simpa using fun h => h6 h.symm
    simp only [h5]
    exact h4
section ZS12
variable {X : zs_X} {d y pc : Nat} {lv L : ab_L} {st r : List Value} {S : zs_T} {Q : zs_Q} {i : Instr} {len : Nat}
theorem zs_E_stk {k : Nat} {f : List Value → Option (List Value)} {st1 : List Value} (hd : decode (ab_code X.1 y) pc = .ok (i, k)) (hi : ab_stk i = some (k, f)) (hf : f st = some st1) (kk : zs_E X d y (pc + k) lv st1 S Q) : zs_E X d y pc lv st S Q := by
  obtain ⟨o, S1, mc, ms, ⟨n, hn⟩, h2⟩ := kk
  refine ⟨o, S1, mc, ms, ⟨n + 1, ?_⟩, h2⟩
  unfold ab_run
  simp only [hd, hi, hf, if_true]
  exact hn
theorem zs_E_loc {f : ab_F} (hd : decode (ab_code X.1 y) pc = .ok (i, len)) (hi : ab_stk i = none) (hf : ab_loc (ab_maxL X.1 y) lv pc st len i = some f) (kk : zs_E X d y f.1 f.2.1 f.2.2 S Q) : zs_E X d y pc lv st S Q := by
  obtain ⟨o, S1, mc, ms, ⟨n, hn⟩, h2⟩ := kk
  refine ⟨o, S1, mc, ms, ⟨n + 1, ?_⟩, h2⟩
  unfold ab_run
  simp only [hd, hi, hf]
  exact hn
theorem zs_E_hp {pc1 : Nat} {lv1 : ab_L} {st1 : List Value} {S2 : zs_T} {dc ds : Nat} (hd : decode (ab_code X.1 y) pc = .ok (i, len)) (hi : ab_stk i = none) (hl : ab_loc (ab_maxL X.1 y) lv pc st len i = none) (hf : ab_hp X.1 y len pc lv st (zs_h X.2.2 S) (zs_N S) i = some ((pc1, lv1, st1), zs_h X.2.2 S2, zs_N S2, dc, ds)) (hN : zs_N S2 = zs_N S + dc) (hM : zs_M S2 = zs_M S + ds) (kk : zs_E X d y pc1 lv1 st1 S2 Q) : zs_E X d y pc lv st S Q := by
  obtain ⟨o, S1, mc, ms, ⟨n, hn⟩, h2, h3, h4⟩ := kk
  refine ⟨o, S1, dc + mc, ds + ms, ⟨n + 1, ?_⟩, by omega, by omega, h4⟩
  unfold ab_run
  simp only [hd, hi, hf, hl, hn, Option.map_some]
  rfl
theorem zs_E_end {o : Outcome} (hd : decode (ab_code X.1 y) pc = .ok (i, len)) (hi : ab_stk i = none) (hl : ab_loc (ab_maxL X.1 y) lv pc st len i = none) (hp : ab_hp X.1 y len pc lv st (zs_h X.2.2 S) (zs_N S) i = none) (he : ab_end (ab_ret X.1 y) len st i = some o) (kk : Q o S) : zs_E X d y pc lv st S Q := by
  refine ⟨o, S, 0, 0, ⟨1, ?_⟩, rfl, rfl, kk⟩
  unfold ab_run
  simp only [hd, hi, hl, hp, he]
theorem zs_E_call {how idx z : Nat} {av : List Value} (hm : ab_Bm X.2.1) (hd : decode (ab_code X.1 y) pc = .ok (i, 3)) (hi : ab_stk i = none) (hl : ab_loc (ab_maxL X.1 y) lv pc st 3 i = none) (hp : ab_hp X.1 y 3 pc lv st (zs_h X.2.2 S) (zs_N S) i = none) (he : ab_end (ab_ret X.1 y) 3 st i = none) (hv : ab_inv i = some (how, idx)) (hw : ab_who X.1 y how idx st (zs_h X.2.2 S) = some (z, av, r)) (hz : ab_maxL X.1 z ≤ 27) (hlen : (lg_sl av).length ≤ ab_maxL X.1 z)
    (kk : zs_C X d z av S (fun o S1 => match o with
      | .returned v => zs_E X d y (pc + 3) lv (v.toList ++ r) S1 Q
      | .threw a => Q (.threw a) S1)) : zs_E X d y pc lv st S Q := by
  obtain ⟨h1, o, S1, mc, ms, hc, hN, hM, hk⟩ := kk
  have hle : 46 * (d - 1) ≤ 46 * d - (19 + ab_maxL X.1 z) := by omega
  have hcall : ∃ n0, ∀ n, n0 ≤ n → ab_or (X.2.1 z) (d - 1) (46 * d - (19 + ab_maxL X.1 z)) av (zs_h X.2.2 S) (zs_N S) (ab_run X.1 X.2.1 n (d - 1) (46 * d - (19 + ab_maxL X.1 z)) z 0 (lv_args 0 av) [] (zs_h X.2.2 S) (zs_N S)) = some (o, zs_h X.2.2 S1, zs_N S1, mc, ms) := by
    unfold ab_Ca at hc
    unfold ab_or
    split at hc
    · rename_i g hg
      simp only [hg]
      exact ⟨0, fun n _ => hm _ _ hg _ _ _ _ _ _ _ _ (Nat.le_refl _) hle hc⟩
    · rename_i hg
      simp only [hg]
      obtain ⟨n0, hn0⟩ := hc
      exact ⟨n0, fun n hn => ab_mono hm _ _ _ _ _ _ _ _ _ _ _ _ _ hn (Nat.le_refl _) hle hn0⟩
  obtain ⟨n0, hn0⟩ := hcall
  have hcond : (True ∧ 1 ≤ d ∧ 19 + ab_maxL X.1 z ≤ 46 * d ∧ (lg_sl av).length ≤ ab_maxL X.1 z) := ⟨trivial, h1, by omega, hlen⟩
  cases o with
  | returned v =>
    obtain ⟨o2, S2, mc2, ms2, ⟨n, hn⟩, h5, h6, h7⟩ := hk
    refine ⟨o2, S2, mc + mc2, ms + ms2, ⟨max n0 n + 1, ?_⟩, by omega, by omega, h7⟩
    unfold ab_run
    simp only [hd, hi, hl, hp, he, hv, hw, hn0 _ (Nat.le_max_left n0 n)]
    rw [if_pos hcond, ab_mono hm _ _ _ _ _ _ _ _ _ _ _ _ _ (Nat.le_max_right n0 n) (Nat.le_refl _) (Nat.le_refl _) hn]
    rfl
  | threw a =>
    refine ⟨.threw a, S1, mc, ms, ⟨n0 + 1, ?_⟩, hN, hM, hk⟩
    unfold ab_run
    simp only [hd, hi, hl, hp, he, hv, hw, hn0 _ (Nat.le_refl n0)]
    rw [if_pos hcond]
end ZS12
