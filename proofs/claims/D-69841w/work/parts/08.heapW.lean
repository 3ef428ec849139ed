/-! THE ABSTRACT MACHINE IS SOUND, 1: what a program's tables must be (ab_V), and the instructions at the heap. -/
def ab_cnOK (All : List Cond) (Wd : State → Prop) (own : String) (idx : Nat) : Value → Prop
  | .int v => Cond.constant own idx v ∈ All
  | .long v => Cond.constantLong own idx v ∈ All
  | .ref a => ∃ tx : String, ∀ U, Wd U → vk_R own idx tx a U
  | _ => False
def ab_V (cl : List vw_C) (All Nst : List Cond) (Wd : State → Prop) (P : ab_T) : Prop :=
  (∀ y idx ci k, ab_fg P y idx = some (ci, k) → ab_FG cl All Nst (ab_nm P y).cls idx ci k) ∧
  (∀ y idx ci k ty fin, ab_fp P y idx = some (ci, k, ty, fin) → ab_FP cl All Nst (ab_nm P y).cls idx ci k ty fin ∧ (fin = true → (ab_nm P y).name = "<init>")) ∧
  (∀ y idx ci fs, ab_nw P y idx = some (ci, fs) → ab_NW cl All (ab_nm P y).cls idx ci fs) ∧
  (∀ y idx k : Nat, ab_an P y idx = some k → ∃ C : String, (ab_ak P)[k]? = some (.object C) ∧ Cond.classLink (ab_nm P y).cls idx C ∈ All ∧ Cond.arrayOver (.object C) ∈ Nst) ∧
  (∀ y idx ci, ab_ck P y idx = some ci → ∃ q9 : vw_C, cl[ci]? = some q9 ∧ Cond.classLink (ab_nm P y).cls idx q9.1 ∈ All) ∧
  (∀ y idx v, ab_cn P y idx = some v → ab_cnOK All Wd (ab_nm P y).cls idx v) ∧
  (∀ y idx z k, ab_cal P y idx = some (z, k) → ab_CF All (ab_nm P z) (ab_code P z) (ab_maxL P z) (ab_ret P z) k ∧ ab_LK All Nst (ab_nm P y).cls idx (ab_nm P z) ∧ (ab_stt P z = true → Cond.static (ab_nm P z) ∈ All) ∧ (ab_stt P z = false → Cond.instanceMethod (ab_nm P z) ∈ All)) ∧
  (∀ z ci, ab_sel P z ci = true → ∃ q9 : vw_C, cl[ci]? = some q9 ∧ Cond.selects q9.1 (ab_nm P z) (ab_nm P z) ∈ All) ∧
  (∀ (k : Nat) (ty : FieldType) (x : vp_A) (n : Nat), (ab_ak P)[k]? = some ty → ab_zero ty n = some x → Cond.arrayClass ty ∈ All) ∧
  (∀ k ci : Nat, ab_cs P k ci = true → ∃ (q9 : vw_C) (E : String), cl[ci]? = some q9 ∧ (ab_ak P)[k]? = some (.object E) ∧ (q9.1 = E ∨ Cond.castable q9.1 E ∈ Nst))
theorem ab_in {i : Int32} {N : Nat} (h0 : 0 ≤ i) (h1 : i.toNatClampNeg < N) : vp_in i N := by
  intro h9
  rcases h9 with h9 | h9
  · exact absurd h9 (by
      have a1 := Int32.le_iff_toInt_le.mp h0
      intro h8
      have a2 := Int32.lt_iff_toInt_lt.mp h8
      omega)
  · omega
theorem ab_nn {i : Int32} (h0 : 0 ≤ i) : ¬ i < 0 := by
  intro h8
  have a1 := Int32.le_iff_toInt_le.mp h0
  have a2 := Int32.lt_iff_toInt_lt.mp h8
  omega
theorem ab_kd_at {ak : List FieldType} {ty : FieldType} {k : Nat} (h : ab_kd ak ty = some k) : ak[k]? = some ty := by
  unfold ab_kd at h
  obtain ⟨hlt, h1, -⟩ := List.findIdx?_eq_some_iff_getElem.mp h
  have h2 : ak[k] = ty := by simpa using h1
  rw [List.getElem?_eq_getElem hlt, h2]
theorem ab_lc {n0 a j : Nat} {locs : List Loc} (h : ∀ q ∈ locs, n0 ≤ q.base) (ha : n0 ≤ a) : ∀ q ∈ locs ++ [(⟨a, j⟩ : Loc)], n0 ≤ q.base := by
  intro q hq
  rcases List.mem_append.mp hq with hq | hq
  · exact h q hq
  · rw [List.mem_singleton.mp hq]
    exact ha
section AB8
variable {p : Program} {l : Launch} {e : Env} {R : Room} {s : State} {m : MethodId} {args : Array Value} {below : List Frame} {meth : Method} {c : Code} {H : Heap} {locs : List Loc} {cells slots : Nat} {Q : State → Prop} {cc : ByteArray} {pc : Nat} {ls : Array Slot} {lv : ab_L} {st : List Value}
variable {D : va_G} {cl : List vw_C} {aC : Nat → ClassId} {All Nst : List Cond} {h : ab_H} {n : Nat} {B : Heap} {Wd : State → Prop} {P : ab_T} {y : Nat}
theorem ab_hp_W {i : Instr} {len : Nat} {x : ab_X} (v : ab_V cl All Nst Wd P) (hexec : p.tables.exec = Jvm.exec) (hb : c.code = cc) (hmn : meth.name = (ab_nm P y).name) (hwd : Wd s) (hts : ∀ w ∈ All, w.before args s = true) (hnw : ab_N Nst s) (hown : s.vm.findClass (ab_nm P y).cls = some m.cls) (hK : va_K D cl (ab_ty aC (ab_ak P)) s) (r : ab_R D cl aC B (ab_n0 P) h n H) (hL : ∀ q ∈ locs, ab_n0 P ≤ q.base) (hd : decode cc pc = .ok (i, len)) (hx : ab_hp P y len pc lv st h n i = some x) (hcells : cells + x.2.2.2.1 ≤ R.cells) (hslots : slots + x.2.2.2.2 ≤ R.slots)
    (kk : ∀ (H1 : Heap) (locs1 : List Loc), (∀ q ∈ locs1, ab_n0 P ≤ q.base) → ab_R D cl aC B (ab_n0 P) x.2.1 x.2.2.1 H1 → x.1.2.1 = lv → W p l e R s m args below meth c H1 locs1 (cells + x.2.2.2.1) (slots + x.2.2.2.2) Q (F0 m x.1.1 ls x.1.2.2)) : W p l e R s m args below meth c H locs cells slots Q (F0 m pc ls st) := by
  obtain ⟨v1, v2, v3, v4, v5, v6, -, -, v9, v10⟩ := v
  unfold ab_hp at hx
  split at hx
  · split at hx
    · rename_i hl; subst hl
      unfold ab_h_getf at hx
      split at hx
      · split at hx
        · rename_i hf ha
          split at hx
          · rename_i hc; subst hc
            split at hx
            · rename_i hv
              cases Option.some.inj hx
              exact ab_getf hexec hb hts hnw hown hK r (v1 _ _ _ _ hf) ha hv hd (kk H locs hL r rfl)
            · cases hx
          · cases hx
        · cases hx
      · cases hx
    · cases hx
  · split at hx
    · rename_i hl; subst hl
      unfold ab_h_putf at hx
      split at hx
      · split at hx
        · rename_i hf ha
          split at hx
          · rename_i hc
            obtain ⟨hc1, hc2, hc3, hc4, hc5⟩ := hc
            subst hc1
            cases Option.some.inj hx
            obtain ⟨w1, w2⟩ := v2 _ _ _ _ _ _ hf
            exact ab_putf hexec hb hts hnw hown hK r w1 (fun q => hmn.trans (w2 q)) hc2 ha hc3 hc4 hc5 hd (fun H1 j r1 => kk H1 _ (ab_lc hL hc2) r1 rfl)
          · cases hx
        · cases hx
      · cases hx
    · cases hx
  · split at hx
    · rename_i hl; subst hl
      unfold ab_h_alen at hx
      split at hx
      · split at hx
        · rename_i ha
          split at hx
          · rename_i ht
            cases Option.some.inj hx
            exact ab_alen hexec hb hK r ha ht hd (kk H locs hL r rfl)
          · cases hx
        · cases hx
      · cases hx
    · cases hx
  · split at hx
    · rename_i hl; subst hl
      unfold ab_h_iald at hx
      split at hx
      · split at hx
        · rename_i ha
          split at hx
          · rename_i hc
            cases Option.some.inj hx
            exact ab_iald hexec hb hK r ha hc.1 (ab_in hc.2.1 hc.2.2) hd (kk H locs hL r rfl)
          · cases hx
        · cases hx
      · cases hx
    · cases hx
  · split at hx
    · rename_i hl; subst hl
      unfold ab_h_bald at hx
      split at hx
      · split at hx
        · rename_i ha
          split at hx
          · rename_i hc
            cases Option.some.inj hx
            exact ab_bald hexec hb hK r ha hc.1 (ab_in hc.2.1 hc.2.2) hd (kk H locs hL r rfl)
          · cases hx
        · cases hx
      · cases hx
    · cases hx
  · split at hx
    · rename_i hl; subst hl
      unfold ab_h_lald at hx
      split at hx
      · split at hx
        · rename_i ha
          split at hx
          · rename_i hc
            cases Option.some.inj hx
            exact ab_lald hexec hb hK r ha hc.1 (ab_in hc.2.1 hc.2.2) hd (kk H locs hL r rfl)
          · cases hx
        · cases hx
      · cases hx
    · cases hx
  · split at hx
    · rename_i hl; subst hl
      unfold ab_h_aald at hx
      split at hx
      · split at hx
        · rename_i ha
          split at hx
          · rename_i ht
            split at hx
            · rename_i hc
              cases Option.some.inj hx
              exact ab_aald hexec hb hK r ha ht (ab_in hc.1 hc.2) hd (kk H locs hL r rfl)
            · cases hx
          · cases hx
        · cases hx
      · cases hx
    · cases hx
  · split at hx
    · rename_i hl; subst hl
      unfold ab_h_iast at hx
      split at hx
      · split at hx
        · rename_i ha
          split at hx
          · rename_i hc
            cases Option.some.inj hx
            exact ab_iast hexec hb hK r hc.2.1 ha hc.1 (ab_in hc.2.2.1 hc.2.2.2) hd (fun H1 j r1 => kk H1 _ (ab_lc hL hc.2.1) r1 rfl)
          · cases hx
        · cases hx
      · cases hx
    · cases hx
  · split at hx
    · rename_i hl; subst hl
      unfold ab_h_bast at hx
      split at hx
      · split at hx
        · rename_i ha
          split at hx
          · rename_i hc
            cases Option.some.inj hx
            exact ab_bast hexec hb hK r hc.2.1 ha hc.1 (ab_in hc.2.2.1 hc.2.2.2) hd (fun H1 j r1 => kk H1 _ (ab_lc hL hc.2.1) r1 rfl)
          · split at hx
            · rename_i hc
              cases Option.some.inj hx
              exact ab_zast hexec hb hK r hc.2.1 ha hc.1 (ab_in hc.2.2.1 hc.2.2.2) hd (fun H1 j r1 => kk H1 _ (ab_lc hL hc.2.1) r1 rfl)
            · cases hx
        · cases hx
      · cases hx
    · cases hx
  · split at hx
    · rename_i hl; subst hl
      unfold ab_h_last at hx
      split at hx
      · split at hx
        · rename_i ha
          split at hx
          · rename_i hc
            cases Option.some.inj hx
            exact ab_last hexec hb hK r hc.2.1 ha hc.1 (ab_in hc.2.2.1 hc.2.2.2) hd (fun H1 j r1 => kk H1 _ (ab_lc hL hc.2.1) r1 rfl)
          · cases hx
        · cases hx
      · cases hx
    · cases hx
  · split at hx
    · rename_i hl; subst hl
      unfold ab_h_aast at hx
      split at hx
      · split at hx
        · rename_i ha
          split at hx
          · rename_i ht
            split at hx
            · rename_i hc
              cases Option.some.inj hx
              exact ab_aastN hexec hb hK r hc.1 ha ht (ab_in hc.2.1 hc.2.2) hd (fun H1 j r1 => kk H1 _ (ab_lc hL hc.1) r1 rfl)
            · cases hx
          · cases hx
        · cases hx
      · split at hx
        · rename_i ha hv
          split at hx
          · rename_i hc
            cases Option.some.inj hx
            obtain ⟨q9, E, w1, w2, w3⟩ := v10 _ _ hc.1
            exact ab_aast hexec hb hnw hK r hc.2.1 ha w2 hv w1 w3 (ab_in hc.2.2.1 hc.2.2.2) hd (fun H1 j r1 => kk H1 _ (ab_lc hL hc.2.1) r1 rfl)
          · cases hx
        · cases hx
      · cases hx
    · cases hx
  · split at hx
    · rename_i hl; subst hl
      unfold ab_h_new at hx
      split at hx
      · rename_i hf
        cases Option.some.inj hx
        exact ab_new hexec hb hts hown hK r (v3 _ _ _ _ hf) hcells hslots hd (fun H1 r1 => kk H1 locs hL r1 rfl)
      · cases hx
    · cases hx
  · split at hx
    · rename_i hl; subst hl
      unfold ab_h_newa at hx
      split at hx
      · split at hx
        · rename_i hk hz
          split at hx
          · rename_i hc
            cases Option.some.inj hx
            exact ab_newa hexec hb hts hK r (ab_kd_at hk) (v9 _ _ _ _ (ab_kd_at hk) hz) hz (ab_nn hc.1) rfl hc.2 hcells hslots hd (fun H1 r1 => kk H1 locs hL r1 rfl)
          · cases hx
        · cases hx
      · cases hx
    · cases hx
  · split at hx
    · rename_i hl; subst hl
      unfold ab_h_anew at hx
      split at hx
      · split at hx
        · rename_i hf
          split at hx
          · rename_i hc
            cases Option.some.inj hx
            obtain ⟨C, w1, w2, w3⟩ := v4 _ _ _ hf
            exact ab_anew hexec hb hts hnw hown hK r w1 w2 w3 (ab_nn hc.1) rfl hc.2 hcells hslots hd (fun H1 r1 => kk H1 locs hL r1 rfl)
          · cases hx
        · cases hx
      · cases hx
    · cases hx
  · split at hx
    · rename_i hl; subst hl
      unfold ab_h_cast at hx
      split at hx
      · cases Option.some.inj hx
        exact lv_castN hexec hb hd (kk H locs hL r rfl)
      · split at hx
        · rename_i hf ha
          split at hx
          · rename_i hc; subst hc
            cases Option.some.inj hx
            obtain ⟨q9, w1, w2⟩ := v5 _ _ _ hf
            exact ab_cast hexec hb hts hown hK r ha w1 w2 hd (kk H locs hL r rfl)
          · cases hx
        · cases hx
      · cases hx
    · cases hx
  · unfold ab_h_ldc at hx
    split at hx
    · rename_i hf _
      split at hx
      · rename_i hl; subst hl
        cases Option.some.inj hx
        exact lv_ldc hexec hb hown (hts _ (v6 _ _ _ hf)) hd (kk H locs hL r rfl)
      · cases hx
    · rename_i hf _
      split at hx
      · rename_i hl; subst hl
        cases Option.some.inj hx
        obtain ⟨tx, w1⟩ := v6 _ _ _ hf
        exact va_ldcS hexec hb hown (w1 s hwd) hd (kk H locs hL r rfl)
      · cases hx
    · rename_i h9; cases h9
    · rename_i h9; cases h9
    · cases hx
  · unfold ab_h_ldc at hx
    split at hx
    · rename_i h9; cases h9
    · rename_i h9; cases h9
    · rename_i hf _
      split at hx
      · rename_i hl; subst hl
        cases Option.some.inj hx
        exact lv_ldcw hexec hb hown (hts _ (v6 _ _ _ hf)) hd (kk H locs hL r rfl)
      · cases hx
    · rename_i h9; cases h9
    · cases hx
  · unfold ab_h_ldc at hx
    split at hx
    · rename_i h9; cases h9
    · rename_i h9; cases h9
    · rename_i h9; cases h9
    · rename_i hf _
      split at hx
      · rename_i hl; subst hl
        cases Option.some.inj hx
        exact lv_ldc2 hexec hb hown (hts _ (v6 _ _ _ hf)) hd (kk H locs hL r rfl)
      · cases hx
    · cases hx
  · cases hx
end AB8
