/-! THE ABSTRACT MACHINE IS SOUND, 2: ab_sound: what ab_run answers, the machine does, at every such call. -/
/-- where a walk of the method y stands: what is known of its state, once and for all -/
def ab_Cx (D : va_G) (cl : List vw_C) (aC : Nat → ClassId) (All Nst : List Cond) (B : Heap) (Wd : State → Prop) (P : ab_T) (p : Program) (s : State) (m : MethodId) (args : Array Value) (meth : Method) (c : Code) (y : Nat) : Prop :=
  p.tables.exec = Jvm.exec ∧ c.code = ab_code P y ∧ c.exceptionTable.isEmpty = true ∧ meth.locks = false ∧ meth.sig.returnType = ab_ret P y ∧ c.maxLocals = ab_maxL P y ∧ s.vm.findClass (ab_nm P y).cls = some m.cls ∧ (∀ w ∈ All, w.before args s = true) ∧ ab_N Nst s ∧ va_K D cl (ab_ty aC (ab_ak P)) s ∧ Wd s ∧ (∀ q : Nat, q < ab_n0 P → s.heap[q]? = B[q]?) ∧ meth.name = (ab_nm P y).name
section AB9
variable {l : Launch} {D : va_G} {cl : List vw_C} {aC : Nat → ClassId} {All Nst : List Cond} {B : Heap} {Wd : State → Prop} {P : ab_T} {bf : ab_B}
/-- a walk from the entry is a contract -/
theorem ab_metOf {y F L : Nat} {av : List Value} {h : ab_H} {n : Nat} {o : Outcome} {h1 : ab_H} {n1 mc ms : Nat} (hplain : plainName (ab_nm P y).cls = true) (hlen : (lg_sl av).length ≤ ab_maxL P y)
    (body : ∀ p e s m args below meth c ls, ab_Cx D cl aC All Nst B Wd P p s m args meth c y → lv_has ls (ab_maxL P y) (lv_args 0 av) → ab_R D cl aC B (ab_n0 P) h n s.heap → W p l e { frames := F, cells := mc, slots := ms, locals := L } s m args below meth c s.heap [] 0 0 (ab_G D cl aC B (ab_n0 P) below o h1 n1 (0 + mc) (0 + ms) s) (F0 m 0 ls [])) :
    ab_M l D cl aC (ab_ak P) Nst Wd B (ab_n0 P) (ab_nm P y) (Cond.code (ab_nm P y) (ab_code P y) (ab_maxL P y) (ab_ret P y) :: All) F L av h n o h1 n1 mc ms := by
  refine MetFree.of_bodyS (code := ab_code P y) (maxLocals := ab_maxL P y) (ret := ab_ret P y) hplain ?_ ?_
  · intro args s m h9 hn
    obtain ⟨meth, c, h1, h2, h3, h4, h5, h6, -, -⟩ := Cond.code_spec hn (atoms_spec (ws := Cond.code (ab_nm P y) (ab_code P y) (ab_maxL P y) (ab_ret P y) :: All) h9 _ List.mem_cons_self)
    exact ⟨meth, c, h1, h2, h3, h4, h5, h6⟩
  · intro p e s m args below meth c s₁ Bd hml hP _
    have hts := atoms_spec (ws := Cond.code (ab_nm P y) (ab_code P y) (ab_maxL P y) (ab_ret P y) :: All) Bd.pre
    obtain ⟨hav, hR, hK, hnw, hwd⟩ := hP
    subst hav
    have hh0 : s₁.heap = s.heap := by rw [Bd.state]; rfl
    have hl := lv_entry av (n := ab_maxL P y) hlen
    have hC : ab_Cx D cl aC All Nst B Wd P p s m av.toArray meth c y := ⟨Bd.exec, Bd.bytes, Bd.noHandlers (hts _ List.mem_cons_self), Bd.notSynchronized, Bd.returns, hml, findClass_of_methodNamed Bd.named, fun w hw => hts w (List.mem_cons_of_mem _ hw), hnw, hK, hwd, hR.2.2.2, (name_of_methodNamed Bd.named Bd.method).1⟩
    have hw : W p l e { frames := F, cells := mc, slots := ms, locals := L } s m av.toArray below meth c s.heap [] 0 0 (ab_G D cl aC B (ab_n0 P) below o h1 n1 (0 + mc) (0 + ms) s) (entryFrame m av.toArray (ab_maxL P y)) := by
      rw [lg_entry_eq]
      generalize (lg_sl av ++ List.replicate (ab_maxL P y - (lg_sl av).length) Slot.unset).toArray = ls at hl ⊢
      exact body p e s m av.toArray below meth c ls hC hl hR
    obtain ⟨t, a1, b1, b2, b3, b4⟩ := hw s₁ hh0 (Stand.of_body Bd)
    rw [Nat.zero_add, Nat.zero_add] at b4
    exact ⟨t, o, a1, b1, b2, rfl, b3, b4⟩
theorem ab_end_W {p : Program} {e : Env} {R : Room} {s : State} {m : MethodId} {args : Array Value} {below : List Frame} {meth : Method} {c : Code} {H : Heap} {locs : List Loc} {cells slots : Nat} {cc : ByteArray} {pc n n0 len : Nat} {ls : Array Slot} {st : List Value} {h : ab_H} {i : Instr} {o : Outcome} (hexec : p.tables.exec = Jvm.exec) (hb : c.code = cc) (hempty : c.exceptionTable.isEmpty = true) (hlocks : meth.locks = false) (r : ab_R D cl aC B n0 h n H) (hL : ∀ q ∈ locs, n0 ≤ q.base) (hd : decode cc pc = .ok (i, len)) (ho : ab_end meth.sig.returnType len st i = some o) :
    W p l e R s m args below meth c H locs cells slots (ab_G D cl aC B n0 below o h n cells slots s) (F0 m pc ls st) := by
  unfold ab_end at ho
  split at ho
  · split at ho
    · rename_i hr
      split at ho
      · rename_i hn
        cases Option.some.inj ho
        exact ab_iret hexec hb hr hn hlocks r hL hd
      · cases ho
    · cases ho
  · split at ho
    · rename_i hr
      cases Option.some.inj ho
      exact ab_lret hexec hb hr hlocks r hL hd
    · cases ho
  · split at ho
    · rename_i hr
      cases Option.some.inj ho
      exact ab_aret hexec hb hr (Or.inl ⟨_, rfl⟩) (Or.inl rfl) hlocks r hL hd
    · rename_i hr
      cases Option.some.inj ho
      exact ab_aret hexec hb hr (Or.inl ⟨_, rfl⟩) (Or.inr ⟨_, rfl⟩) hlocks r hL hd
    · rename_i hr
      cases Option.some.inj ho
      exact ab_aret hexec hb hr (Or.inr ⟨_, rfl⟩) (Or.inl rfl) hlocks r hL hd
    · rename_i hr
      cases Option.some.inj ho
      exact ab_aret hexec hb hr (Or.inr ⟨_, rfl⟩) (Or.inr ⟨_, rfl⟩) hlocks r hL hd
    · cases ho
  · split at ho
    · rename_i hr
      cases Option.some.inj ho
      exact ab_vret hexec hb hr hlocks r hL hd
    · cases ho
  · split at ho
    · cases Option.some.inj ho
      exact ab_athrow hexec hb hempty hlocks r hL hd
    · cases ho
  · cases ho
/-- the operands of a call -/
theorem ab_split {st : List Value} {k : Nat} (hk : k ≤ st.length) : ((st.take k).reverse).length = k ∧ st = ((st.take k).reverse).reverse ++ st.drop k := by
  constructor
  · simp [hk]
  · rw [List.reverse_reverse, List.take_append_drop]
/-- what is asked of a law of a method -/
def ab_Bf (l : Launch) (D : va_G) (cl : List vw_C) (aC : Nat → ClassId) (All Nst : List Cond) (B : Heap) (Wd : State → Prop) (P : ab_T) (bf : ab_B) : Prop := ∀ z g, bf z = some g → ∀ F L av h n o h1 n1 mc ms, g F L av h n = some (o, h1, n1, mc, ms) → ab_M l D cl aC (ab_ak P) Nst Wd B (ab_n0 P) (ab_nm P z) (Cond.code (ab_nm P z) (ab_code P z) (ab_maxL P z) (ab_ret P z) :: All) F L av h n o h1 n1 mc ms
set_option maxHeartbeats 4000000 in
theorem ab_walk (v : ab_V cl All Nst Wd P) (hgood : ab_good All) (hWc : ab_Wc Wd (ab_n0 P)) (hbf : ab_Bf l D cl aC All Nst B Wd P bf) (hpl : ∀ y, plainName (ab_nm P y).cls = true) :
    ∀ (fuel F L y pc : Nat) (lv : ab_L) (st : List Value) (h : ab_H) (n : Nat) (o : Outcome) (h1 : ab_H) (n1 mc ms : Nat), ab_run P bf fuel F L y pc lv st h n = some (o, h1, n1, mc, ms) →
    ∀ (p : Program) (e : Env) (R : Room) (s : State) (m : MethodId) (args : Array Value) (below : List Frame) (meth : Method) (c : Code) (ls : Array Slot) (H : Heap) (locs : List Loc) (cells slots : Nat), ab_Cx D cl aC All Nst B Wd P p s m args meth c y → lv_has ls (ab_maxL P y) lv → ab_R D cl aC B (ab_n0 P) h n H → (∀ q ∈ locs, ab_n0 P ≤ q.base) → F ≤ R.frames → L ≤ R.locals → cells + mc ≤ R.cells → slots + ms ≤ R.slots →
      W p l e R s m args below meth c H locs cells slots (ab_G D cl aC B (ab_n0 P) below o h1 n1 (cells + mc) (slots + ms) s) (F0 m pc ls st) := by
  intro fuel
  induction fuel with
  | zero => intro F L y pc lv st h n o h1 n1 mc ms hr; simp [ab_run] at hr
  | succ fuel ih =>
    intro F L y pc lv st h n o h1 n1 mc ms hr p e R s m args below meth c ls H locs cells slots hC hl r hL hF hLo hc hs
    obtain ⟨hexec, hb, hempty, hlocks, hret, hmax, hown, hts, hnw, hK, hwd, hsB, hmn⟩ := id hC
    have hsize : ls.size = c.maxLocals := hl.1.trans hmax.symm
    unfold ab_run at hr
    split at hr
    · cases hr
    · rename_i i len hd
      split at hr
      · rename_i k f hi
        split at hr
        · rename_i hlen; subst hlen
          split at hr
          · rename_i st1 hf
            exact ab_stk_W (len := 0) hexec hb hi hd hf (ih _ _ _ _ _ _ _ _ _ _ _ _ _ hr p e R s m args below meth c ls H locs cells slots hC hl r hL hF hLo hc hs)
          · cases hr
        · cases hr
      · split at hr
        · rename_i f hf
          exact ab_loc_W hexec hb hl hd hf (fun ls9 hl9 => ih _ _ _ _ _ _ _ _ _ _ _ _ _ hr p e R s m args below meth c ls9 H locs cells slots hC hl9 r hL hF hLo hc hs)
        · split at hr
          · rename_i x hx
            obtain ⟨S, hS, hS2⟩ := Option.map_eq_some_iff.mp hr
            obtain ⟨o9, h9, n9, mc9, ms9⟩ := S
            simp only [ab_add, Prod.mk.injEq] at hS2
            obtain ⟨e1, e2, e3, e4, e5⟩ := hS2
            subst e1; subst e2; subst e3; subst e4; subst e5
            rw [← Nat.add_assoc, ← Nat.add_assoc] at *
            refine ab_hp_W v hexec hb hmn hwd hts hnw hown hK r hL hd hx (by omega) (by omega) (fun H1 locs1 hL1 r1 hlv => ?_)
            rw [hlv] at hS
            exact ih _ _ _ _ _ _ _ _ _ _ _ _ _ hS p e R s m args below meth c ls H1 locs1 _ _ hC hl r1 hL1 hF hLo (by omega) (by omega)
          · split at hr
            · rename_i o9 ho
              simp only [Option.some.injEq, Prod.mk.injEq] at hr
              obtain ⟨e1, e2, e3, e4, e5⟩ := hr
              subst e1; subst e2; subst e3; subst e4; subst e5
              rw [Nat.add_zero, Nat.add_zero]
              rw [← hret] at ho
              exact ab_end_W hexec hb hempty hlocks r hL hd ho
            · split at hr
              · cases hr
              · rename_i how idx hiv
                split at hr
                · cases hr
                · rename_i z av r9 hw
                  split at hr
                  · rename_i hcond
                    obtain ⟨q1, q2, q3, q4⟩ := hcond
                    subst q1
                    split at hr
                    · cases hr
                    · rename_i S hS
                      obtain ⟨o9, h9, n9, mc9, ms9⟩ := S
                      have hM : ab_M l D cl aC (ab_ak P) Nst Wd B (ab_n0 P) (ab_nm P z) (Cond.code (ab_nm P z) (ab_code P z) (ab_maxL P z) (ab_ret P z) :: All) (F - 1) (L - (19 + ab_maxL P z)) av h n o9 h9 n9 mc9 ms9 := by
                        unfold ab_or at hS
                        split at hS
                        · rename_i g hg
                          exact hbf _ _ hg _ _ _ _ _ _ _ _ _ _ hS
                        · refine ab_metOf (hpl z) q4 (fun p2 e2 s2 m2 args2 below2 meth2 c2 ls2 hC2 hl2 r2 => ?_)
                          exact ih _ _ _ _ _ _ _ _ _ _ _ _ _ hS p2 e2 _ s2 m2 args2 below2 meth2 c2 ls2 s2.heap [] 0 0 hC2 hl2 r2 (fun q hq => by cases hq) (Nat.le_refl _) (Nat.le_refl _) (by simp) (by simp)
                      have kthr : ∀ x, o9 = .threw x → some (o9, h9, n9, mc9, ms9) = some (o, h1, n1, mc, ms) → ∀ t, ab_G D cl aC B (ab_n0 P) below (.threw x) h9 n9 (cells + mc9) (slots + ms9) s t → ab_G D cl aC B (ab_n0 P) below o h1 n1 (cells + mc) (slots + ms) s t := by
                        intro x hx he t ht
                        simp only [Option.some.injEq, Prod.mk.injEq] at he
                        obtain ⟨e1, e2, e3, e4, e5⟩ := he
                        subst e1; subst e2; subst e3; subst e4; subst e5
                        rw [hx]
                        exact ht
                      have hbd : cells + mc9 ≤ R.cells ∧ slots + ms9 ≤ R.slots := by
                        dsimp only at hr
                        split at hr
                        · obtain ⟨S2, -, hS2⟩ := Option.map_eq_some_iff.mp hr
                          simp only [ab_add, Prod.mk.injEq] at hS2
                          omega
                        · simp only [Option.some.injEq, Prod.mk.injEq] at hr
                          omega
                      have kret : ∀ w, o9 = .returned w → ∀ (H2 : Heap) (locs2 : List Loc), (∀ q ∈ locs2, ab_n0 P ≤ q.base) → ab_R D cl aC B (ab_n0 P) h9 n9 H2 → W p l e R s m args below meth c H2 locs2 (cells + mc9) (slots + ms9) (ab_G D cl aC B (ab_n0 P) below o h1 n1 (cells + mc) (slots + ms) s) (F0 m (pc + 3) ls (w.toList ++ r9)) := by
                        intro w hw9 H2 locs2 hL2 r2
                        subst hw9
                        dsimp only at hr
                        obtain ⟨S2, hS2, hS3⟩ := Option.map_eq_some_iff.mp hr
                        obtain ⟨o8, h8, n8, mc8, ms8⟩ := S2
                        simp only [ab_add, Prod.mk.injEq] at hS3
                        obtain ⟨e1, e2, e3, e4, e5⟩ := hS3
                        subst e1; subst e2; subst e3; subst e4; subst e5
                        have hw8 := ih _ _ _ _ _ _ _ _ _ _ _ _ _ hS2 p e R s m args below meth c ls H2 locs2 (cells + mc9) (slots + ms9) hC hl r2 hL2 hF hLo (by omega) (by omega)
                        rw [Nat.add_assoc, Nat.add_assoc] at hw8
                        exact hw8
                      have kthr2 : ∀ x, o9 = .threw x → ∀ t, ab_G D cl aC B (ab_n0 P) below (.threw x) h9 n9 (cells + mc9) (slots + ms9) s t → ab_G D cl aC B (ab_n0 P) below o h1 n1 (cells + mc) (slots + ms) s t := by
                        intro x hx
                        refine kthr x hx ?_
                        subst hx
                        exact hr
                      obtain ⟨-, -, -, -, -, -, v7, v8, -, -⟩ := id v
                      unfold ab_who at hw
                      split at hw
                      · cases hw
                      · rename_i z9 k hcal
                        split at hw
                        · rename_i hk
                          obtain ⟨hk1, hk2⟩ := hk
                          obtain ⟨u1, u2⟩ := ab_split hk1
                          split at hw
                          · split at hw
                            · rename_i hst
                              simp only [Option.some.injEq, Prod.mk.injEq] at hw
                              obtain ⟨e1, e2, e3⟩ := hw
                              subst e1; subst e2; subst e3
                              obtain ⟨w1, w2, w3, w4⟩ := v7 _ _ _ _ hcal
                              have hi9 : i = .invokestatic idx := by
                                unfold ab_inv at hiv
                                split at hiv <;> first | (simp at hiv; rw [hiv]) | (simp at hiv) | cases hiv
                              subst hi9
                              rw [u2]
                              exact ab_invS hexec hb hempty hlocks hgood hWc hwd hsB hts hnw hown hK r hL hsize (by rw [u1]; exact w1) w2 (w3 hst.1) hM (by omega) (by omega) hbd.1 hbd.2 hst.2 hd kret kthr2
                            · cases hw
                          · rename_i b r8 hdr
                            split at hw
                            · rename_i ci fs hb9
                              split at hw
                              · rename_i hst
                                simp only [Option.some.injEq, Prod.mk.injEq] at hw
                                obtain ⟨e1, e2, e3⟩ := hw
                                subst e1; subst e2; subst e3
                                obtain ⟨w1, w2, w3, w4⟩ := v7 _ _ _ _ hcal
                                obtain ⟨q9, x1, x2⟩ := v8 _ _ hst.2
                                have hi9 : i = .invokevirtual idx := by
                                  unfold ab_inv at hiv
                                  split at hiv <;> first | (simp at hiv; rw [hiv]) | (simp at hiv) | cases hiv
                                subst hi9
                                have hsum : (r8.map fun v => v.category).sum ≤ 8 := by
                                  rw [hdr] at hk2
                                  simp only [List.map_cons, List.sum_cons] at hk2
                                  have hcat : (Value.ref b).category = 1 := rfl
                                  rw [hcat] at hk2
                                  omega
                                rw [u2, hdr]
                                exact ab_invV hexec hb hempty hlocks hgood hWc hwd hsB hts hnw hown hK r hL hsize (by rw [u1]; exact w1) w2 (w4 hst.1) hb9 x1 x2 hM (by omega) (by omega) hbd.1 hbd.2 hsum hd kret kthr2
                              · cases hw
                            · cases hw
                          · rename_i b r8 hdr
                            split at hw
                            · rename_i hst
                              simp only [Option.some.injEq, Prod.mk.injEq] at hw
                              obtain ⟨e1, e2, e3⟩ := hw
                              subst e1; subst e2; subst e3
                              obtain ⟨w1, w2, w3, w4⟩ := v7 _ _ _ _ hcal
                              have hi9 : i = .invokespecial idx := by
                                unfold ab_inv at hiv
                                split at hiv <;> first | (simp at hiv; rw [hiv]) | (simp at hiv) | cases hiv
                              subst hi9
                              have hsum : (r8.map fun v => v.category).sum ≤ 8 := by
                                rw [hdr] at hk2
                                simp only [List.map_cons, List.sum_cons] at hk2
                                have hcat : (Value.ref b).category = 1 := rfl
                                rw [hcat] at hk2
                                omega
                              rw [hst.2.2] at w1 hM
                              rw [u2, hdr]
                              exact ab_invI hexec hb hempty hlocks hgood hWc hwd hsB hts hnw hown hK r hL hsize (by rw [u1]; exact w1) w2 (w4 hst.1) hst.2.1 hM (by omega) (by omega) hbd.1 hbd.2 hsum hd kret kthr2
                            · cases hw
                          · cases hw
                        · cases hw
                  · cases hr
end AB9
