/-! THE ABSTRACT STEP, 6: the three instructions that call, each by a link of its own or of its nest. -/
def ab_good (All : List Cond) : Prop := ∀ w ∈ All, (w.onTables && w.keeps) = true ∨ ∃ ty, w = .arrayClass ty
/-- what the words say of a callee -/
def ab_CF (All : List Cond) (y : MethodName) (bytes : ByteArray) (maxL : Nat) (ret : Option FieldType) (k : Nat) : Prop := Cond.code y bytes maxL ret ∈ All ∧ Cond.initialized y.cls ∈ All ∧ (y.cls ≠ "java/lang/invoke/MethodHandle" ∧ y.cls ≠ "java/lang/invoke/VarHandle") ∧ (parseMethodDescriptor y.desc).map (fun d => d.parameters.length) = some k
def ab_LK (All Nst : List Cond) (own : String) (index : Nat) (y : MethodName) : Prop := Cond.methodLink own index y ∈ All ∨ ∃ host : String, Cond.methodLinkNest own index y host ∈ Nst
theorem ab_plen {y : MethodName} {k : Nat} (h : (parseMethodDescriptor y.desc).map (fun d => d.parameters.length) = some k) : ∀ sig, parseMethodDescriptor y.desc = some sig → k = sig.parameters.length := by
  intro sig hs
  rw [hs] at h
  exact (Option.some.inj h).symm
section AB6
variable {p : Program} {l : Launch} {e : Env} {R : Room} {s : State} {m : MethodId} {args : Array Value} {below : List Frame} {meth : Method} {c : Code} {H : Heap} {locs : List Loc} {cells slots : Nat} {Q : State → Prop} {cc : ByteArray} {pc : Nat} {ls : Array Slot} {rest : List Value}
variable {D : va_G} {cl : List vw_C} {aC : Nat → ClassId} {ak : List FieldType} {All Nst : List Cond} {own : String} {h : ab_H} {n n0 : Nat} {B : Heap} {Wd : State → Prop}
theorem ab_Pof {T : State} (X : Stand p l e R s m args below meth c T locs cells slots) (r : ab_R D cl aC B n0 h n T.heap) (hK : va_K D cl (ab_ty aC ak) s) (hnw : ab_N Nst s) (hwd : Wd T) : ab_P D cl aC ak Nst Wd B n0 h n T := ⟨r, va_K.moved X.warmed.alike hK, hnw.warm X.warmed, hwd⟩
theorem ab_goOn {T T0 T1 : State} {L1 : List Loc} {o : Outcome} {h1 : ab_H} {n1 mc ms : Nat} (X1 : Stand p l e R s m args below meth c T1 (locs ++ L1) (cells + mc) (slots + ms)) (hempty : c.exceptionTable.isEmpty = true) (hlocks : meth.locks = false) (hL : ∀ q ∈ locs, n0 ≤ q.base) (hL1 : ∀ q ∈ L1, n0 ≤ q.base) (hP1 : ab_P D cl aC ak Nst Wd B n0 h1 n1 T1)
    (kret : ∀ v, o = .returned v → ∀ (H1 : Heap) (locs1 : List Loc), (∀ q ∈ locs1, n0 ≤ q.base) → ab_R D cl aC B n0 h1 n1 H1 → W p l e R s m args below meth c H1 locs1 (cells + mc) (slots + ms) Q (F0 m (pc + 3) ls (v.toList ++ rest)))
    (kthr : ∀ x, o = .threw x → ∀ t, ab_G D cl aC B n0 below (.threw x) h1 n1 (cells + mc) (slots + ms) s t → Q t) : ∃ t, Steps p.tables e below (ab_after o T1 (F0 m pc ls rest)) t ∧ Q t := by
  have hLL : ∀ q ∈ locs ++ L1, n0 ≤ q.base := by
    intro q hq
    rcases List.mem_append.mp hq with hq | hq
    · exact hL q hq
    · exact hL1 q hq
  cases o with
  | returned v =>
    obtain ⟨t, a1, a2⟩ := kret v rfl T1.heap (locs ++ L1) hLL hP1.1 T1 rfl X1
    exact ⟨t, a1, a2⟩
  | threw x =>
    obtain ⟨t, a1, a2⟩ := ab_thrown (D := D) (cl := cl) (aC := aC) (h := h1) (n := n1) X1 hempty hlocks (g := F0 m pc ls rest) rfl rfl rfl hP1.1 hLL x
    exact ⟨t, a1, kthr x rfl t a2⟩
theorem ab_words {T : State} (X : Stand p l e R s m args below meth c T locs cells slots) (hg : ab_good All) (hts : ∀ w ∈ All, w.before args s = true) (a : Array Value) : ∀ w ∈ All, w.before a T = true := fun w hw => word_at X.warmed (hg w hw) (hts w hw)
theorem ab_codeOf {T : State} {y : MethodName} {bytes : ByteArray} {maxL : Nat} {ret : Option FieldType} {a : Array Value} {mk : MethodId} (hn : T.methodNamed? y = some mk) (hc : (Cond.code y bytes maxL ret).before a T = true) : ∃ (m2 : MethodId) (meth2 : Method) (c2 : Code), T.methodNamed? y = some m2 ∧ T.vm.method? m2 = some meth2 ∧ meth2.code = some c2 ∧ c2.maxLocals = maxL := by
  obtain ⟨meth2, c2, h1, h2, -, h3, -⟩ := Cond.code_spec hn hc
  exact ⟨mk, meth2, c2, hn, h1, h2, h3⟩
variable {y : MethodName} {bytes : ByteArray} {maxL index F L mc ms n1 : Nat} {ret : Option FieldType} {o : Outcome} {h1 : ab_H} {As : List Value}
/-- invokestatic -/
theorem ab_invS (hexec : p.tables.exec = Jvm.exec) (hb : c.code = cc) (hempty : c.exceptionTable.isEmpty = true) (hlocks : meth.locks = false) (hgood : ab_good All) (hWc : ab_Wc Wd n0) (hwd : Wd s) (hsB : ∀ q : Nat, q < n0 → s.heap[q]? = B[q]?) (hts : ∀ w ∈ All, w.before args s = true) (hnw : ab_N Nst s) (hown : s.vm.findClass own = some m.cls) (hK : va_K D cl (ab_ty aC ak) s) (r : ab_R D cl aC B n0 h n H) (hL : ∀ q ∈ locs, n0 ≤ q.base) (hsize : ls.size = c.maxLocals)
    (hC : ab_CF All y bytes maxL ret As.length) (hlk : ab_LK All Nst own index y) (hstat : Cond.static y ∈ All)
    (hM : ab_M l D cl aC ak Nst Wd B n0 y (Cond.code y bytes maxL ret :: All) F L As h n o h1 n1 mc ms) (hF : F + 1 ≤ R.frames) (hLo : 8 + (maxL + 11) + L ≤ R.locals) (hcc : cells + mc ≤ R.cells) (hss : slots + ms ≤ R.slots) (hW : (rest.map fun v => v.category).sum ≤ 8) (hdg : decode cc pc = .ok (.invokestatic index, 3))
    (kret : ∀ v, o = .returned v → ∀ (H1 : Heap) (locs1 : List Loc), (∀ q ∈ locs1, n0 ≤ q.base) → ab_R D cl aC B n0 h1 n1 H1 → W p l e R s m args below meth c H1 locs1 (cells + mc) (slots + ms) Q (F0 m (pc + 3) ls (v.toList ++ rest)))
    (kthr : ∀ x, o = .threw x → ∀ t, ab_G D cl aC B n0 below (.threw x) h1 n1 (cells + mc) (slots + ms) s t → Q t) : W p l e R s m args below meth c H locs cells slots Q (F0 m pc ls (As.reverse ++ rest)) := by
  intro T hT X
  obtain ⟨hc1, hc2, hc3, hc4⟩ := hC
  subst hT; subst hb
  obtain ⟨mk, hnamed⟩ := Cond.code_named (hts _ hc1)
  obtain ⟨methM, cM, hmethM, -, -, -, -, -, -, hsigM⟩ := Cond.code_spec hnamed (hts _ hc1)
  have hstatic : methM.isStatic = true := Cond.static_spec hnamed hmethM (hts _ hstat)
  obtain ⟨kP, hkP, -⟩ := className_of_methodNamed hnamed
  have hinitP : kP.init = .initialized := Cond.initialized_spec (findClass_of_methodNamed hnamed) hkP (hts _ hc2)
  have key : ∃ vm₁, Stand p l e R s m args below meth c (T.setVm vm₁) locs cells slots ∧ ∀ target, Steps p.tables e below (doInvoke e ((T.setVm vm₁).setTop (F0 m pc ls rest)) [] mk As.toArray).1 target → Steps p.tables e below (T.setTop (F0 m pc ls (As.reverse ++ rest))) target := by
    rcases hlk with hlk | ⟨host, hlk⟩
    · obtain ⟨vm₁, X₁, hstep₁⟩ := X.invokestatic hexec hown (hts _ hlk) hnamed hmethM hstatic hkP hinitP hc3 (g := F0 m pc ls (As.reverse ++ rest)) rfl (argsL := As) (rest := rest) (ab_plen hc4 _ hsigM) rfl hdg
      exact ⟨vm₁, X₁, fun target h9 => hstep₁ _ fun acts => by rw [doInvoke_state]; exact h9⟩
    · obtain ⟨vm₁, X₁, hstep₁⟩ := X.invokestaticNest hexec hown (hnw.use hlk) hnamed hmethM hstatic hkP hinitP hc3 (g := F0 m pc ls (As.reverse ++ rest)) rfl (argsL := As) (rest := rest) (ab_plen hc4 _ hsigM) rfl hdg
      exact ⟨vm₁, X₁, fun target h9 => hstep₁ _ fun acts => by rw [doInvoke_state]; exact h9⟩
  obtain ⟨vm₁, X₁, hst⟩ := key
  have hwT := ab_words X₁ hgood hts As.toArray
  obtain ⟨T1, L1, X1, hL1, hP1, hs1⟩ := ab_back hWc X₁ hM hF hLo hcc hss (List.forall_mem_cons.mpr ⟨hwT _ hc1, hwT⟩) (ab_codeOf (X₁.named hnamed) (hwT _ hc1)) (hwT _ hc2) (ab_Pof X₁ r hK hnw (hWc s _ X₁.warmed (fun q hq => (r.2.2.2 q hq).trans (hsB q hq).symm) hwd)) (g := F0 m pc ls rest) rfl hsize hdg (lv_room hW) (X₁.named hnamed)
  obtain ⟨t, a1, a2⟩ := ab_goOn (T := T) (T0 := T) X1 hempty hlocks hL hL1 hP1 kret kthr
  exact ⟨t, hst _ (hs1.trans a1), a2⟩
/-- invokevirtual, on an object whose class is known -/
theorem ab_invV (hexec : p.tables.exec = Jvm.exec) (hb : c.code = cc) (hempty : c.exceptionTable.isEmpty = true) (hlocks : meth.locks = false) (hgood : ab_good All) (hWc : ab_Wc Wd n0) (hwd : Wd s) (hsB : ∀ q : Nat, q < n0 → s.heap[q]? = B[q]?) (hts : ∀ w ∈ All, w.before args s = true) (hnw : ab_N Nst s) (hown : s.vm.findClass own = some m.cls) (hK : va_K D cl (ab_ty aC ak) s) (r : ab_R D cl aC B n0 h n H) (hL : ∀ q ∈ locs, n0 ≤ q.base) (hsize : ls.size = c.maxLocals)
    (hC : ab_CF All y bytes maxL ret As.length) (hlk : ab_LK All Nst own index y) (hinst : Cond.instanceMethod y ∈ All) {b ci : Nat} {fs : List Value} {q9 : vw_C} (hr9 : h b = some (.inr (ci, fs))) (hcl : cl[ci]? = some q9) (hsel : Cond.selects q9.1 y y ∈ All)
    (hM : ab_M l D cl aC ak Nst Wd B n0 y (Cond.code y bytes maxL ret :: All) F L (.ref b :: As) h n o h1 n1 mc ms) (hF : F + 1 ≤ R.frames) (hLo : 8 + (maxL + 11) + L ≤ R.locals) (hcc : cells + mc ≤ R.cells) (hss : slots + ms ≤ R.slots) (hW : (rest.map fun v => v.category).sum ≤ 8) (hdg : decode cc pc = .ok (.invokevirtual index, 3))
    (kret : ∀ v, o = .returned v → ∀ (H1 : Heap) (locs1 : List Loc), (∀ q ∈ locs1, n0 ≤ q.base) → ab_R D cl aC B n0 h1 n1 H1 → W p l e R s m args below meth c H1 locs1 (cells + mc) (slots + ms) Q (F0 m (pc + 3) ls (v.toList ++ rest)))
    (kthr : ∀ x, o = .threw x → ∀ t, ab_G D cl aC B n0 below (.threw x) h1 n1 (cells + mc) (slots + ms) s t → Q t) : W p l e R s m args below meth c H locs cells slots Q (F0 m pc ls (As.reverse ++ .ref b :: rest)) := by
  intro T hT X
  obtain ⟨hc1, hc2, hc3, hc4⟩ := hC
  subst hT; subst hb
  obtain ⟨mk, methM, hnamed, hmethM, hstM, habM⟩ := Cond.instanceMethod_spec (hts _ hinst)
  obtain ⟨methM', cM, hmethM', -, -, -, -, -, -, hsigM⟩ := Cond.code_spec hnamed (hts _ hc1)
  cases hmethM.symm.trans hmethM'
  obtain ⟨c2, r2, m2, q1, q2, q3, q4, kP, hkP, hkPi⟩ := Cond.selects_spec (hts _ hsel)
  obtain ⟨r9, hr8, cellB, g1, g2, g3, -⟩ := r.2.1 b _ hr9
  have hcls := (hK.1 ci q9 hcl).2
  cases hcls.1.symm.trans q1
  cases (State.methodFound?_of_named hnamed hc3).symm.trans q2
  cases hnamed.symm.trans q3
  have hselP : selectMethod e.platform s.vm cellB.cls mk = .method mk := by rw [Launch.admits_selectMethod X.admits, g2]; exact q4
  have hno : ∀ z, cellB.vm ≠ .statics z := fun z h9 => by rw [g3] at h9; cases h9
  have key : ∃ vm₁, Stand p l e R s m args below meth c (T.setVm vm₁) locs cells slots ∧ ∀ target, Steps p.tables e below (doInvoke e ((T.setVm vm₁).setTop (F0 m pc ls rest)) [] mk (Value.ref b :: As).toArray).1 target → Steps p.tables e below (T.setTop (F0 m pc ls (As.reverse ++ .ref b :: rest))) target := by
    rcases hlk with hlk | ⟨host, hlk⟩
    · obtain ⟨vm₁, X₁, hstep₁⟩ := X.invokevirtual hexec hown (hts _ hlk) hnamed hmethM hstM hkP hkPi hc3 (a := b) (cell := cellB) g1 hno hselP hmethM habM hkP hkPi (g := F0 m pc ls (As.reverse ++ .ref b :: rest)) rfl (argsL := As) (rest := rest) (ab_plen hc4 _ hsigM) rfl hdg
      exact ⟨vm₁, X₁, fun target h9 => hstep₁ _ fun acts => by rw [doInvoke_state]; exact h9⟩
    · obtain ⟨vm₁, X₁, hstep₁⟩ := X.invokevirtualNest hexec hown (hnw.use hlk) hnamed hmethM hstM hkP hkPi hc3 (a := b) (cell := cellB) g1 hno hselP hmethM habM hkP hkPi (g := F0 m pc ls (As.reverse ++ .ref b :: rest)) rfl (argsL := As) (rest := rest) (ab_plen hc4 _ hsigM) rfl hdg
      exact ⟨vm₁, X₁, fun target h9 => hstep₁ _ fun acts => by rw [doInvoke_state]; exact h9⟩
  obtain ⟨vm₁, X₁, hst⟩ := key
  have hwT := ab_words X₁ hgood hts (Value.ref b :: As).toArray
  obtain ⟨T1, L1, X1, hL1, hP1, hs1⟩ := ab_back hWc X₁ hM hF hLo hcc hss (List.forall_mem_cons.mpr ⟨hwT _ hc1, hwT⟩) (ab_codeOf (X₁.named hnamed) (hwT _ hc1)) (hwT _ hc2) (ab_Pof X₁ r hK hnw (hWc s _ X₁.warmed (fun q hq => (r.2.2.2 q hq).trans (hsB q hq).symm) hwd)) (g := F0 m pc ls rest) rfl hsize hdg (lv_room hW) (X₁.named hnamed)
  obtain ⟨t, a1, a2⟩ := ab_goOn (T := T) (T0 := T) X1 hempty hlocks hL hL1 hP1 kret kthr
  exact ⟨t, hst _ (hs1.trans a1), a2⟩
/-- invokespecial of a constructor -/
theorem ab_invI (hexec : p.tables.exec = Jvm.exec) (hb : c.code = cc) (hempty : c.exceptionTable.isEmpty = true) (hlocks : meth.locks = false) (hgood : ab_good All) (hWc : ab_Wc Wd n0) (hwd : Wd s) (hsB : ∀ q : Nat, q < n0 → s.heap[q]? = B[q]?) (hts : ∀ w ∈ All, w.before args s = true) (hnw : ab_N Nst s) (hown : s.vm.findClass own = some m.cls) (hK : va_K D cl (ab_ty aC ak) s) (r : ab_R D cl aC B n0 h n H) (hL : ∀ q ∈ locs, n0 ≤ q.base) (hsize : ls.size = c.maxLocals)
    (hC : ab_CF All y bytes maxL none As.length) (hlk : ab_LK All Nst own index y) (hinst : Cond.instanceMethod y ∈ All) (hy1 : y.name = "<init>") {b : Nat}
    (hM : ab_M l D cl aC ak Nst Wd B n0 y (Cond.code y bytes maxL none :: All) F L (.ref b :: As) h n o h1 n1 mc ms) (hF : F + 1 ≤ R.frames) (hLo : 8 + (maxL + 11) + L ≤ R.locals) (hcc : cells + mc ≤ R.cells) (hss : slots + ms ≤ R.slots) (hW : (rest.map fun v => v.category).sum ≤ 8) (hdg : decode cc pc = .ok (.invokespecial index, 3))
    (kret : ∀ v, o = .returned v → ∀ (H1 : Heap) (locs1 : List Loc), (∀ q ∈ locs1, n0 ≤ q.base) → ab_R D cl aC B n0 h1 n1 H1 → W p l e R s m args below meth c H1 locs1 (cells + mc) (slots + ms) Q (F0 m (pc + 3) ls (v.toList ++ rest)))
    (kthr : ∀ x, o = .threw x → ∀ t, ab_G D cl aC B n0 below (.threw x) h1 n1 (cells + mc) (slots + ms) s t → Q t) : W p l e R s m args below meth c H locs cells slots Q (F0 m pc ls (As.reverse ++ .ref b :: rest)) := by
  intro T hT X
  obtain ⟨hc1, hc2, hc3, hc4⟩ := hC
  subst hT; subst hb
  have hpl : e.platform.magicAccessors = ({} : Platform).magicAccessors := by rw [X.admits.platform]
  have key : ∃ vm₁ mk, s.methodNamed? y = some mk ∧ Stand p l e R s m args below meth c (T.setVm vm₁) locs cells slots ∧ ∀ target, Steps p.tables e below (doInvoke e ((T.setVm vm₁).setTop (F0 m pc ls rest)) [] mk (Value.ref b :: As).toArray).1 target → Steps p.tables e below (T.setTop (F0 m pc ls (As.reverse ++ .ref b :: rest))) target := by
    rcases hlk with hlk | ⟨host, hlk⟩
    · obtain ⟨mk, methM, cM, kP, vm₁, hnamed, hmethM, hcodeM, -, hlocalsM, -, hkP, -, hW₁, hstep₁⟩ := Steps.initColdArgs (e := e) X.here hexec X.warmed hpl hown hy1 hc3 (hts _ hlk) (hts _ hinst) (hts _ hc1) (f := F0 m pc ls (As.reverse ++ .ref b :: rest)) rfl (ab_plen hc4) rfl hdg
      exact ⟨vm₁, mk, hnamed, X.noted hW₁, fun target h9 => hstep₁ _ fun acts => by rw [doInvoke_state]; exact h9⟩
    · obtain ⟨mk, methM, cM, kP, vm₁, hnamed, hmethM, hcodeM, -, hlocalsM, -, hkP, -, hW₁, hstep₁⟩ := Steps.initColdArgsNest (e := e) X.here hexec X.warmed hpl hown hy1 hc3 (hnw.use hlk) (hts _ hinst) (hts _ hc1) (f := F0 m pc ls (As.reverse ++ .ref b :: rest)) rfl (ab_plen hc4) rfl hdg
      exact ⟨vm₁, mk, hnamed, X.noted hW₁, fun target h9 => hstep₁ _ fun acts => by rw [doInvoke_state]; exact h9⟩
  obtain ⟨vm₁, mk, hnamed, X₁, hst⟩ := key
  have hwT := ab_words X₁ hgood hts (Value.ref b :: As).toArray
  obtain ⟨T1, L1, X1, hL1, hP1, hs1⟩ := ab_back hWc X₁ hM hF hLo hcc hss (List.forall_mem_cons.mpr ⟨hwT _ hc1, hwT⟩) (ab_codeOf (X₁.named hnamed) (hwT _ hc1)) (hwT _ hc2) (ab_Pof X₁ r hK hnw (hWc s _ X₁.warmed (fun q hq => (r.2.2.2 q hq).trans (hsB q hq).symm) hwd)) (g := F0 m pc ls rest) rfl hsize hdg (lv_room hW) (X₁.named hnamed)
  obtain ⟨t, a1, a2⟩ := ab_goOn (T := T) (T0 := T) X1 hempty hlocks hL hL1 hP1 kret kthr
  exact ⟨t, hst _ (hs1.trans a1), a2⟩
end AB6
