/-! THE ABSTRACT STEP, 5: ends of methods, and calls, by a contract that may end either way. ab_M: from every state that holds the abstract heap h, n the method y ends as o says, and the machine holds h1, n1; mc cells of ms slots are made; no cell below n0 is written. -/
def ab_End (n0 : Nat) (st t : State) (mc ms : Nat) : Prop := ∃ L : List Loc, (st.WarmedH t.vm ∧ st.sameButNew ({ t with vm := st.vm } : State) L mc ms) ∧ ∀ q ∈ L, n0 ≤ q.base
def ab_G (D : va_G) (cl : List vw_C) (aC : Nat → ClassId) (B : Heap) (n0 : Nat) (below : List Frame) (o : Outcome) (h : ab_H) (n mc ms : Nat) (s : State) : State → Prop := fun t => t.status = .running ∧ Ended t below o ∧ ab_R D cl aC B n0 h n t.heap ∧ ab_End n0 s t mc ms
def ab_Q (D : va_G) (cl : List vw_C) (aC : Nat → ClassId) (B : Heap) (n0 : Nat) (o : Outcome) (h : ab_H) (n mc ms : Nat) : Array Value → State → Outcome → State → Prop := fun _ st oc t => oc = o ∧ ab_R D cl aC B n0 h n t.heap ∧ ab_End n0 st t mc ms
def ab_P (D : va_G) (cl : List vw_C) (aC : Nat → ClassId) (ak : List FieldType) (Nst : List Cond) (Wd : State → Prop) (B : Heap) (n0 : Nat) (h : ab_H) (n : Nat) (U : State) : Prop := ab_R D cl aC B n0 h n U.heap ∧ va_K D cl (ab_ty aC ak) U ∧ ab_N Nst U ∧ Wd U
/-- what is known of the cells that were there, and of the tables, stays -/
def ab_Wc (Wd : State → Prop) (n0 : Nat) : Prop := ∀ s U : State, s.WarmedH U.vm → (∀ q : Nat, q < n0 → U.heap[q]? = s.heap[q]?) → Wd s → Wd U
def ab_M (l : Launch) (D : va_G) (cl : List vw_C) (aC : Nat → ClassId) (ak : List FieldType) (Nst : List Cond) (Wd : State → Prop) (B : Heap) (n0 : Nat) (y : MethodName) (ws : List Cond) (F L : Nat) (av : List Value) (h : ab_H) (n : Nat) (o : Outcome) (h1 : ab_H) (n1 mc ms : Nat) : Prop :=
  MetFree l y (headSpec ws { frames := F, cells := mc, slots := ms, locals := L }) (va_Pc av (ab_P D cl aC ak Nst Wd B n0 h n)) (fun _ _ _ _ _ => True) (ab_Q D cl aC B n0 o h1 n1 mc ms)
/-- where a caller stands behind a call that has ended so: g: its frame with the arguments popped -/
def ab_after (o : Outcome) (T1 : State) (g : JFrame) : State := match o with
  | .returned v => T1.setTop { g with pc := g.pc + 3, stack := v.toList ++ g.stack }
  | .threw x => (T1.setTop g).pushFrame (.throwing x)
section AB5
variable {p : Program} {l : Launch} {e : Env} {R : Room} {s : State} {m : MethodId} {args : Array Value} {below : List Frame} {meth : Method} {c : Code} {H : Heap} {locs : List Loc} {cells slots : Nat} {Q : State → Prop} {cc : ByteArray} {pc : Nat} {ls : Array Slot} {rest : List Value}
variable {D : va_G} {cl : List vw_C} {aC : Nat → ClassId} {ak : List FieldType} {All Nst : List Cond} {own : String} {h : ab_H} {n n0 : Nat} {B : Heap} {Wd : State → Prop}
theorem ab_ofMQ {o : Outcome} {g : JFrame} (r : ab_R D cl aC B n0 h n H) (k : W p l e R s m args below meth c H locs cells slots (MQ below (fun _ _ oc t => oc = o ∧ t.heap = H) args s cells slots (fun a => n0 ≤ a)) g) : W p l e R s m args below meth c H locs cells slots (ab_G D cl aC B n0 below o h n cells slots s) g := by
  intro T hT X
  obtain ⟨t, st, oc, h1, h2, ⟨h3, h4⟩, L, h5, h6⟩ := k T hT X
  subst h3
  exact ⟨t, st, h1, h2, by rw [h4]; exact r, L, ⟨h5.2.1, h5.2.2⟩, h6⟩
theorem ab_iret (hexec : p.tables.exec = Jvm.exec) (hb : c.code = cc) {ty : FieldType} {v : Int32} (hr : meth.sig.returnType = some ty) (hn : narrow ty (.int v) = .int v) (hlocks : meth.locks = false) (r : ab_R D cl aC B n0 h n H) (hL : ∀ q ∈ locs, n0 ≤ q.base) (hdg : decode cc pc = .ok (.ireturn, 1)) :
    W p l e R s m args below meth c H locs cells slots (ab_G D cl aC B n0 below (.returned (some (.int v))) h n cells slots s) (F0 m pc ls [.int v]) :=
  ab_ofMQ r (W.zret hexec hb hr hn (fun t ht _ => ⟨rfl, ht⟩) hL hdg hlocks)
theorem ab_lret (hexec : p.tables.exec = Jvm.exec) (hb : c.code = cc) {v : Int64} (hr : meth.sig.returnType = some .long) (hlocks : meth.locks = false) (r : ab_R D cl aC B n0 h n H) (hL : ∀ q ∈ locs, n0 ≤ q.base) (hdg : decode cc pc = .ok (.lreturn, 1)) :
    W p l e R s m args below meth c H locs cells slots (ab_G D cl aC B n0 below (.returned (some (.long v))) h n cells slots s) (F0 m pc ls [.long v]) :=
  ab_ofMQ r (W.lret hexec hb hr (fun t ht _ => ⟨rfl, ht⟩) hL hdg hlocks)
theorem ab_aret (hexec : p.tables.exec = Jvm.exec) (hb : c.code = cc) {v : Value} {rt : FieldType} (hr : meth.sig.returnType = some rt) (hrt : (∃ q, rt = .object q) ∨ ∃ t, rt = .array t) (hv : v = .null ∨ ∃ a, v = .ref a) (hlocks : meth.locks = false) (r : ab_R D cl aC B n0 h n H) (hL : ∀ q ∈ locs, n0 ≤ q.base) (hdg : decode cc pc = .ok (.areturn, 1)) :
    W p l e R s m args below meth c H locs cells slots (ab_G D cl aC B n0 below (.returned (some v)) h n cells slots s) (F0 m pc ls [v]) :=
  ab_ofMQ r (W.aret hexec hb hr hrt hv (fun t ht _ => ⟨rfl, ht⟩) hL hdg hlocks)
theorem ab_vret (hexec : p.tables.exec = Jvm.exec) (hb : c.code = cc) (hr : meth.sig.returnType = none) (hlocks : meth.locks = false) (r : ab_R D cl aC B n0 h n H) (hL : ∀ q ∈ locs, n0 ≤ q.base) (hdg : decode cc pc = .ok (.return_, 1)) :
    W p l e R s m args below meth c H locs cells slots (ab_G D cl aC B n0 below (.returned none) h n cells slots s) (F0 m pc ls []) :=
  ab_ofMQ r (W.vret hexec hb hr (fun t ht _ => ⟨rfl, ht⟩) hL hdg hlocks)
/-- what is thrown leaves a method without handlers -/
theorem ab_thrown {T : State} (X : Stand p l e R s m args below meth c T locs cells slots) (hempty : c.exceptionTable.isEmpty = true) (hlocks : meth.locks = false) {g : JFrame} (hg : g.method = m) (hlk : g.locked = none) (hen : g.entered = []) (r : ab_R D cl aC B n0 h n T.heap) (hL : ∀ q ∈ locs, n0 ≤ q.base) (x : Addr) :
    ∃ t, Steps p.tables e below ((T.setTop g).pushFrame (.throwing x)) t ∧ ab_G D cl aC B n0 below (.threw x) h n cells slots s t := by
  have hout : ∀ z ∈ c.exceptionTable.toList, covers z g.pc = false := by
    intro z hz
    have h1 : c.exceptionTable.toList = [] := by simpa using hempty
    rw [h1] at hz
    cases hz
  obtain ⟨a1, a2, a3, a4, a5⟩ := X.leaveThrown x hg hlk hen hout hlocks
  exact ⟨_, a1, a2, a3, r, locs, ⟨a4, a5⟩, hL⟩
theorem ab_athrow (hexec : p.tables.exec = Jvm.exec) (hb : c.code = cc) (hempty : c.exceptionTable.isEmpty = true) (hlocks : meth.locks = false) (r : ab_R D cl aC B n0 h n H) (hL : ∀ q ∈ locs, n0 ≤ q.base) {a : Addr} (hdg : decode cc pc = .ok (.athrow, 1)) :
    W p l e R s m args below meth c H locs cells slots (ab_G D cl aC B n0 below (.threw a) h n cells slots s) (F0 m pc ls (.ref a :: rest)) := by
  intro T hT X
  have hout : ∀ z ∈ c.exceptionTable.toList, covers z pc = false := by
    intro z hz
    have h1 : c.exceptionTable.toList = [] := by simpa using hempty
    rw [h1] at hz
    cases hz
  obtain ⟨a1, a2, a3, a4, a5⟩ := X.athrowLeaves hexec (g := F0 m pc ls (.ref a :: rest)) rfl rfl rfl hout rfl (by rw [hb]; exact hdg) hlocks
  refine ⟨_, a1, a2, a3, ?_, locs, ⟨a4, a5⟩, hL⟩
  show ab_R D cl aC B n0 h n T.heap
  rw [hT]
  exact r
theorem ab_P.calling {U : State} (hWc : ab_Wc Wd n0) (hp : ab_P D cl aC ak Nst Wd B n0 h n U) (g : JFrame) (mk : MethodId) (a : Array Value) : ab_P D cl aC ak Nst Wd B n0 h n (U.calling g mk a) :=
  ⟨hp.1, hp.2.1, hp.2.2.1.same rfl, hWc _ _ (State.WarmedH.refl U) (fun _ _ => rfl) hp.2.2.2⟩
/-- A CALL, behind its resolution: the callee ends as its contract says, and the caller stands there again -/
theorem ab_back {T : State} (hWc : ab_Wc Wd n0) (X : Stand p l e R s m args below meth c T locs cells slots) {y : MethodName} {ws : List Cond} {F L : Nat} {av : List Value} {o : Outcome} {h1 : ab_H} {n1 mc ms maxL : Nat} (hM : ab_M l D cl aC ak Nst Wd B n0 y ws F L av h n o h1 n1 mc ms)
    (hF : F + 1 ≤ R.frames) (hLo : 8 + (maxL + 11) + L ≤ R.locals) (hc : cells + mc ≤ R.cells) (hs : slots + ms ≤ R.slots)
    (hws : ∀ w ∈ ws, w.before av.toArray T = true) (hcode : (∃ (m2 : MethodId) (meth2 : Method) (c2 : Code), T.methodNamed? y = some m2 ∧ T.vm.method? m2 = some meth2 ∧ meth2.code = some c2 ∧ c2.maxLocals = maxL)) (hini : (Cond.initialized y.cls).before av.toArray T = true) (hp : ab_P D cl aC ak Nst Wd B n0 h n T)
    {g : JFrame} {ig : Instr} {mk : MethodId} (hg : g.method = m) (hsize : g.locals.size = c.maxLocals) (hdg : decode c.code g.pc = .ok (ig, 3)) (hW : 2 * g.monitorRoom + (g.stack.map fun v => v.category).sum ≤ 8) (hn : T.methodNamed? y = some mk) :
    ∃ (T1 : State) (L1 : List Loc), Stand p l e R s m args below meth c T1 (locs ++ L1) (cells + mc) (slots + ms) ∧ (∀ q ∈ L1, n0 ≤ q.base) ∧ ab_P D cl aC ak Nst Wd B n0 h1 n1 T1 ∧
      Steps p.tables e below (doInvoke e (T.setTop g) [] mk av.toArray).1 (ab_after o T1 g) := by
  obtain ⟨m2, methY, cY, hn2, hmY, hcY, hlY⟩ := hcode
  cases hn.symm.trans hn2
  obtain ⟨kY, hkY, -⟩ := className_of_methodNamed hn
  have hinitY : kY.init = .initialized := Cond.initialized_spec (findClass_of_methodNamed hn) hkY hini
  have hA : At T g.method c below := by rw [hg]; exact X.here
  have hroom : 2 * g.monitorRoom + (g.stack.map fun v => v.category).sum + (cY.maxLocals + 11) + L ≤ R.locals := by rw [hlY]; omega
  have happ : (headSpec ws { frames := F, cells := mc, slots := ms, locals := L }).appliesLoose y e.platform (T.calling g mk av.toArray) = true :=
    Spec.appliesLoose_calling (g := g) hA hdg hn hkY hinitY
      (X.room_calling (g := g) (R' := { frames := F, cells := mc, slots := ms, locals := L }) hsize hmY hcY hF hroom hc hs) (atoms_intro hws)
  obtain ⟨mid, hmid⟩ := hA.above
  have hfr : (T.setTop g).frames = (.java g :: mid) ++ below := by rw [State.frames_setTop' g hA.top, hmid]; rfl
  obtain ⟨oc, s₂, hsteps, -, hend, hq⟩ := Steps.callFree hM p X.admits X.cas X.clock (acts := []) hfr happ ⟨rfl, hp.calling hWc g mk av.toArray⟩ trivial
  have hq' : ab_Q D cl aC B n0 o h1 n1 mc ms av.toArray (T.calling g mk av.toArray) oc s₂ := hq
  obtain ⟨hoc, hR1, L1, ⟨hW2, e2, q2, q3, q4, q5, q6⟩, hL1⟩ := hq'
  subst hoc
  rw [State.frames_setTop' g hA.top] at hend
  have e3 : s₂ = ({ (T.calling g mk av.toArray).setFrames s₂.frames with heap := s₂.heap, slotsUsed := s₂.slotsUsed } : State).setVm s₂.vm := by
    have h9 : s₂ = ({ s₂ with vm := (T.calling g mk av.toArray).vm } : State).setVm s₂.vm := rfl
    rw [e2] at h9
    exact h9
  have hW' : T.WarmedH s₂.vm := hW2
  obtain ⟨g₀, hg0⟩ := Option.isSome_iff_exists.mp hA.top
  obtain ⟨r, hr⟩ := State.topJava?_eq_some.mp hg0
  have hr' : (({ T with heap := s₂.heap, slotsUsed := s₂.slotsUsed } : State).setVm s₂.vm).frames = .java g₀ :: r := hr
  have hsame : T.sameButNew ({ T with heap := s₂.heap, slotsUsed := s₂.slotsUsed } : State) L1 mc ms := by
    refine ⟨?_, q2, q3, q4, q5, q6⟩
    obtain ⟨t, ht, -⟩ := State.frames_cons hr
    show ({ T with heap := s₂.heap, slotsUsed := s₂.slotsUsed } : State) = { T.setFrames T.frames with heap := s₂.heap, slotsUsed := s₂.slotsUsed }
    rw [State.setFrames_self ht]
  have hP1 : ab_P D cl aC ak Nst Wd B n0 h1 n1 (({ T with heap := s₂.heap, slotsUsed := s₂.slotsUsed } : State).setVm s₂.vm) := by
    exact ⟨hR1, va_K.moved hW'.alike hp.2.1, hp.2.2.1.warm hW', hWc T _ hW' (fun q hq => (hR1.2.2.2 q hq).trans (hp.1.2.2.2 q hq).symm) hp.2.2.2⟩
  refine ⟨({ T with heap := s₂.heap, slotsUsed := s₂.slotsUsed } : State).setVm s₂.vm, L1, ?_, hL1, hP1, ?_⟩
  · subst hg
    exact ⟨X.admits, X.cas, X.clock, X.frames, X.room, X.hears, X.method, X.code, (X.here.setHeapUsed s₂.heap s₂.slotsUsed).setVm hW'.alike, X.tail, State.WarmedH.trans X.warmed hW', X.limits, X.bytes, X.same.trans (hsame.setVm s.vm)⟩
  · cases oc with
    | returned v =>
      obtain ⟨c₂, i₂, len₂, hc₂, hd₂, hf₂⟩ := hend
      have hcc : c₂ = c := by
        have h9 : s₂.code? g.method = T.code? g.method := by
          rw [State.code?_eq, State.code?_eq, hW'.alike.method?]
        exact Option.some.inj (hc₂.symm.trans (h9.trans hA.code))
      subst hcc
      have hlen : len₂ = 3 := by rw [hdg] at hd₂; cases hd₂; rfl
      subst hlen
      have hs₂ : s₂ = (({ T with heap := s₂.heap, slotsUsed := s₂.slotsUsed } : State).setVm s₂.vm).setTop { g with pc := g.pc + 3, stack := v.toList ++ g.stack } := by
        refine e3.trans ?_
        rw [hf₂, State.calling_eq hA.top, State.setFrames_setFrames, State.setTop_of_frames _ hr', hr]
        rfl
      show Steps p.tables e below _ ((({ T with heap := s₂.heap, slotsUsed := s₂.slotsUsed } : State).setVm s₂.vm).setTop { g with pc := g.pc + 3, stack := v.toList ++ g.stack })
      rw [← hs₂]
      exact hsteps
    | threw x =>
      have hf₂ : s₂.frames = .throwing x :: .java g :: T.frames.tail := hend
      have hs₂ : s₂ = ((({ T with heap := s₂.heap, slotsUsed := s₂.slotsUsed } : State).setVm s₂.vm).setTop g).pushFrame (.throwing x) := by
        refine e3.trans ?_
        rw [hf₂, State.calling_eq hA.top, State.setFrames_setFrames, State.pushFrame, State.frames_setTop _ hr', State.setTop_of_frames _ hr', State.setFrames_setFrames, hr]
        rfl
      show Steps p.tables e below _ (((({ T with heap := s₂.heap, slotsUsed := s₂.slotsUsed } : State).setVm s₂.vm).setTop g).pushFrame (.throwing x))
      rw [← hs₂]
      exact hsteps
end AB5
