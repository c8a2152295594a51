/-! throws, handlers, calls -/
section ST
variable {p : Program} {l : Launch} {e : Env} {R : Room} {s : State} {m : MethodId} {args : Array Value} {below : List Frame} {meth : Method} {c : Code} {T : State} {locs : List Loc} {cells slots : Nat}
/-- the search for a handler, its class cold or warm -/
theorem fh_links {E : CtlPost} {d : Bool} {acts : List Action} {t : State} {f : JFrame} {a : Addr} {x : ExceptionTableEntry} {tl : List ExceptionTableEntry} {cT : ClassId} {cell : Cell} {vm' : Vm} {Q : Handler → Pre} (hx : covers x f.pc = true) (h0 : x.catchType ≠ 0)
    (hg : (Jvm.resolveClass f.method.cls x.catchType).Gives e.toSetting t.vm (.ok cT) vm') (hsz : vm'.classes.size ≤ t.vm.classes.size) (hcell : t.heap[a]? = some cell) (hobj : ∀ k, cell.vm ≠ .statics k)
    (hk : ∃ k, vm'.classes[cell.cls]? = some k) (hc : ∃ k, vm'.classes[cT]? = some k) (hfit : vm'.assignable cell.cls cT = true) :
    wp (findHandler.go f a (x :: tl)) Q E e d acts t ↔ Q (.found x.handlerPc) d acts (t.setVm vm') := by
  simp only [covers] at hx
  obtain ⟨ha, ht⟩ := hg.op (op := VmOp.resolveClass f.method.cls x.catchType) rfl
  simp [findHandler.go, hx, h0, ha, ht, hsz, hcell, hobj, hk, hc, hfit, VmOp.dirties, VmOp.acts]
theorem st_catch {st : State} {a : Addr} {f : JFrame} {r : List Frame} {pc : Nat} {vm' : Vm} (hfind : ∀ (Q : Handler → Pre) (E : CtlPost) (d : Bool) (acts : List Action), wp (findHandler f a) Q E e d acts st ↔ Q (.found pc) d acts (st.setVm vm')) :
    (stepThrowing e st a (.java f :: r)).Is ((st.setVm vm').setFrames (.java { f with pc := pc, stack := [.ref a] } :: r)) [] := by
  simp only [stepThrowing, searchFrame, vmDo]
  generalize hr : Sem.go _ e false [] st = res
  obtain ⟨as, rfl, ha⟩ := Sem.eq_ok_of hr (a := Handler.found pc) (s' := st.setVm vm') (acts' := []) (by simp [hfind _ _ _ _])
  exact ⟨rfl, ha⟩
theorem wx_caught (X : Stand p l e R s m args below meth c T locs cells slots) {g : JFrame} (hg : g.method = m) {a : Addr} {x : ExceptionTableEntry} (htab : c.exceptionTable.toList = [x]) (hcov : covers x g.pc = true) (h0 : x.catchType ≠ 0) {own name : String} (hown : s.vm.findClass own = some m.cls) (hlink : (Cond.classLink own x.catchType name).before args s = true)
    {cell : Cell} (hcell : T.heap[a]? = some cell) (hobj : cell.vm.isStatics = false) (hcls : s.vm.findClass name = some cell.cls) {Q : State → Prop}
    (hk : ∀ T' : State, T'.heap = T.heap → Stand p l e R s m args below meth c T' locs cells slots → ∃ t, Steps p.tables e below (T'.setTop { g with pc := x.handlerPc, stack := [.ref a] }) t ∧ Q t) :
    ∃ t, Steps p.tables e below ((T.setTop g).pushFrame (.throwing a)) t ∧ Q t := by
  have hpl : e.platform.magicAccessors = ({} : Platform).magicAccessors := by rw [X.admits.platform]
  obtain ⟨c', hc', hcl⟩ := Cond.classLink_spec hown hlink e.platform hpl
  cases hcls.symm.trans hc'
  obtain ⟨dk, _, _, kt, hd, _, _, _, _, hkt, _, hopen⟩ := hcl.here
  have hcl₀ := X.warmed.classLinks hcl
  have hW' : s.WarmedH (T.vm.noted m.cls x.catchType (.cls cell.cls)) := X.warmed.noted hd hopen (State.rightAt_cls hcl)
  obtain ⟨kt', hkt', -⟩ := hW'.alike.2.2 _ _ hkt
  obtain ⟨t, h1, h2⟩ := hk (T.setVm (T.vm.noted m.cls x.catchType (.cls cell.cls))) rfl (X.noted hW')
  refine ⟨t, ?_, h2⟩
  subst hg
  obtain ⟨hgo, hw⟩ := X.here.throwing (g := g) a
  refine Steps.head hgo hw ?_
  have hvm : ((T.setTop g).pushFrame (.throwing a)).vm = T.vm := Stand.throwing_vm T g a
  have hhp : ((T.setTop g).pushFrame (.throwing a)).heap = T.heap := Stand.throwing_heap T g a
  have hfind : ∀ (Q : Handler → Pre) (E : CtlPost) (d : Bool) (acts : List Action), wp (findHandler g a) Q E e d acts ((T.setTop g).pushFrame (.throwing a)) ↔ Q (.found x.handlerPc) d acts (((T.setTop g).pushFrame (.throwing a)).setVm (T.vm.noted g.method.cls x.catchType (.cls cell.cls))) := by
    intro Q E d acts
    rw [W.findHandler_eq (meth := meth) (code := c) (by rw [hvm]; exact X.method') X.code, htab]
    refine fh_links (cell := cell) (cT := cell.cls) hcov h0 ?_ ?_ (by rw [hhp]; exact hcell) (fun k => VmData.ne_statics_of hobj k) ⟨kt', hkt'⟩ ⟨kt', hkt'⟩ (va_asg _ _)
    · rw [hvm]; exact resolveClass_links e.toSetting hcl₀
    · rw [hvm, Vm.size_noted]; exact Nat.le_refl _
  rw [stepThread_throwing (frames_entered X.here.top _), (st_catch (st := (T.setTop g).pushFrame (.throwing a)) hfind).1]
  obtain ⟨g₀, hg₀⟩ := Option.isSome_iff_exists.mp X.here.top
  obtain ⟨r, hr⟩ := State.topJava?_eq_some.mp hg₀
  have hr' : (T.setVm (T.vm.noted g.method.cls x.catchType (.cls cell.cls))).frames = .java g₀ :: r := hr
  rw [State.setTop_of_frames _ hr'] at h1
  have e9 : (((T.setTop g).pushFrame (.throwing a)).setVm (T.vm.noted g.method.cls x.catchType (.cls cell.cls))).setFrames (.java { g with pc := x.handlerPc, stack := [.ref a] } :: T.frames.tail) = (T.setVm (T.vm.noted g.method.cls x.catchType (.cls cell.cls))).setFrames (.java { g with pc := x.handlerPc, stack := [.ref a] } :: r) := by
    have e8 : ∀ (U : State) (fs : List Frame) (v : Vm), (U.setFrames fs).setVm v = (U.setVm v).setFrames fs := fun _ _ _ => rfl
    rw [State.pushFrame, State.setTop_of_frames _ hr, hr, e8, e8, State.setFrames_setFrames, State.setFrames_setFrames]
    rfl
  rw [e9]
  exact h1
/-- behind a call, however it ended -/
theorem wx_back (X : Stand p l e R s m args below meth c T locs cells slots) {y : MethodName} {ws : List Cond} {rm : Room} {Pc : Array Value → State → Prop} {Qc : Array Value → State → Outcome → State → Prop}
    (hM : MetFree l y (headSpec ws rm) Pc (fun _ _ _ _ _ => True) Qc) {F : Addr → Prop} (hfr : ∀ a st o t, Qc a st o t → ∃ L : List Loc, st.WarmedH t.vm ∧ st.sameButNew ({ t with vm := st.vm } : State) L 0 0 ∧ ∀ q ∈ L, F q.base)
    {g : JFrame} {ig : Instr} {len : Nat} {mk : MethodId} {a : Array Value} (hg : g.method = m) (hsize : g.locals.size = c.maxLocals) (hdg : decode c.code g.pc = .ok (ig, len)) (hn : T.methodNamed? y = some mk)
    {kY : Class} (hkY : T.vm.classes[mk.cls]? = some kY) (hini : kY.init = .initialized) {methY : Method} {cY : Code} (hmY : T.vm.method? mk = some methY) (hcY : methY.code = some cY)
    (hframes : rm.frames + 1 ≤ R.frames) (hlocals : 2 * g.monitorRoom + (g.stack.map fun v => v.category).sum + (cY.maxLocals + 11) + rm.locals ≤ R.locals) (hcells : cells + rm.cells ≤ R.cells) (hslots : slots + rm.slots ≤ R.slots)
    (hpre : (headSpec ws rm).pre.before a T = true) (hPc : Pc a (T.calling g mk a)) {Q : State → Prop}
    (hret : ∀ (v : Option Value) (T' t : State) (L : List Loc), Stand p l e R s m args below meth c T' (locs ++ L) cells slots → T'.heap = t.heap → T'.vm = t.vm → (∀ q ∈ L, F q.base) → Qc a (T.calling g mk a) (.returned v) t → ∃ t2, Steps p.tables e below (T'.setTop { g with pc := g.pc + len, stack := v.toList ++ g.stack }) t2 ∧ Q t2)
    (hthr : ∀ (x : Addr) (T' t : State) (L : List Loc), Stand p l e R s m args below meth c T' (locs ++ L) cells slots → T'.heap = t.heap → T'.vm = t.vm → (∀ q ∈ L, F q.base) → Qc a (T.calling g mk a) (.threw x) t → ∃ t2, Steps p.tables e below ((T'.setTop g).pushFrame (.throwing x)) t2 ∧ Q t2) :
    ∃ t2, Steps p.tables e below (doInvoke e (T.setTop g) [] mk a).1 t2 ∧ Q t2 := by
  have h : At T g.method c below := by rw [hg]; exact X.here
  have happ : (headSpec ws rm).appliesLoose y e.platform (T.calling g mk a) = true :=
    Spec.appliesLoose_calling (g := g) h hdg hn hkY hini (X.room_calling (g := g) (R' := rm) hsize hmY hcY hframes hlocals hcells hslots) hpre
  obtain ⟨mid, hmid⟩ := h.above
  have hfr2 : (T.setTop g).frames = (.java g :: mid) ++ below := by rw [State.frames_setTop' g h.top, hmid]; rfl
  obtain ⟨o, s₂, hsteps, -, hend, hq⟩ := Steps.callFree hM p X.admits X.cas X.clock (acts := []) hfr2 happ hPc trivial
  have hq' : Qc a (T.calling g mk a) o s₂ := hq
  rw [State.frames_setTop' g h.top, X.tail] at hend
  obtain ⟨L, hW, hsame, hL⟩ := hfr _ _ _ _ hq'
  cases o with
  | returned v =>
    obtain ⟨T', X', -, -, ht⟩ := X.outOf hg hdg hend hW hsame
    obtain ⟨g₀, hr⟩ := X'.frames_eq
    have e1 : T'.heap = s₂.heap := by rw [ht, State.setTop_of_frames _ hr]; rfl
    have e2 : T'.vm = s₂.vm := by rw [ht, State.setTop_of_frames _ hr]; rfl
    obtain ⟨t2, h1, h2⟩ := hret v T' s₂ L X' e1 e2 hL hq'
    rw [← ht] at h1
    exact ⟨t2, hsteps.trans h1, h2⟩
  | threw x =>
    obtain ⟨T', X', -, -, ht⟩ := X.outOfThrown hg hend hW hsame
    have e1 : T'.heap = s₂.heap := by rw [ht]; exact (Stand.throwing_heap T' g x).symm
    have e2 : T'.vm = s₂.vm := by rw [ht]; exact (Stand.throwing_vm T' g x).symm
    obtain ⟨t2, h1, h2⟩ := hthr x T' s₂ L X' e1 e2 hL hq'
    rw [← ht] at h1
    exact ⟨t2, hsteps.trans h1, h2⟩
end ST
