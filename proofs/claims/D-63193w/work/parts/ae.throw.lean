/-! methods that throw: their contract, what a caller gets, where it is caught -/
/-- an end by an exception: the tables warmer, at most k cells of n slots new, only places L written -/
def EndT (s0 : State) (o : Outcome) (t : State) (L : List Loc) (k n : Nat) : Prop := (∃ x, o = .threw x) ∧ s0.WarmedH t.vm ∧ s0.sameButNew ({ t with vm := s0.vm } : State) L k n
def MetT (l : Launch) (y : MethodName) (ws : List Cond) (rm : Room) (Pc : Array Value → State → Prop) (Qc : Array Value → State → Outcome → State → Prop) (mc ms : Nat) (free : Addr → Prop) : Prop :=
  MetFree l y (headSpec ws rm) Pc (fun _ _ _ _ _ => True) (fun a st o t => Qc a st o t ∧ ∃ L, EndT st o t L mc ms ∧ ∀ q ∈ L, free q.base)
def MQT (below : List Frame) (Qc : Array Value → State → Outcome → State → Prop) (a : Array Value) (s : State) (mc ms : Nat) (free : Addr → Prop) : State → Prop := fun t =>
  ∃ o, t.status = .running ∧ Ended t below o ∧ Qc a s o t ∧ ∃ L, EndT s o t L mc ms ∧ ∀ q ∈ L, free q.base
theorem MetT.ofW {l : Launch} {y : MethodName} {ws ws' : List Cond} {rm : Room} {Pc : Array Value → State → Prop} {Qc : Array Value → State → Outcome → State → Prop} {mc ms : Nat} {free : Addr → Prop} {cc : ByteArray} {maxL : Nat} {ret : Option FieldType}
    (hy : plainName y.cls = true) (hw : ws = Cond.code y cc maxL ret :: ws')
    (body : ∀ p e s m args below meth c s₁, BodyLoose p l y (headSpec ws rm) cc maxL ret e s m args below meth c s₁ → c.maxLocals = maxL → Pc args s →
      W p l e (headSpec ws rm).room s m args below meth c s.heap [] 0 0 (MQT below Qc args s mc ms free) (entryFrame m args maxL)) : MetT l y ws rm Pc Qc mc ms free := by
  refine MetFree.of_bodyS (code := cc) (maxLocals := maxL) (ret := ret) hy ?_ ?_
  · intro args s m h hn
    obtain ⟨meth, c, h1, h2, h3, h4, h5, h6, -, -⟩ := Cond.code_spec hn (atoms_spec (ws := ws) h _ (by rw [hw]; exact List.mem_cons_self))
    exact ⟨meth, c, h1, h2, h3, h4, h5, h6⟩
  · intro p e s m args below meth c s₁ B hml hP _
    have hh0 : s₁.heap = s.heap := by rw [B.state]; rfl
    obtain ⟨t, a1, o, b1, b2, b3⟩ := body p e s m args below meth c s₁ B hml hP s₁ hh0 (Stand.of_body B)
    exact ⟨t, o, a1, b1, b2, ⟨b3.1, b3.2⟩⟩
section
variable {p : Program} {l : Launch} {e : Env} {R : Room} {s : State} {m : MethodId} {args : Array Value} {below : List Frame} {meth : Method} {c : Code} {H : Heap} {locs : List Loc} {cells slots : Nat} {Q : State → Prop}
variable {y : MethodName} {bytes cc : ByteArray} {maxL nL mc ms n index : Nat} {ret : Option FieldType} {ws : List Cond} {rm : Room} {Pc : Array Value → State → Prop} {Qc : Array Value → State → Outcome → State → Prop} {free : Addr → Prop} {Ts : List Cond} {own C : String} {b : Addr} {As rest : List Value} {g : JFrame}
/-- the call itself, from where the callee is entered -/
theorem th_call (cb : CallB R s args own index y bytes maxL ret ws rm mc ms n) (hM : MetT l y ws rm Pc Qc mc ms free) (hbl : FrameBlind Pc) {U : State} (X : Stand p l e R s m args below meth c U locs cells slots) (hg : g.method = m) (hsize : g.locals.size = c.maxLocals) {ig : Instr} (hdg : decode c.code g.pc = .ok (ig, 3))
    (hW : 2 * g.monitorRoom + (g.stack.map fun v => v.category).sum ≤ 8) {mk : MethodId} (hn : U.methodNamed? y = some mk) {a : Array Value} (hf : cells + mc ≤ R.cells ∧ slots + ms ≤ R.slots) (hPc : Pc a U) :
    ∃ (x : Addr) (st₀ t T' : State) (L : List Loc), st₀.heap = U.heap ∧ Stand p l e R s m args below meth c T' (locs ++ L) (cells + mc) (slots + ms) ∧ (∀ q ∈ L, free q.base) ∧ T'.heap = t.heap ∧ T'.vm = t.vm ∧ Qc a st₀ (.threw x) t ∧
      Steps p.tables e below (doInvoke e (U.setTop g) [] mk a).1 ((T'.setTop g).pushFrame (.throwing x)) := by
  obtain ⟨hrc, hrs, hfr, hlo, hws, hcw, -, hini, -⟩ := cb
  subst hg
  have h := X.here
  obtain ⟨mY, cY, hmY, hcY, -, hlY, -⟩ := Cond.code_spec hn (hws _ hcw a U X.warmed)
  obtain ⟨kY, hkY, -⟩ := className_of_methodNamed hn
  have hiY : kY.init = .initialized := Cond.initialized_spec (findClass_of_methodNamed hn) hkY (word_at (a' := a) (U := U) X.warmed (Or.inl (by first | rfl | simp [Cond.onTables, Cond.keeps, Cond.steady])) hini)
  have happ : (headSpec ws rm).appliesLoose y e.platform (U.calling g mk a) = true :=
    Spec.appliesLoose_calling (g := g) h hdg hn hkY hiY (X.room_calling (g := g) (R' := rm) hsize hmY hcY hfr (by rw [hlY]; omega) (by rw [hrc]; exact hf.1) (by rw [hrs]; exact hf.2)) (atoms_intro fun w hw => hws w hw _ _ X.warmed)
  obtain ⟨mid, hmid⟩ := h.above
  obtain ⟨g₀, hg0⟩ := Option.isSome_iff_exists.mp h.top
  obtain ⟨r, hr⟩ := State.topJava?_eq_some.mp hg0
  obtain ⟨o, t, hst, -, hend, hq, L, ⟨⟨x, rfl⟩, hWt, hsame⟩, hL⟩ := Steps.callFree hM p X.admits X.cas X.clock (acts := []) (show (U.setTop g).frames = (.java g :: mid) ++ below by rw [State.frames_setTop' g h.top, hmid]; rfl) happ (hbl _ _ _ _ hPc) trivial
  rw [State.frames_setTop' g h.top] at hend
  have hft : t.frames = .throwing x :: .java g :: U.frames.tail := hend
  have hWU : U.WarmedH t.vm := hWt
  let T' : State := ({ U with heap := t.heap, slotsUsed := t.slotsUsed } : State).setVm t.vm
  have hrT : T'.frames = .java g₀ :: r := hr
  have ht : t = ({ (U.calling g mk a).setFrames t.frames with heap := t.heap, slotsUsed := t.slotsUsed } : State).setVm t.vm := by
    have q : t = ({ t with vm := (U.calling g mk a).vm } : State).setVm t.vm := rfl
    have hs1 : ({ t with vm := (U.calling g mk a).vm } : State) = _ := hsame.1
    rw [hs1] at q
    exact q
  have hsU : U.sameButNew ({ U with heap := t.heap, slotsUsed := t.slotsUsed } : State) L mc ms := by
    refine ⟨?_, hsame.2⟩
    obtain ⟨th, hth, -⟩ := State.frames_cons hr
    show ({ U with heap := t.heap, slotsUsed := t.slotsUsed } : State) = { U.setFrames U.frames with heap := t.heap, slotsUsed := t.slotsUsed }
    rw [State.setFrames_self hth]
  refine ⟨x, U.calling g mk a, t, T', L, rfl, ⟨X.admits, X.cas, X.clock, X.frames, X.room, X.hears, X.method, X.code, (X.here.setHeapUsed t.heap t.slotsUsed).setVm hWU.alike, X.tail, State.WarmedH.trans X.warmed hWU, X.limits, X.bytes, X.same.trans (hsU.setVm s.vm)⟩, hL, rfl, rfl, hq, ?_⟩
  have hT : t = (T'.setTop g).pushFrame (.throwing x) := by
    refine ht.trans ?_
    rw [hft, State.calling_eq h.top, State.setFrames_setFrames, State.pushFrame, State.frames_setTop _ hrT, State.setTop_of_frames _ hrT, State.setFrames_setFrames, hr]
    rfl
  rw [← hT]
  exact hst
/-- a call that ends in an exception: the note over the caller's frame -/
def RunT (p : Program) (l : Launch) (e : Env) (R : Room) (s : State) (m : MethodId) (args : Array Value) (below : List Frame) (meth : Method) (c : Code) (H : Heap) (locs : List Loc) (cells slots mc ms : Nat) (g : JFrame) (rest : List Value) (Qa : State → Outcome → State → Prop) (free : Addr → Prop) : Prop :=
  ∀ T : State, T.heap = H → Stand p l e R s m args below meth c T locs cells slots → ∃ (x : Addr) (st₀ t T' : State) (L : List Loc), st₀.heap = H ∧ Stand p l e R s m args below meth c T' (locs ++ L) (cells + mc) (slots + ms) ∧ (∀ q ∈ L, free q.base) ∧ T'.heap = t.heap ∧ T'.vm = t.vm ∧ Qa st₀ (.threw x) t ∧
    Steps p.tables e below (T.setTop g) ((T'.setTop { g with stack := rest }).pushFrame (.throwing x))
theorem runVT (S : CallFix p m c cc nL s args Ts own) (hM : MetT l y ws rm Pc Qc mc ms free) (cw : CallW R s args own C index y bytes maxL ret ws rm mc ms n) (hp : PreV s H C b Pc As)
    (hg : g.method = m) (hn : As.length = n) (hsize : g.locals.size = nL) (hstack : g.stack = As.reverse ++ .ref b :: rest) (hW : 2 * g.monitorRoom + (rest.map fun v => v.category).sum ≤ 8) (hdg : decode cc g.pc = .ok (.invokevirtual index, 3)) (hf : cells + mc ≤ R.cells ∧ slots + ms ≤ R.slots) :
    RunT p l e R s m args below meth c H locs cells slots mc ms g rest (Qc (Value.ref b :: As).toArray) (free) := by
  have cb := cw.1
  obtain ⟨⟨-, -, -, -, -, -, hcode, -, hy, hlen, hlink⟩, hinst, hsel⟩ := cw
  obtain ⟨hexec, hb, hml, hown, -⟩ := S
  obtain ⟨hbl, ⟨cellB, hcell, hobj, hcls⟩, hPc⟩ := hp
  intro T hT X
  obtain ⟨mk, methM, hnamed, hmethM, hstM, habM⟩ := Cond.instanceMethod_spec hinst
  obtain ⟨methM', cM, hmethM', -, -, -, -, -, -, hsigM⟩ := Cond.code_spec hnamed hcode
  cases hmethM.symm.trans hmethM'
  obtain ⟨c2, r2, m2, q1, q2, q3, q4, kP, hkP, hkPi⟩ := Cond.selects_spec hsel
  cases hcls.symm.trans q1
  cases (State.methodFound?_of_named hnamed hy).symm.trans q2
  cases hnamed.symm.trans q3
  have hselP : selectMethod e.platform s.vm cellB.cls mk = .method mk := by rw [Launch.admits_selectMethod X.admits]; exact q4
  have hdg' : decode c.code g.pc = .ok (.invokevirtual index, 3) := by rw [hb]; exact hdg
  obtain ⟨vm₁, X₁, hstep₁⟩ := X.invokevirtual hexec hown hlink hnamed hmethM hstM hkP hkPi hy (a := b) (cell := cellB) (by rw [hT]; exact hcell)
    (fun z h => by rw [h] at hobj; cases hobj) hselP hmethM habM hkP hkPi (g := g) hg (argsL := As) (rest := rest) (hn.trans (hlen _ hsigM)) hstack hdg'
  obtain ⟨v, st₀, t, U', L, h0, X', hL, e1, e2, hq, hsteps⟩ := th_call cb hM hbl X₁ (g := { g with stack := rest }) hg (hsize.trans hml.symm) hdg' hW (X₁.named hnamed) hf (hPc (T.setVm vm₁) hT X₁.warmed)
  exact ⟨v, st₀, t, U', L, h0.trans hT, X', hL, e1, e2, hq, hstep₁ _ fun acts => by rw [doInvoke_state]; exact hsteps⟩
theorem runST (S : CallFix p m c cc nL s args Ts own) (hM : MetT l y ws rm Pc Qc mc ms free) (cw : CallB R s args own index y bytes maxL ret ws rm mc ms n ∧ (Cond.static y).before args s = true) (hp : PreS s H Pc As)
    (hg : g.method = m) (hn : As.length = n) (hsize : g.locals.size = nL) (hstack : g.stack = As.reverse ++ rest) (hW : 2 * g.monitorRoom + (rest.map fun v => v.category).sum ≤ 8) (hdg : decode cc g.pc = .ok (.invokestatic index, 3)) (hf : cells + mc ≤ R.cells ∧ slots + ms ≤ R.slots) :
    RunT p l e R s m args below meth c H locs cells slots mc ms g rest (Qc As.toArray) (free) := by
  have cb := cw.1
  obtain ⟨⟨-, -, -, -, -, -, hcode, hini, hy, hlen, hlink⟩, hstat⟩ := cw
  obtain ⟨hexec, hb, hml, hown, -⟩ := S
  intro T hT X
  obtain ⟨mk, hnamed⟩ := Cond.code_named hcode
  obtain ⟨methM, cM, hmethM, -, -, -, -, -, -, hsigM⟩ := Cond.code_spec hnamed hcode
  have hstatic : methM.isStatic = true := Cond.static_spec hnamed hmethM hstat
  obtain ⟨kP, hkP, -⟩ := className_of_methodNamed hnamed
  have hinitP : kP.init = .initialized := Cond.initialized_spec (findClass_of_methodNamed hnamed) hkP hini
  have hdg' : decode c.code g.pc = .ok (.invokestatic index, 3) := by rw [hb]; exact hdg
  obtain ⟨vm₁, X₁, hstep₁⟩ := X.invokestatic hexec hown hlink hnamed hmethM hstatic hkP hinitP hy (g := g) hg (argsL := As) (rest := rest) (hn.trans (hlen _ hsigM)) hstack hdg'
  obtain ⟨v, st₀, t, U', L, h0, X', hL, e1, e2, hq, hsteps⟩ := th_call cb hM hp.1 X₁ (g := { g with stack := rest }) hg (hsize.trans hml.symm) hdg' hW (X₁.named hnamed) hf (hp.2 (T.setVm vm₁) hT X₁.warmed)
  exact ⟨v, st₀, t, U', L, h0.trans hT, X', hL, e1, e2, hq, hstep₁ _ fun acts => by rw [doInvoke_state]; exact hsteps⟩
end
/-- one handler, its class perhaps not looked up before: the walk goes on there -/
theorem th_catch {p : Program} {l : Launch} {e : Env} {R : Room} {s : State} {m : MethodId} {args : Array Value} {below : List Frame} {meth : Method} {c : Code} {locs : List Loc} {cells slots : Nat} {T : State} (X : Stand p l e R s m args below meth c T locs cells slots) (a : Addr) {g : JFrame} (hg : g.method = m) {own name : String} (hown : s.vm.findClass own = some m.cls)
    {x : ExceptionTableEntry} (hex : c.exceptionTable.toList = [x]) (hx : covers x g.pc = true) (h0 : x.catchType ≠ 0) (hlink : (Cond.classLink own x.catchType name).before args s = true) {cT : ClassId} {cell : Cell} (hcT : s.vm.findClass name = some cT) (hcell : T.heap[a]? = some cell) (hobj : cell.vm.isStatics = false) (hfit : s.vm.assignable cell.cls cT = true) :
    ∃ vm', Stand p l e R s m args below meth c (T.setVm vm') locs cells slots ∧ ∀ target, Steps p.tables e below ((T.setVm vm').setTop { g with pc := x.handlerPc, stack := [.ref a] }) target → Steps p.tables e below ((T.setTop g).pushFrame (.throwing a)) target := by
  subst hg
  have hpl : e.platform.magicAccessors = ({} : Platform).magicAccessors := by rw [X.admits.platform]
  obtain ⟨c', hc', hcl⟩ := Cond.classLink_spec hown hlink e.platform hpl
  cases hcT.symm.trans hc'
  obtain ⟨dk, _, _, kt, hd, _, _, _, _, hkt, _, hopen⟩ := hcl.here
  have hclT := X.warmed.classLinks hcl
  have hW' : s.WarmedH (T.vm.noted g.method.cls x.catchType (.cls cT)) := X.warmed.noted hd hopen (State.rightAt_cls hcl)
  have hal := X.warmed.alike
  have hal' : T.vm.Alike (T.vm.noted g.method.cls x.catchType (.cls cT)) := (Vm.Alike.refl T.vm).noted _ _ _
  obtain ⟨k2, hk2, -⟩ := hW'.alike.2.2 _ _ hkt
  have hfit2 : (T.vm.noted g.method.cls x.catchType (.cls cT)).assignable cell.cls cT = true := by rw [hW'.alike.assignable]; exact hfit
  obtain ⟨k1, hk1⟩ := Vm.classAt_of_assignable hfit2 ⟨k2, hk2⟩
  refine ⟨T.vm.noted g.method.cls x.catchType (.cls cT), X.noted hW', fun target hrest => ?_⟩
  have hst : ∀ k, cell.vm ≠ .statics k := VmData.ne_statics_of hobj
  obtain ⟨ha, ht⟩ := (resolveClass_links e.toSetting hclT).op (op := VmOp.resolveClass g.method.cls x.catchType) rfl
  have hsz : (T.vm.noted g.method.cls x.catchType (.cls cT)).classes.size ≤ T.vm.classes.size := by no_record
  generalize T.vm.noted g.method.cls x.catchType (.cls cT) = vm' at *
  let S : State := (T.setTop g).pushFrame (.throwing a)
  have hfind : ∀ (Q : Handler → Pre) (E : CtlPost) (d : Bool) (acts : List Action), wp (findHandler g a) Q E e d acts S ↔ Q (.found x.handlerPc) d acts (S.setVm vm') := by
    intro Q E d acts
    have hx' := hx
    simp only [covers] at hx'
    have hSv : S.vm = T.vm := Stand.throwing_vm T g a
    have hSh : S.heap[a]? = some cell := by rw [show S.heap = T.heap from Stand.throwing_heap T g a]; exact hcell
    rw [W.findHandler_eq (s := S) (by rw [hSv]; exact X.method') X.code, hex]
    rw [← hSv] at ha ht hsz
    have hld := VmOp.lands_eq (op := VmOp.resolveClass g.method.cls x.catchType) (e := e) (s := S) ht hsz
    simp [findHandler.go, hld, hx', h0, ha, ht, hSh, hst, hk1, hk2, hfit2, VmOp.dirties, VmOp.acts]
  obtain ⟨hgo, hw⟩ := X.here.throwing a
  refine Steps.head hgo hw ?_
  have hone : (stepThrowing e S a (.java g :: T.frames.tail)).Is ((S.setVm vm').setFrames (.java { g with pc := x.handlerPc, stack := [.ref a] } :: T.frames.tail)) [] := by
    simp only [stepThrowing, searchFrame, vmDo]
    generalize hr : Sem.go _ e false [] S = res
    obtain ⟨as, rfl, hb⟩ := Sem.eq_ok_of hr (a := Handler.found x.handlerPc) (s' := S.setVm vm') (acts' := []) (by simp [hfind _ _ _ _])
    exact ⟨rfl, hb⟩
  rw [stepThread_throwing (frames_entered X.here.top _), hone.1]
  obtain ⟨g₀, hg0⟩ := Option.isSome_iff_exists.mp X.here.top
  obtain ⟨r, hr⟩ := State.topJava?_eq_some.mp hg0
  have hr' : (T.setVm vm').frames = .java g₀ :: r := hr
  rw [State.setTop_of_frames _ hr'] at hrest
  have key : (S.setVm vm').setFrames (.java { g with pc := x.handlerPc, stack := [.ref a] } :: T.frames.tail) = (T.setVm vm').setFrames (.java { g with pc := x.handlerPc, stack := [.ref a] } :: r) := by
    show (((T.setTop g).pushFrame (.throwing a)).setVm vm').setFrames _ = _
    rw [State.pushFrame, State.setTop_of_frames _ hr, hr]
    show (((T.setVm vm').setFrames _).setFrames _).setFrames _ = _
    rw [State.setFrames_setFrames, State.setFrames_setFrames]
    rfl
  rw [key]
  exact hrest
def NSE_ : String := "java/util/NoSuchElementException"
/-- it threw a NoSuchElementException -/
def QT_ (G : GG_) (post : Hp → Prop) : Array Value → State → Outcome → State → Prop := fun _ _ o t => ∃ (x : Addr) (σ : Hp), o = .threw x ∧ post σ ∧ Pic_ G σ t.heap ∧ G.1.WarmedH t.vm ∧ ∃ cell : Cell, t.heap[x]? = some cell ∧ cell.vm.isStatics = false ∧ G.1.vm.findClass NSE_ = some cell.cls
section
variable {p : Program} {l : Launch} {e : Env} {R : Room} {s : State} {m : MethodId} {args : Array Value} {below : List Frame} {meth : Method} {c : Code} {H : Heap} {locs : List Loc} {cells slots : Nat} {Q : State → Prop}
variable {cc : ByteArray} {pc : Nat} {ls : Array Slot} {rest : List Value} {G : GG_} {σ : Hp} {nL : Nat} {own : String}
variable {y : MethodName} {bytes : ByteArray} {maxL mc ms n index : Nat} {ret : Option FieldType} {ws : List Cond} {rm : Room} {Qc : Array Value → State → Outcome → State → Prop} {As st0 : List Value} {r ci N : Nat} {C : String} {T : u_T} {ty : Nat → FieldType}
theorem p_runVT (X : CX_ G p s m args c cc nL own) (cf : CF_ ci C T N ty) (hP : Pic_ G σ H) (ht : tg_ σ r = ci + 1) (hM : MetT l y ws rm (PC_ G (rv_ r :: As) σ) Qc mc ms (FR_ G)) (cw : CallW R s args own C index y bytes maxL ret ws rm mc ms n) (hn : As.length = n) (hsize : ls.size = nL) (hstack : st0 = As.reverse ++ rv_ r :: rest) (hW8 : (rest.map fun v => v.category).sum ≤ 8) (hdg : decode cc pc = .ok (.invokevirtual index, 3)) (hf : cells + mc ≤ R.cells ∧ slots + ms ≤ R.slots) :
    RunT p l e R s m args below meth c H locs cells slots mc ms (F0 m pc ls st0) rest (Qc (rv_ r :: As).toArray) (FR_ G) := by
  obtain ⟨q, rfl⟩ := Pic_tag hP ht
  exact runVT (C := C) (b := q) X.1 hM cw ⟨PC_blind, p_recv hP X.2.1 X.2.2 cf ht, fun U hU hW => PC_of hP X.2.1 hU hW⟩ rfl hn hsize hstack (lv_room hW8) hdg hf
theorem p_runST (X : CX_ G p s m args c cc nL own) (hP : Pic_ G σ H) (hM : MetT l y ws rm (PC_ G As σ) Qc mc ms (FR_ G)) (cw : CallB R s args own index y bytes maxL ret ws rm mc ms n ∧ (Cond.static y).before args s = true) (hn : As.length = n) (hsize : ls.size = nL) (hstack : st0 = As.reverse ++ rest) (hW8 : (rest.map fun v => v.category).sum ≤ 8) (hdg : decode cc pc = .ok (.invokestatic index, 3)) (hf : cells + mc ≤ R.cells ∧ slots + ms ≤ R.slots) :
    RunT p l e R s m args below meth c H locs cells slots mc ms (F0 m pc ls st0) rest (Qc As.toArray) (FR_ G) :=
  runST X.1 hM cw ⟨PC_blind, fun U hU hW => PC_of hP X.2.1 hU hW⟩ rfl hn hsize hstack (lv_room hW8) hdg hf
/-- the exception goes on out of a method without handlers -/
theorem p_thr {post post' : Hp → Prop} {a : Array Value} {mc' ms' : Nat} (hL : LO_ G locs) (hlk : meth.locks = false) (ho : ∀ c', meth.code = some c' → c'.exceptionTable.isEmpty = true)
    (hr : RunT p l e R s m args below meth c H locs cells slots mc ms (F0 m pc ls st0) rest (QT_ G post' a) (FR_ G)) (h1 : cells + mc ≤ mc') (h2 : slots + ms ≤ ms') (hpost : ∀ τ, post' τ → ∃ τ', post τ' ∧ ∀ K, Pic_ G τ K → Pic_ G τ' K) :
    W p l e R s m args below meth c H locs cells slots (MQT below (QT_ G post) args s mc' ms' (FR_ G)) (F0 m pc ls st0) := by
  intro T hT XT
  obtain ⟨x, st₀, t, T', L, h0, X', hL', e1, e2, ⟨x', σ1, hv, hp, hP, hWm, cell, k1, k2, k3⟩, st⟩ := hr T hT XT
  cases hv
  obtain ⟨τ', hp', hPic⟩ := hpost _ hp
  have hout : ∀ y ∈ c.exceptionTable.toList, covers y pc = false := by
    have hz := ho c X'.code
    intro y hy
    have : c.exceptionTable = #[] := by simpa using hz
    rw [this] at hy
    cases hy
  obtain ⟨q1, q2, q3, q4, q5⟩ := X'.leaveThrown x (g := { F0 m pc ls st0 with stack := rest }) rfl rfl rfl hout hlk
  refine ⟨_, st.trans q1, .threw x, q2, q3, ⟨x, τ', rfl, hp', ?_, ?_, cell, ?_, k2, k3⟩, locs ++ L, ⟨⟨x, rfl⟩, q4, q5.mono h1 h2⟩, p_LO hL hL'⟩
  · show Pic_ G τ' T'.heap
    rw [e1]; exact hPic _ hP
  · show G.1.WarmedH T'.vm
    rw [e2]; exact hWm
  · show T'.heap[x]? = _
    rw [e1]; exact k1
/-- the exception is caught -/
theorem p_caught {post : Hp → Prop} {a : Array Value} {x0 : Nat × Nat × Nat × Nat} (X : CX_ G p s m args c cc nL own) (hL : LO_ G locs) (ho : ∀ c', meth.code = some c' → c'.exceptionTable.toList.map (fun h => (h.startPc, h.endPc, h.handlerPc, h.catchType)) = [x0])
    (hr : RunT p l e R s m args below meth c H locs cells slots mc ms (F0 m pc ls st0) rest (QT_ G post a) (FR_ G)) (hx1 : x0.1 ≤ pc) (hx2 : pc < x0.2.1) (hx3 : x0.2.2.2 ≠ 0) (hlink : Cond.classLink own x0.2.2.2 NSE_ ∈ lw_all) (hcast : Cond.castable NSE_ NSE_ ∈ lw_tbl)
    (kk : ∀ (x : Nat) (σ1 : Hp) (H1 : Heap) (locs1 : List Loc), post σ1 → Pic_ G σ1 H1 → LO_ G locs1 → W p l e R s m args below meth c H1 locs1 (cells + mc) (slots + ms) Q (F0 m x0.2.2.1 ls [rv_ x])) :
    W p l e R s m args below meth c H locs cells slots Q (F0 m pc ls st0) := by
  intro T hT XT
  obtain ⟨x, st₀, t, T', L, h0, X', hL', e1, e2, ⟨x', σ1, hv, hp, hP, hWm, cell, k1, k2, k3⟩, st⟩ := hr T hT XT
  cases hv
  have hz := ho c X'.code
  obtain ⟨ex, hex⟩ : ∃ ex, c.exceptionTable.toList = [ex] := by
    cases hq : c.exceptionTable.toList with
    | nil => rw [hq] at hz; cases hz
    | cons u v =>
      cases v with
      | nil => exact ⟨u, rfl⟩
      | cons v w => rw [hq] at hz; cases hz
  rw [hex] at hz
  simp only [List.map_cons, List.map_nil, List.cons.injEq, and_true] at hz
  subst hz
  obtain ⟨c3, c4, hc3, hc4, hasg⟩ := Cond.castable_spec (X.2.2.1 _ hcast)
  cases hc3.symm.trans hc4
  cases k3.symm.trans hc3
  have hal := X.2.1.alike
  obtain ⟨vm', X'', st'⟩ := th_catch X' x (g := { F0 m pc ls st0 with stack := rest }) rfl (own := own) (name := NSE_) X.1.2.2.2.1 hex (by simp only [covers]; simp; exact ⟨hx1, hx2⟩) hx3 (X.1.2.2.2.2 _ hlink) (cT := cell.cls) (cell := cell) (by rw [hal.findClass]; exact k3) (by rw [e1]; exact k1) k2 (by rw [hal.assignable]; exact hasg)
  obtain ⟨t2, a1, b1⟩ := kk (x + 1) σ1 T'.heap (locs ++ L) hp (by rw [e1]; exact hP) (p_LO hL hL') (T'.setVm vm') rfl X''
  exact ⟨t2, st.trans (st' _ a1), b1⟩
end
