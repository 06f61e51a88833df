/-! methods of java/lang/Math that an entry of the table of natives runs in their bytecode's place -/
def ov_val : Slot → Option Value
  | .val v => some v
  | _ => none
def ov_given (locals : Array Slot) (n : Nat) : Array Value := (locals.toList.filterMap ov_val).toArray.extract 0 n
theorem ov_unset (n : Nat) : (List.replicate n Slot.unset).filterMap ov_val = [] := by
  induction n with
  | zero => rfl
  | succ k ih => rw [List.replicate_succ, List.filterMap_cons]; exact ih
theorem ov_givenOf (vs : List Value) (fl : Array Slot) (n k : Nat) (hf : fl.toList.filterMap ov_val = vs) (hn : vs.length = n) : ov_given (fl ++ Array.replicate k .unset) n = vs.toArray := by
  unfold ov_given
  rw [Array.toList_append, List.filterMap_append, hf, Array.toList_replicate, ov_unset, List.append_nil, ← hn]
  simp
theorem ov_givenD (x : UInt64) (k : Nat) : ov_given (argsToLocals #[.double x] k) 1 = #[.double x] := ov_givenOf [.double x] #[.val (.double x), .second] 1 _ rfl rfl
theorem ov_givenDD (x y : UInt64) (k : Nat) : ov_given (argsToLocals #[.double x, .double y] k) 2 = #[.double x, .double y] := ov_givenOf [.double x, .double y] #[.val (.double x), .second, .val (.double y), .second] 2 _ rfl rfl
/-- what the tables say of such a method -/
def ov_M (vm : Vm) (m : MethodId) (k : Class) (x : Method) (cm : Code) (nm ds : String) (np nL : Nat) : Prop :=
  vm.classes[m.cls]? = some k ∧ k.methods[m.idx]? = some x ∧ k.loader = none ∧ k.name = "java/lang/Math" ∧ x.name = nm ∧ x.desc = ds ∧ x.sig.parameters.length = np ∧ x.isStatic = true ∧ x.code = some cm ∧ x.locks = false ∧ cm.maxLocals = nL
theorem ov_M.alike {vm vm' : Vm} {m : MethodId} {k : Class} {x : Method} {cm : Code} {nm ds : String} {np nL : Nat} (N : ov_M vm m k x cm nm ds np nL) (h : vm.Alike vm') : ∃ k', ov_M vm' m k' x cm nm ds np nL := by
  obtain ⟨h1, h2, h3, h4, h5⟩ := N
  obtain ⟨k', hk', he⟩ := h.2.2 _ _ h1
  exact ⟨k', hk', by rw [he]; exact h2, by rw [he]; exact h3, by rw [he]; exact h4, h5⟩
theorem ov_M.of {s : State} {sargs : Array Value} {nm ds : String} {bytes : ByteArray} {nL np : Nat} {ret ret' : Option FieldType} {ps : List FieldType}
    (hcode : (Cond.code ⟨"java/lang/Math", nm, ds⟩ bytes nL ret).before sargs s = true) (hstat : (Cond.static ⟨"java/lang/Math", nm, ds⟩).before sargs s = true) (hdesc : parseMethodDescriptor ds = some { parameters := ps, returnType := ret' }) (hps : ps.length = np) :
    ∃ r k x cm, s.methodNamed? ⟨"java/lang/Math", nm, ds⟩ = some r ∧ ov_M s.vm r k x cm nm ds np nL := by
  obtain ⟨r, hnamed⟩ := Cond.named_of_code hcode
  obtain ⟨x, cm, hmeth, hc, -, hml, -, hl, -, hsig⟩ := Cond.code_spec hnamed hcode
  obtain ⟨k, hk, hkname⟩ := className_of_methodNamed hnamed
  obtain ⟨hmn, hmd⟩ := name_of_methodNamed hnamed hmeth
  refine ⟨r, k, x, cm, hnamed, hk, by simpa [Vm.method?, hk] using hmeth, Vm.bootOf_findClass (findClass_of_methodNamed hnamed) hk, hkname, hmn, hmd, ?_, Cond.static_spec hnamed hmeth hstat, hc, hl, hml⟩
  have h3 : parseMethodDescriptor ds = some x.sig := hsig
  rw [hdesc] at h3
  rw [← Option.some.inj h3]
  exact hps
theorem ov_thread {tb : Tables} {e : Env} {s : State} {f : JFrame} {rest : List Frame} {k : Class} {x : Method} {cm : Code} {row : NativeRow} {nm ds : String} {np nL : Nat} (hf : s.frames = .java f :: rest) (hpc : f.pc = 0) (N : ov_M s.vm f.method k x cm nm ds np nL)
    (hrow : NativeRow.find? tb.natives "java/lang/Math" nm ds = some row) {A : Array Value} (hA : ov_given f.locals np = A) :
    stepThread tb e s = afterNative e { method := f.method, args := A, locked := f.locked } rest ((row.sem A).run e (s.setFrames (.native { method := f.method, args := A, locked := f.locked } :: rest))) := by
  obtain ⟨hk, hx, hboot, hkn, hn, hd, hp, hst, -⟩ := N
  have hov : overridden tb e s f = some row := by
    have hin : "java/lang/Math" ∈ overriddenIn := by decide
    unfold overridden
    simp [hpc, hk, hx, hkn, hin, hboot, hn, hd, hrow]
  have hcount : argCount s f.method = np := by simp [argCount, hk, hx, hp, hst]
  subst hA
  unfold stepThread
  simp only [hf, hov, hcount, ov_given]
  rfl
theorem ov_end {tb : Tables} {e : Env} {below : List Frame} {s target : State} {g : JFrame} {c : Code} (h : At s g.method c below) {m : MethodId} {k : Class} {x : Method} {cm : Code} {row : NativeRow} {nm ds : String} {np nL : Nat} {args : Array Value} (acts : List Action)
    (N : ov_M s.vm m k x cm nm ds np nL) (hrow : NativeRow.find? tb.natives "java/lang/Math" nm ds = some row)
    (hroom : e.platform.stackFull (((s.setTop g).threads[(s.setTop g).cur]?).getD { frames := [] }) (s.setTop g).frames nL = false)
    (hA : ov_given (argsToLocals args nL) np = args) {v : Value} (hrun : ∀ S : State, ∃ as, (row.sem args).run e S = .ok (some v) S as)
    {ig : Instr} {len : Nat} (hdg : decode c.code g.pc = .ok (ig, len))
    (hrest : Steps tb e below (s.setTop { g with pc := g.pc + len, stack := v :: g.stack }) target) :
    Steps tb e below (doInvoke e (s.setTop g) acts m args).1 target := by
  have N0 := N
  obtain ⟨hk, hx, -, -, -, -, -, -, hc, hl, hml⟩ := N0
  have hm : (s.setTop g).vm.method? m = some x := by
    show s.vm.method? m = some x
    simp [Vm.method?, hk, hx]
  rw [(doInvoke_java (s := s.setTop g) (e := e) (acts := acts) (args := args) hm hc hl (by rw [hml]; exact hroom)).1, hml]
  obtain ⟨mid, hmid⟩ := h.above
  obtain ⟨g0, hg⟩ := Option.isSome_iff_exists.mp h.top
  obtain ⟨r, hr⟩ := State.topJava?_eq_some.mp hg
  have htl : s.frames.tail = r := by rw [hr]; rfl
  have hfe := frames_entered (g := g) h.top (.java { method := m, pc := 0, locals := argsToLocals args nL, stack := [], locked := none })
  refine Steps.head ⟨h.running, by simpa using h.runnable, by simpa using h.alone⟩
    ⟨.java { method := m, pc := 0, locals := argsToLocals args nL, stack := [], locked := none } :: .java g :: mid, by rw [hfe, hmid]; rfl, by simp, by simp⟩ ?_
  rw [ov_thread (f := { method := m, pc := 0, locals := argsToLocals args nL, stack := [], locked := none }) hfe rfl (k := k) (x := x) (cm := cm) (by exact N) hrow hA]
  have hcur : s.cur < s.threads.size := State.cur_lt_of_frames hr
  have hS : ((s.setTop g).pushFrame (.java { method := m, pc := 0, locals := argsToLocals args nL, stack := [], locked := none })).setFrames (.native { method := m, args := args, locked := none } :: .java g :: s.frames.tail)
      = s.setFrames (.native { method := m, args := args, locked := none } :: .java g :: r) := by
    rw [State.pushFrame, State.setFrames_setFrames, State.setTop_of_frames _ hr, State.setFrames_setFrames, htl]
  show Steps tb e below (afterNative e _ (.java g :: s.frames.tail) ((row.sem args).run e (((s.setTop g).pushFrame (.java { method := m, pc := 0, locals := argsToLocals args nL, stack := [], locked := none })).setFrames (.native { method := m, args := args, locked := none } :: .java g :: s.frames.tail)))).1 target
  rw [hS]
  obtain ⟨as, hrun⟩ := hrun (s.setFrames (.native { method := m, args := args, locked := none } :: .java g :: r))
  rw [hrun]
  show Steps tb e below (doReturn e (s.setFrames (.native { method := m, args := args, locked := none } :: .java g :: r)) as (some v)).1 target
  have hcode : ∀ fs, (s.setFrames fs).code? g.method = some c := fun fs => h.code
  have hfs : handOver (s.setFrames (.native { method := m, args := args, locked := none } :: .java g :: r)) (some v) (.java g :: r) = some (.java { g with pc := g.pc + len, stack := v :: g.stack } :: r) := by
    simp [handOver, hcode, hdg, Except.toOption]
  rw [doReturn_native (f := { method := m, args := args, locked := none }) (State.frames_setFrames _ hcur) rfl hfs, State.setFrames_setFrames, ← State.setTop_of_frames (s := s) _ hr]
  exact hrest
/-! Math.floor(double): its entry calls StrictMath.floor and hands its answer on -/
abbrev fl_N (m : MethodId) (b : UInt64) : NFrame := { method := m, args := #[.double b], stage := 1, saved := #[], awaiting := true, answer := none, words := 0 }
abbrev fl_B (m : MethodId) (b r : UInt64) : NFrame := { method := m, args := #[.double b], stage := 1, saved := #[], awaiting := false, answer := some (.returned (some (.double r))), words := 0 }
abbrev fl_row : NativeRow := (NativeRow.find? Native.java_lang_Math.nans.rows "java/lang/Math" "floor" "(D)D").get (by decide +kernel)
set_option maxRecDepth 100000 in
theorem fl_find (p : Program) : NativeRow.find? p.tables.natives "java/lang/Math" "floor" "(D)D" = some fl_row := by cases p <;> rfl
theorem fl_asks (b : UInt64) (e : Env) (S : State) {cS : ClassId} {kS : Class} {i : Nat} (hf : S.vm.findClass "java/lang/StrictMath" = some cS) (hk : S.vm.classes[cS]? = some kS) (hi : kS.init = .initialized) (hm : kS.findMethod "floor" "(D)D" = some i) :
    ∃ as, (fl_row.sem #[.double b]).run e S = .ctl (.call ⟨cS, i⟩ #[.double b] 1 #[]) S as := by
  have hsem : fl_row.sem #[.double b] = (do
      let c ← classNamed "java/lang/StrictMath"
      ensureInit c
      let some i := (← theClass c).findMethod "floor" "(D)D" | modelBug ("StrictMath lacks " ++ "floor")
      callThen ⟨c, i⟩ #[.double b] 1 #[]) := rfl
  have hw : wpRun (fl_row.sem #[.double b]) (fun _ _ _ => False) (fun c s₂ _ => c = .call ⟨cS, i⟩ #[.double b] 1 #[] ∧ s₂ = S) e S := by
    rw [hsem]
    simp [jvm, wpRun, W.classNamed_ready hf, W.ensureInit_ready ⟨kS, hk, hi⟩, theClass, callThen, hk, hm]
    exact ⟨rfl, rfl, rfl, rfl⟩
  have hw2 := (wpRun_iff_run _ _ _ _ _).mp hw
  cases hr : (fl_row.sem #[.double b]).run e S with
  | ok v s₂ as => rw [hr] at hw2; exact hw2.elim
  | ctl x s₂ as =>
    rw [hr] at hw2
    have h2 : x = .call ⟨cS, i⟩ #[.double b] 1 #[] ∧ s₂ = S := by cases x <;> first | exact hw2 | exact hw2.elim
    obtain ⟨rfl, rfl⟩ := h2
    exact ⟨_, rfl⟩
theorem fl_hands {r : UInt64} (hn : vf_n64 r) (e : Env) (S : State) : ∃ as, (fl_row.resume 1 #[] (.returned (some (.double r)))).run e S = .ok (some (.double r)) S as := by
  have hn1 : r &&& 0x7fffffffffffffff ≤ 0x7ff0000000000000 := hn
  have hsem : fl_row.resume 1 #[] (.returned (some (.double r))) = (do
      let r ← anyNaN64 r
      mark "nat.java_lang_Math.floor"
      Pure.pure (some (.double r))) := rfl
  have hw : wpRun (fl_row.resume 1 #[] (.returned (some (.double r)))) (fun v s₂ _ => v = some (.double r) ∧ s₂ = S) (fun _ _ _ => False) e S := by
    rw [hsem]
    simp [jvm, wpRun, anyNaN64, hn1]
  have hw2 := (wpRun_iff_run _ _ _ _ _).mp hw
  cases hr : (fl_row.resume 1 #[] (.returned (some (.double r)))).run e S with
  | ok v s₂ as => rw [hr] at hw2; obtain ⟨rfl, rfl⟩ := hw2; exact ⟨_, rfl⟩
  | ctl x s₂ as => rw [hr] at hw2; cases x <;> exact hw2.elim
theorem fl_thread {tb : Tables} {e : Env} {s : State} {f : NFrame} {rest : List Frame} {k : Class} {x : Method} {row : NativeRow} {o : Outcome}
    (hf : s.frames = .native f :: rest) (hk : s.vm.classes[f.method.cls]? = some k) (hboot : k.loader = none) (hx : k.methods[f.method.idx]? = some x)
    (hrow : NativeRow.find? tb.natives k.name x.name x.desc = some row) (ha : f.answer = some o) : stepThread tb e s = afterNative e f rest ((row.resume f.stage f.saved o).run e s) := by
  unfold stepThread
  simp only [hf, hk, hx, hrow, ha, hboot, Option.bind_eq_bind, Option.bind_some, Option.pure_def, Option.isNone_none, if_true]
theorem fl_end {l : Launch} {p : Program} {e : Env} (hadm : l.admits e) (hcas : FairCas e.choices) (hclk : FairClock e.choices) {below : List Frame} {s : State} {g : JFrame} {c : Code} (h : At s g.method c below) {m : MethodId} {k : Class} {x : Method} {cm : Code} {b r : UInt64}
    (N : ov_M s.vm m k x cm "floor" "(D)D" 1 2) (hroom : e.platform.stackFull (((s.setTop g).threads[(s.setTop g).cur]?).getD { frames := [] }) (s.setTop g).frames 2 = false)
    {cS : ClassId} {kS : Class} {i : Nat} (hfS : s.vm.findClass "java/lang/StrictMath" = some cS) (hkS : s.vm.classes[cS]? = some kS) (hiS : kS.init = .initialized) (hmS : kS.findMethod "floor" "(D)D" = some i)
    {y : MethodName} {ws : List Cond} {rm : Room} {Pc : Array Value → State → Prop} (hM : Met l y ws rm Pc (PQ (some (.double r))) 0 0 (fun _ => False))
    (happ : (headSpec ws rm).appliesLoose y e.platform ((s.setFrames (.native (fl_N m b) :: .java g :: s.frames.tail)).pushFrame (.invoking ⟨cS, i⟩ #[.double b])) = true) (hP : Pc #[.double b] ((s.setFrames (.native (fl_N m b) :: .java g :: s.frames.tail)).pushFrame (.invoking ⟨cS, i⟩ #[.double b])))
    (hn : vf_n64 r) {ig : Instr} {len : Nat} (hdg : decode c.code g.pc = .ok (ig, len)) :
    ∃ s₂ : State, FrameEnd ((s.setFrames (.native (fl_N m b) :: .java g :: s.frames.tail)).pushFrame (.invoking ⟨cS, i⟩ #[.double b])) (.returned (some (.double r))) s₂ [] 0 0 ∧ s₂.heap = s.heap ∧
      ∀ acts : List Action, Steps p.tables e below (doInvoke e (s.setTop g) acts m #[.double b]).1 (s₂.setFrames (.java { g with pc := g.pc + len, stack := .double r :: g.stack } :: s.frames.tail)) := by
  obtain ⟨mid, hmid⟩ := h.above
  obtain ⟨g0, hg⟩ := Option.isSome_iff_exists.mp h.top
  obtain ⟨q, hr⟩ := State.topJava?_eq_some.mp hg
  have hcur : s.cur < s.threads.size := State.cur_lt_of_frames hr
  have htail : s.frames.tail = q := by rw [hr]; rfl
  rw [htail] at happ hP hmid ⊢
  have N0 := N
  obtain ⟨hk, hx, hboot, hkn, hmn, hmd, hpar, hst, hc, hl, hml⟩ := N0
  have hm : (s.setTop g).vm.method? m = some x := by
    show s.vm.method? m = some x
    simp [Vm.method?, hk, hx]
  have hU : (s.setTop g).pushFrame (.java { method := m, pc := 0, locals := argsToLocals #[.double b] 2, stack := [], locked := none }) = s.setFrames (.java { method := m, pc := 0, locals := argsToLocals #[.double b] 2, stack := [], locked := none } :: .java g :: q) := by
    rw [State.pushFrame, State.setTop_of_frames _ hr, State.frames_setFrames _ hcur, State.setFrames_setFrames]
  have hf1 : (s.setFrames (.java { method := m, pc := 0, locals := argsToLocals #[.double b] 2, stack := [], locked := none } :: .java g :: q)).frames = .java { method := m, pc := 0, locals := argsToLocals #[.double b] 2, stack := [], locked := none } :: .java g :: q := State.frames_setFrames _ hcur
  obtain ⟨as2, hr2⟩ := fl_asks b e (s.setFrames (.native { method := m, args := #[.double b] } :: .java g :: q)) (cS := cS) (kS := kS) (i := i) hfS hkS hiS hmS
  have hstep2 : (stepThread p.tables e (s.setFrames (.java { method := m, pc := 0, locals := argsToLocals #[.double b] 2, stack := [], locked := none } :: .java g :: q))).1 = (doInvoke e (s.setFrames (.native (fl_N m b) :: .java g :: q)) as2 ⟨cS, i⟩ #[.double b]).1 := by
    rw [ov_thread (f := { method := m, pc := 0, locals := argsToLocals #[.double b] 2, stack := [], locked := none }) hf1 rfl (k := k) (x := x) (cm := cm) N (fl_find p) (ov_givenD b 2), State.setFrames_setFrames]
    show (afterNative e { method := m, args := #[.double b] } (.java g :: q) ((fl_row.sem #[.double b]).run e (s.setFrames (.native { method := m, args := #[.double b] } :: .java g :: q)))).1 = _
    rw [hr2]
    have hw3 : ((s.vm.classes[m.cls]?).bind fun k => Option.map (fun n => upcallWords k.name n.name) k.methods[m.idx]?).getD 0 = 0 := by simp [hk, hx, hkn, hmn, upcallWords]
    simp [afterNative, hw3, State.setFrames_setFrames]
  have hfN : (s.setFrames (.native (fl_N m b) :: .java g :: q)).frames = (.native (fl_N m b) :: .java g :: mid) ++ below := by rw [State.frames_setFrames _ hcur, hmid]; rfl
  obtain ⟨o, s₂, hsteps, hrun2, hend, ⟨ho, hh2⟩, L, hfe, hL⟩ := Steps.callFree hM p hadm hcas hclk (s := (s.setFrames (.native (fl_N m b) :: .java g :: q))) (m := ⟨cS, i⟩) (args := #[.double b]) (acts := as2) hfN happ hP trivial
  subst ho
  have hL0 : L = [] := by
    cases L with
    | nil => rfl
    | cons a L => exact (hL a List.mem_cons_self).elim
  subst hL0
  rw [State.frames_setFrames _ hcur] at hend
  replace hend : s₂.frames = .native (fl_B m b r) :: .java g :: q := hend
  refine ⟨s₂, hfe, hh2, fun acts => ?_⟩
  rw [(doInvoke_java (s := s.setTop g) (e := e) (acts := acts) (args := #[.double b]) hm hc hl (by rw [hml]; exact hroom)).1, hml, hU]
  refine Steps.head ⟨h.running, by simpa using h.runnable, by simpa using h.alone⟩ ⟨.java { method := m, pc := 0, locals := argsToLocals #[.double b] 2, stack := [], locked := none } :: .java g :: mid, by rw [hf1, hmid]; rfl, by simp, by simp⟩ ?_
  rw [hstep2]
  refine hsteps.trans ?_
  obtain ⟨-, hW₂, e2, -⟩ := id hfe
  have hal : s.vm.Alike s₂.vm := hW₂.alike
  obtain ⟨k', hk', ek⟩ := hal.2.2 _ _ hk
  obtain ⟨as3, hr3⟩ := fl_hands hn e s₂
  have hcode2 : s₂.code? g.method = some c := by
    have h1 : s₂.code? g.method = s.code? g.method := by rw [State.code?_eq, State.code?_eq, hal.method?]
    rw [h1]; exact h.code
  have hfs : handOver s₂ (some (.double r)) (.java g :: q) = some (.java { g with pc := g.pc + len, stack := .double r :: g.stack } :: q) := by
    simp [handOver, hcode2, hdg, Except.toOption]
  have hstep4 : (stepThread p.tables e s₂).1 = s₂.setFrames (.java { g with pc := g.pc + len, stack := .double r :: g.stack } :: q) := by
    rw [fl_thread (f := fl_B m b r) (o := .returned (some (.double r))) hend hk' (by rw [ek]; exact hboot) (x := x) (by rw [ek]; exact hx) (by rw [ek]; show NativeRow.find? _ k.name _ _ = _; rw [hkn, hmn, hmd]; exact fl_find p) rfl]
    show (afterNative e _ _ ((fl_row.resume 1 #[] (.returned (some (.double r)))).run e s₂)).1 = _
    rw [hr3]
    exact doReturn_native (f := fl_B m b r) hend rfl hfs
  have hcs : s₂.curStatus? = some .runnable := by
    have h1 : s₂.curStatus? = ({ s₂ with vm := ((s.setFrames (.native (fl_N m b) :: .java g :: q)).pushFrame (.invoking ⟨cS, i⟩ #[.double b])).vm } : State).curStatus? := rfl
    rw [h1, e2]
    show (((s.setFrames (.native (fl_N m b) :: .java g :: q)).pushFrame (.invoking ⟨cS, i⟩ #[.double b])).setFrames _).curStatus? = _
    simpa [State.pushFrame] using h.runnable
  have hal2 : s₂.alone = true := by
    have h1 : s₂.alone = ({ s₂ with vm := ((s.setFrames (.native (fl_N m b) :: .java g :: q)).pushFrame (.invoking ⟨cS, i⟩ #[.double b])).vm } : State).alone := rfl
    rw [h1, e2]
    show (((s.setFrames (.native (fl_N m b) :: .java g :: q)).pushFrame (.invoking ⟨cS, i⟩ #[.double b])).setFrames _).alone = _
    simpa [State.pushFrame] using h.alone
  refine Steps.head ⟨hrun2, hcs, hal2⟩ ⟨.native (fl_B m b r) :: .java g :: mid, by rw [hend, hmid]; rfl, by simp, by simp⟩ ?_
  rw [hstep4]
  exact Steps.refl _
theorem fl_bytes (s : State) (F : List Frame) : (s.setFrames F).me.stackBytes = s.me.stackBytes := by
  unfold State.me State.setFrames
  simp only [Array.getElem?_modify]
  cases s.threads[s.cur]? <;> simp
theorem fl_room {s : State} {pl : Platform} {m : MethodId} {a : Array Value} {nf : NFrame} {g : JFrame} {r : List Frame} {F L C Sl : Nat} (hcur : s.cur < s.threads.size) (hw : nf.words ≤ 1024)
    (h : (s.setFrames (.invoking m a :: .java g :: r)).hasRoom pl { frames := F + 1, locals := L + 1024, cells := C, slots := Sl } = true) : (s.setFrames (.invoking m a :: .native nf :: .java g :: r)).hasRoom pl { frames := F, locals := L, cells := C, slots := Sl } = true := by
  have hwt : Frame.weight (.native nf) = 1024 := by show max nf.words vmFrameWords = 1024; unfold vmFrameWords; omega
  simp only [State.hasRoom, Bool.and_eq_true, decide_eq_true_eq, State.frames_setFrames _ hcur, State.stackLimits_setFrames, fl_bytes, State.localsInUse, stackWeight, List.map_cons, List.sum_cons, List.length_cons, hwt] at h ⊢
  obtain ⟨⟨⟨⟨a0, a1, a2, a3, a4, a5⟩, b1⟩, c1⟩, d1⟩ := h
  refine ⟨⟨⟨⟨?_, by omega, by omega, ?_, ?_, a5⟩, b1⟩, c1⟩, d1⟩
  all_goals
    have e : (s.setFrames (.invoking m a :: .native nf :: .java g :: r)).vm = (s.setFrames (.invoking m a :: .java g :: r)).vm := rfl
    rw [e]; omega
theorem fk_nan {x : UInt64} (h : dfin x.toNat) : FP.dIsNaN x = false := by
  obtain ⟨c, q, h2, -⟩ := dec_fin (UInt64.toNat_lt x) h
  show decide (FP.Core.decode FP.Core.b64 x.toNat = .nan) = false
  rw [h2]
  exact decide_eq_false (fun z => by cases z)
section OV
variable {p : Program} {l : Launch} {e : Env} {R : Room} {s : State} {m : MethodId} {args : Array Value} {below : List Frame} {meth : Method} {c : Code} {H : Heap} {locs : List Loc} {cells slots : Nat} {Q : State → Prop}
variable {cc bytes : ByteArray} {pc index maxL nL : Nat} {ls : Array Slot} {rest : List Value} {D : DD} {ret ret0 : Option FieldType} {y0 : MethodName}
/-- such a call at a walk's place -/
theorem ov_call (hC : Cx p s m args meth c y0 cc nL ret0) {nm ds : String} {np nP : Nat} {ret' : Option FieldType} {ps : List FieldType} {row : NativeRow} (argsL : List Value) {v : Value} (hdesc : parseMethodDescriptor ds = some { parameters := ps, returnType := ret' }) (hps : ps.length = np)
    (hrow : NativeRow.find? p.tables.natives "java/lang/Math" nm ds = some row) (hrun : ∀ S : State, ∃ as, (row.sem argsL.toArray).run e S = .ok (some v) S as) (hA : ov_given (argsToLocals argsL.toArray nP) np = argsL.toArray) (hlen : argsL.length = np)
    (h1 : Cond.methodLink y0.cls index ⟨"java/lang/Math", nm, ds⟩ ∈ lw_all) (h2 : Cond.static ⟨"java/lang/Math", nm, ds⟩ ∈ lw_all) (h3 : Cond.initialized "java/lang/Math" ∈ lw_all) (h4 : Cond.code ⟨"java/lang/Math", nm, ds⟩ bytes nP ret ∈ lw_all) (hl : ls.size = nL) (hR : 1 ≤ R.frames ∧ (rest.map fun v => v.category).sum + (nP + 11) ≤ R.locals) (hdg : decode cc pc = .ok (.invokestatic index, 3))
    {st : List Value} (hst : st = argsL.reverse ++ rest)
    (kk : W p l e R s m args below meth c H locs cells slots Q (F0 m (pc + 3) ls (v :: rest))) : W p l e R s m args below meth c H locs cells slots Q (F0 m pc ls st) := by
  obtain ⟨hexec, hb, -, -, hml, hown, hts, -⟩ := hC
  obtain ⟨r, kS, x, cm, hnamed, N⟩ := ov_M.of (hts _ h4) (hts _ h2) hdesc hps
  have hinit : kS.init = .initialized := Cond.initialized_spec (findClass_of_methodNamed hnamed) N.1 (hts _ h3)
  have hmeth : s.vm.method? r = some x := by simp [Vm.method?, N.1, N.2.1]
  intro T hT X
  obtain ⟨vm', X', step⟩ := X.invokestatic hexec hown (hts _ h1) hnamed hmeth N.2.2.2.2.2.2.2.1 N.1 hinit ⟨show "java/lang/Math" ≠ _ by decide, show "java/lang/Math" ≠ _ by decide⟩ (g := F0 m pc ls st) rfl (argsL := argsL) (rest := rest) (by rw [N.2.2.2.2.2.2.1]; exact hlen) hst (by rw [hb]; exact hdg)
  obtain ⟨t, a1, b1⟩ := kk (T.setVm vm') hT X'
  refine ⟨t, step t fun acts => ?_, b1⟩
  obtain ⟨k', N'⟩ := N.alike X'.warmed.alike
  exact ov_end (g := F0 m pc ls rest) X'.here acts N' hrow (X'.notFull (g := F0 m pc ls rest) (by show ls.size = _; rw [hml, hl]) hR.1 (by show 2 * 0 + (rest.map fun v => v.category).sum + _ ≤ _; omega)) hA hrun (by show decode c.code pc = _; rw [hb]; exact hdg) a1
set_option maxRecDepth 100000 in
theorem r_dabs (hC : Cx p s m args meth c y0 cc nL ret0) {x v : UInt64} (hv : v = x &&& 9223372036854775807) (hn : vf_n64 v) (h1 : Cond.methodLink y0.cls index yJ12_abs ∈ lw_all) (h2 : Cond.static yJ12_abs ∈ lw_all) (h3 : Cond.initialized "java/lang/Math" ∈ lw_all) (h4 : Cond.code yJ12_abs cJ12_abs 2 (some .double) ∈ lw_all) (hl : ls.size = nL) (hW : (rest.map fun v => v.category).sum ≤ 8) (hR : 1 ≤ R.frames ∧ 32 ≤ R.locals) (hdg : decode cc pc = .ok (.invokestatic index, 3))
    (kk : W p l e R s m args below meth c H locs cells slots Q (F0 m (pc + 3) ls (.double v :: rest))) : W p l e R s m args below meth c H locs cells slots Q (F0 m pc ls (.double x :: rest)) := by
  have hrow : NativeRow.find? p.tables.natives "java/lang/Math" "abs" "(D)D" = some ((Native.java_lang_Math.nans.rows.drop 9).head (by decide)) := by cases p <;> rfl
  refine ov_call hC [.double x] (v := .double v) (ps := [.double]) (ret' := some .double) (nP := 2) (np := 1) (by decide +kernel) rfl hrow (fun S => ?_) (ov_givenD x 2) rfl h1 h2 h3 h4 hl ⟨hR.1, by omega⟩ hdg rfl kk
  have hsem : ((Native.java_lang_Math.nans.rows.drop 9).head (by decide)).sem #[.double x] = (do
      let r ← anyNaN64 (x &&& 0x7fffffffffffffff)
      mark "nat.java_lang_Math.abs"
      Pure.pure (some (.double r))) := rfl
  have hn2 : (x &&& 0x7fffffffffffffff) &&& 0x7fffffffffffffff ≤ 0x7ff0000000000000 := by
    have hn3 : v &&& 0x7fffffffffffffff ≤ 0x7ff0000000000000 := hn
    rw [hv] at hn3; exact hn3
  have hw : wpRun (((Native.java_lang_Math.nans.rows.drop 9).head (by decide)).sem #[.double x]) (fun o s₂ _ => o = some (.double v) ∧ s₂ = S) (fun _ _ _ => False) e S := by
    rw [hsem, hv]
    simp [jvm, wpRun, anyNaN64, hn2]
  have hw2 := (wpRun_iff_run _ _ _ _ _).mp hw
  show ∃ as, (((Native.java_lang_Math.nans.rows.drop 9).head (by decide)).sem #[.double x]).run e S = .ok (some (.double v)) S as
  cases hr : (((Native.java_lang_Math.nans.rows.drop 9).head (by decide)).sem #[.double x]).run e S with
  | ok w s₂ as => rw [hr] at hw2; obtain ⟨rfl, rfl⟩ := hw2; exact ⟨as, rfl⟩
  | ctl q s₂ as => rw [hr] at hw2; cases q <;> exact hw2.elim
set_option maxRecDepth 100000 in
theorem r_dmax (hC : Cx p s m args meth c y0 cc nL ret0) {x y v : UInt64} (hv : v = Native.java_lang_Math.nans.pick64 true x y) (hnx : dfin x.toNat) (hny : dfin y.toNat) (h1 : Cond.methodLink y0.cls index yJ12_max_2 ∈ lw_all) (h2 : Cond.static yJ12_max_2 ∈ lw_all) (h3 : Cond.initialized "java/lang/Math" ∈ lw_all) (h4 : Cond.code yJ12_max_2 cJ12_max_2 4 (some .double) ∈ lw_all) (hl : ls.size = nL) (hW : (rest.map fun v => v.category).sum ≤ 8) (hR : 1 ≤ R.frames ∧ 32 ≤ R.locals) (hdg : decode cc pc = .ok (.invokestatic index, 3))
    (kk : W p l e R s m args below meth c H locs cells slots Q (F0 m (pc + 3) ls (.double v :: rest))) : W p l e R s m args below meth c H locs cells slots Q (F0 m pc ls (.double y :: .double x :: rest)) := by
  have hrow : NativeRow.find? p.tables.natives "java/lang/Math" "max" "(DD)D" = some ((Native.java_lang_Math.nans.rows.drop 3).head (by decide)) := by cases p <;> rfl
  refine ov_call hC [.double x, .double y] (v := .double v) (ps := [.double, .double]) (ret' := some .double) (nP := 4) (np := 2) (by decide +kernel) rfl hrow (fun S => ?_) (ov_givenDD x y 4) rfl h1 h2 h3 h4 hl ⟨hR.1, by omega⟩ hdg rfl kk
  have hsem : ((Native.java_lang_Math.nans.rows.drop 3).head (by decide)).sem #[.double x, .double y] = (do
      let r ← if FP.dIsNaN x then anyNaN64 x else if FP.dIsNaN y then anyNaN64 y else Pure.pure (Native.java_lang_Math.nans.pick64 true x y)
      mark "nat.java_lang_Math.max"
      Pure.pure (some (.double r))) := rfl
  have ex : FP.dIsNaN x = false := fk_nan hnx
  have ey : FP.dIsNaN y = false := fk_nan hny
  have hw : wpRun (((Native.java_lang_Math.nans.rows.drop 3).head (by decide)).sem #[.double x, .double y]) (fun o s₂ _ => o = some (.double v) ∧ s₂ = S) (fun _ _ _ => False) e S := by
    rw [hsem, hv]
    simp [jvm, wpRun, ex, ey]
  have hw2 := (wpRun_iff_run _ _ _ _ _).mp hw
  show ∃ as, (((Native.java_lang_Math.nans.rows.drop 3).head (by decide)).sem #[.double x, .double y]).run e S = .ok (some (.double v)) S as
  cases hr : (((Native.java_lang_Math.nans.rows.drop 3).head (by decide)).sem #[.double x, .double y]).run e S with
  | ok w s₂ as => rw [hr] at hw2; obtain ⟨rfl, rfl⟩ := hw2; exact ⟨as, rfl⟩
  | ctl q s₂ as => rw [hr] at hw2; cases q <;> exact hw2.elim
set_option maxRecDepth 100000 in
theorem r_dmin (hC : Cx p s m args meth c y0 cc nL ret0) {x y v : UInt64} (hv : v = Native.java_lang_Math.nans.pick64 false x y) (hnx : dfin x.toNat) (hny : dfin y.toNat) (h1 : Cond.methodLink y0.cls index yJ12_min_2 ∈ lw_all) (h2 : Cond.static yJ12_min_2 ∈ lw_all) (h3 : Cond.initialized "java/lang/Math" ∈ lw_all) (h4 : Cond.code yJ12_min_2 cJ12_min_2 4 (some .double) ∈ lw_all) (hl : ls.size = nL) (hW : (rest.map fun v => v.category).sum ≤ 8) (hR : 1 ≤ R.frames ∧ 32 ≤ R.locals) (hdg : decode cc pc = .ok (.invokestatic index, 3))
    (kk : W p l e R s m args below meth c H locs cells slots Q (F0 m (pc + 3) ls (.double v :: rest))) : W p l e R s m args below meth c H locs cells slots Q (F0 m pc ls (.double y :: .double x :: rest)) := by
  have hrow : NativeRow.find? p.tables.natives "java/lang/Math" "min" "(DD)D" = some ((Native.java_lang_Math.nans.rows.drop 5).head (by decide)) := by cases p <;> rfl
  refine ov_call hC [.double x, .double y] (v := .double v) (ps := [.double, .double]) (ret' := some .double) (nP := 4) (np := 2) (by decide +kernel) rfl hrow (fun S => ?_) (ov_givenDD x y 4) rfl h1 h2 h3 h4 hl ⟨hR.1, by omega⟩ hdg rfl kk
  have hsem : ((Native.java_lang_Math.nans.rows.drop 5).head (by decide)).sem #[.double x, .double y] = (do
      let r ← if FP.dIsNaN x then anyNaN64 x else if FP.dIsNaN y then anyNaN64 y else Pure.pure (Native.java_lang_Math.nans.pick64 false x y)
      mark "nat.java_lang_Math.min"
      Pure.pure (some (.double r))) := rfl
  have ex : FP.dIsNaN x = false := fk_nan hnx
  have ey : FP.dIsNaN y = false := fk_nan hny
  have hw : wpRun (((Native.java_lang_Math.nans.rows.drop 5).head (by decide)).sem #[.double x, .double y]) (fun o s₂ _ => o = some (.double v) ∧ s₂ = S) (fun _ _ _ => False) e S := by
    rw [hsem, hv]
    simp [jvm, wpRun, ex, ey]
  have hw2 := (wpRun_iff_run _ _ _ _ _).mp hw
  show ∃ as, (((Native.java_lang_Math.nans.rows.drop 5).head (by decide)).sem #[.double x, .double y]).run e S = .ok (some (.double v)) S as
  cases hr : (((Native.java_lang_Math.nans.rows.drop 5).head (by decide)).sem #[.double x, .double y]).run e S with
  | ok w s₂ as => rw [hr] at hw2; obtain ⟨rfl, rfl⟩ := hw2; exact ⟨as, rfl⟩
  | ctl q s₂ as => rw [hr] at hw2; cases q <;> exact hw2.elim
theorem r_dfloor (hC : Cx p s m args meth c y0 cc nL ret0) (hS : St D s H locs) {x r : UInt64} {FRf LOf : Nat} (hM : MP l D yJ6_floor cJ6_floor 2 (some .double) FRf LOf [.double x] NoPre (some (.double r))) (hn : vf_n64 r) (h1 : Cond.methodLink y0.cls index yJ12_floor ∈ lw_all) (h2 : Cond.static yJ12_floor ∈ lw_all) (h3 : Cond.initialized "java/lang/Math" ∈ lw_all) (h4 : Cond.code yJ12_floor cJ12_floor 2 (some .double) ∈ lw_all) (hl : ls.size = nL) (hW : (rest.map fun v => v.category).sum ≤ 8) (hcs : cells ≤ R.cells ∧ slots ≤ R.slots) (hR : FRf + 2 ≤ R.frames ∧ LOf + 1200 ≤ R.locals) (hdg : decode cc pc = .ok (.invokestatic index, 3))
    (kk : W p l e R s m args below meth c H locs cells slots Q (F0 m (pc + 3) ls (.double r :: rest))) : W p l e R s m args below meth c H locs cells slots Q (F0 m pc ls (.double x :: rest)) := by
  obtain ⟨hexec, hb, -, -, hml, hown, hts, -⟩ := hC
  obtain ⟨q0, kM, x0, cm, hnamed, N⟩ := ov_M.of (nm := "floor") (ds := "(D)D") (ps := [.double]) (ret' := some .double) (np := 1) (hts _ h4) (hts _ h2) (by decide +kernel) rfl
  have hinit : kM.init = .initialized := Cond.initialized_spec (findClass_of_methodNamed hnamed) N.1 (hts _ h3)
  have hmeth : s.vm.method? q0 = some x0 := by simp [Vm.method?, N.1, N.2.1]
  intro T hT X
  obtain ⟨vm', X', step⟩ := X.invokestatic hexec hown (hts _ h1) hnamed hmeth N.2.2.2.2.2.2.2.1 N.1 hinit (by decide) (g := F0 m pc ls (.double x :: rest)) rfl (argsL := [.double x]) (rest := rest) (by rw [N.2.2.2.2.2.2.1]; rfl) rfl (by rw [hb]; exact hdg)
  obtain ⟨U, eU⟩ : ∃ U : State, U = T.setVm vm' := ⟨_, rfl⟩
  rw [← eU] at X' step
  have hUh : U.heap = H := by rw [eU]; exact hT
  obtain ⟨k', N'⟩ := N.alike X'.warmed.alike
  have hws : ∀ w ∈ ws_ yJ6_floor cJ6_floor 2 (some .double), ∀ a' V, s.WarmedH V.vm → w.before a' V = true := pay_in hts (lw_meth q277)
  have hCS : (Cond.code yJ6_floor cJ6_floor 2 (some .double)).before #[.double x] U = true := hws _ List.mem_cons_self _ _ X'.warmed
  obtain ⟨mS, hnS⟩ := Cond.named_of_code hCS
  obtain ⟨methS, cSd, hmethS, hcodeS, -, hlocS, -, -, -, -⟩ := Cond.code_spec hnS hCS
  obtain ⟨kS, hkS, -⟩ := className_of_methodNamed hnS
  have hfS : U.vm.findClass "java/lang/StrictMath" = some mS.cls := findClass_of_methodNamed hnS
  have hiS : kS.init = .initialized := Cond.initialized_spec hfS hkS (hws _ (List.mem_cons_of_mem _ q47) #[.double x] U X'.warmed)
  have hmS : kS.findMethod "floor" "(D)D" = some mS.idx := by
    have h := hnS
    simp only [State.methodNamed?, Option.bind_eq_bind, Option.pure_def] at h
    rw [show yJ6_floor.cls = "java/lang/StrictMath" from rfl, hfS] at h
    simp only [Option.bind_some, hkS] at h
    cases hfm : kS.findMethod yJ6_floor.name yJ6_floor.desc with
    | none => rw [hfm] at h; cases h
    | some j => rw [hfm] at h; simp at h; rw [← h]; exact hfm
  have hAt := X'.here
  obtain ⟨g0, hg0⟩ := Option.isSome_iff_exists.mp hAt.top
  obtain ⟨q, hr⟩ := State.topJava?_eq_some.mp hg0
  have hcur : U.cur < U.threads.size := State.cur_lt_of_frames hr
  have htail : U.frames.tail = q := by rw [hr]; rfl
  have hsize : (F0 m pc ls rest).locals.size = c.maxLocals := by show ls.size = _; rw [hml, hl]
  have eF : (U.setFrames (.native (fl_N q0 x) :: .java (F0 m pc ls rest) :: U.frames.tail)).pushFrame (.invoking ⟨mS.cls, mS.idx⟩ #[.double x]) = U.setFrames (.invoking mS #[.double x] :: .native (fl_N q0 x) :: .java (F0 m pc ls rest) :: q) := by
    rw [State.pushFrame, State.frames_setFrames _ hcur, State.setFrames_setFrames, htail]
  have hc0 : cells ≤ R.cells := hcs.1
  have hroomS : (U.calling (F0 m pc ls rest) mS #[.double x]).hasRoom e.platform { frames := FRf + 1, locals := LOf + 1024, cells := 0, slots := 0 } = true :=
    X'.room_calling hsize hmethS hcodeS (R' := { frames := FRf + 1, locals := LOf + 1024, cells := 0, slots := 0 }) (by show FRf + 1 + 1 ≤ R.frames; omega) (by rw [hlocS]; show 2 * 0 + (rest.map fun v => v.category).sum + _ + _ ≤ _; show 2 * 0 + (rest.map fun v => v.category).sum + (2 + 11) + (LOf + 1024) ≤ R.locals; omega) (by show cells + 0 ≤ R.cells; omega) (by show slots + 0 ≤ R.slots; have := hcs.2; omega)
  rw [State.calling_eq hAt.top, htail] at hroomS
  have happ : (headSpec (ws_ yJ6_floor cJ6_floor 2 (some .double)) { frames := FRf, cells := 0, slots := 0, locals := LOf }).appliesLoose yJ6_floor e.platform ((U.setFrames (.native (fl_N q0 x) :: .java (F0 m pc ls rest) :: U.frames.tail)).pushFrame (.invoking ⟨mS.cls, mS.idx⟩ #[.double x])) = true := by
    rw [eF]
    refine (Spec.appliesLoose_iff (State.frames_setFrames _ hcur)).mpr ⟨hAt.running, by simpa using hAt.runnable, by simpa using hAt.alone, hnS, rfl, State.classRipe_of (s := U.setFrames _) hkS hiS, fl_room hcur (Nat.zero_le _) hroomS, ?_⟩
    rw [Cond.before_setFrames]
    exact atoms_intro fun w hw => hws w hw _ _ X'.warmed
  obtain ⟨s₂, hfe, hh2, hsteps⟩ := fl_end (p := p) X.admits X.cas X.clock (below := below) (g := F0 m pc ls rest) (c := c) hAt (m := q0) (b := x) (r := r) N' (X'.notFull (g := F0 m pc ls rest) hsize (by omega) (by show 2 * 0 + (rest.map fun v => v.category).sum + (2 + 11) ≤ _; omega))
    hfS hkS hiS hmS hM happ (tp_of hS trivial _ (by show U.heap = H; exact hUh) (by exact X'.warmed)) hn (by show decode c.code pc = _; rw [hb]; exact hdg)
  obtain ⟨-, hW₂, e2, q2, q3, q4, q5, q6⟩ := id hfe
  have hW' : U.WarmedH s₂.vm := hW₂
  have e3 : s₂ = ({ U.setFrames s₂.frames with heap := s₂.heap, slotsUsed := s₂.slotsUsed } : State).setVm s₂.vm := by
    have h1 : s₂ = ({ s₂ with vm := ((U.setFrames (.native (fl_N q0 x) :: .java (F0 m pc ls rest) :: U.frames.tail)).pushFrame (.invoking ⟨mS.cls, mS.idx⟩ #[.double x])).vm } : State).setVm s₂.vm := rfl
    rw [e2, eF, State.setFrames_setFrames] at h1
    exact h1
  have hs₂ : s₂.setFrames (.java (F0 m (pc + 3) ls (.double r :: rest)) :: U.frames.tail) = (({ U with heap := s₂.heap, slotsUsed := s₂.slotsUsed } : State).setVm s₂.vm).setTop (F0 m (pc + 3) ls (.double r :: rest)) := by
    have hr' : (({ U with heap := s₂.heap, slotsUsed := s₂.slotsUsed } : State).setVm s₂.vm).frames = .java g0 :: q := hr
    rw [State.setTop_of_frames _ hr', htail]
    conv => lhs; rw [e3]
    have e4 : ∀ F G : List Frame, (({ U.setFrames F with heap := s₂.heap, slotsUsed := s₂.slotsUsed } : State).setVm s₂.vm).setFrames G = (({ U with heap := s₂.heap, slotsUsed := s₂.slotsUsed } : State).setVm s₂.vm).setFrames G := fun F G => by
      show ({ (U.setFrames F).setFrames G with heap := s₂.heap, slotsUsed := s₂.slotsUsed } : State).setVm s₂.vm = _
      rw [State.setFrames_setFrames]; rfl
    exact e4 _ _
  have hsame : U.sameButNew ({ U with heap := s₂.heap, slotsUsed := s₂.slotsUsed } : State) [] 0 0 := by
    refine ⟨?_, q2, q3, q4, q5, q6⟩
    obtain ⟨t, ht, -⟩ := State.frames_cons hr
    show ({ U with heap := s₂.heap, slotsUsed := s₂.slotsUsed } : State) = { U.setFrames U.frames with heap := s₂.heap, slotsUsed := s₂.slotsUsed }
    rw [State.setFrames_self ht]
  have X2 : Stand p l e R s m args below meth c (({ U with heap := s₂.heap, slotsUsed := s₂.slotsUsed } : State).setVm s₂.vm) (locs ++ []) (cells + 0) (slots + 0) :=
    ⟨X.admits, X.cas, X.clock, X'.frames, X'.room, X'.hears, X'.method, X'.code, (X'.here.setHeapUsed s₂.heap s₂.slotsUsed).setVm hW'.alike, X'.tail, State.WarmedH.trans X'.warmed hW', X'.limits, X'.bytes, X'.same.trans (hsame.setVm s.vm)⟩
  rw [List.append_nil] at X2
  obtain ⟨t, a1, b1⟩ := kk _ (by show s₂.heap = H; rw [hh2]; exact hUh) X2
  refine ⟨t, step t fun acts => (hsteps acts).trans ?_, b1⟩
  rw [hs₂]
  exact a1
end OV
