/-! methods that throw: an exception of class 6 (IndexOutOfBounds) or 7 (IllegalArgument); nothing that was there has changed -/
def xN (k : Nat) : String := if k = 6 then "java/lang/IndexOutOfBoundsException" else "java/lang/IllegalArgumentException"
def XQ (D : DD) (k : Nat) : String → State → State → Prop := fun E st t => E = xN k ∧ st.heap.size ≤ t.heap.size ∧ ∀ q : Nat, q < st.heap.size → t.heap[q]? = st.heap[q]?
abbrev NoRet : Array Value → State → Outcome → State → Prop := fun _ _ _ _ => False
def MX (l : Launch) (D : DD) (y : MethodName) (cc : ByteArray) (nL : Nat) (ret : Option FieldType) (fr lo : Nat) (av : List Value) (Pre : Heap → Prop) (k : Nat) : Prop :=
  vx_Met l y (ws_ y cc nL ret) { frames := fr, cells := 1, slots := 6, locals := lo } (TP D av Pre) NoRet (XQ D k) 1 6 (fun q => dB D ≤ q)
theorem MX.start {l : Launch} {D : DD} {y : MethodName} {cc : ByteArray} {nL : Nat} {ret : Option FieldType} {fr lo : Nat} {av : List Value} {Pre : Heap → Prop} {k : Nat} (hy : plainName y.cls = true) (hn : (lg_sl av).length ≤ nL)
    (body : ∀ (p : Program) (e : Env) (s : State) (m : MethodId) (below : List Frame) (meth : Method) (c : Code) (ls : Array Slot), Cx p s m av.toArray meth c y cc nL ret → (∀ x ∈ c.exceptionTable.toList, False) → St D s s.heap [] → Pre s.heap → lv_has ls nL (lv_args 0 av) →
      W p l e { frames := fr, cells := 1, slots := 6, locals := lo } s m av.toArray below meth c s.heap [] 0 0 (vx_MQ below NoRet (XQ D k) av.toArray s 1 6 (fun q => dB D ≤ q)) (F0 m 0 ls [])) : MX l D y cc nL ret fr lo av Pre k := by
  refine vx_ofW (cc := cc) (maxL := nL) (ret := ret) hy rfl ?_
  intro p e s m args below meth c s₁ B hml ht hv
  obtain ⟨rfl, hG, hp⟩ := hv
  have hts := atoms_spec (ws := ws_ y cc nL ret) B.pre
  have hl := lv_entry av hn
  rw [lg_entry_eq]
  exact body p e s m below meth c _ ⟨B.exec, B.bytes, B.returns, B.notSynchronized, hml, findClass_of_methodNamed B.named, fun w h => hts w (List.mem_cons_of_mem _ h), (name_of_methodNamed B.named B.method).1⟩ ht ⟨hG, Nat.le_refl _, fun _ h => by cases h⟩ hp hl
/-- a method with handlers that returns -/
def MTW (l : Launch) (D : DD) (y : MethodName) (cc : ByteArray) (nL : Nat) (ret : Option FieldType) (hh : List (Nat × Nat × Nat × Nat)) (fr lo mc ms : Nat) (av : List Value) (Pre : Heap → Prop) (Post : Heap → Option Value → Heap → Prop) : Prop :=
  Met l y (wsW_ y cc nL ret hh) { frames := fr, cells := mc, slots := ms, locals := lo } (TP D av Pre) (TQ D Post) mc ms (fun q => dB D ≤ q)
theorem met_of_vx {l : Launch} {y : MethodName} {ws : List Cond} {rm : Room} {Pc : Array Value → State → Prop} {Qc : Array Value → State → Outcome → State → Prop} {mc ms : Nat} {free : Addr → Prop} (h : vx_Met l y ws rm Pc Qc (fun _ _ _ => False) mc ms free) : Met l y ws rm Pc Qc mc ms free := by
  have e : vx_Q Qc (fun _ _ _ => False) mc ms free = (fun a st o t => Qc a st o t ∧ ∃ L, FrameEnd st o t L mc ms ∧ ∀ q ∈ L, free q.base) := by
    funext a st o t
    refine propext ⟨fun h => ?_, Or.inl⟩
    rcases h with h | ⟨q, -, E, ce, L, hf, -⟩
    · exact h
    · exact hf.elim
  unfold vx_Met at h
  rw [e] at h
  exact h
theorem MTW.start {l : Launch} {D : DD} {y : MethodName} {cc : ByteArray} {nL : Nat} {ret : Option FieldType} {hh : List (Nat × Nat × Nat × Nat)} {fr lo mc ms : Nat} {av : List Value} {Pre : Heap → Prop} {Post : Heap → Option Value → Heap → Prop} (hy : plainName y.cls = true) (hn : (lg_sl av).length ≤ nL)
    (body : ∀ (p : Program) (e : Env) (s : State) (m : MethodId) (below : List Frame) (meth : Method) (c : Code) (ls : Array Slot), Cx p s m av.toArray meth c y cc nL ret → c.exceptionTable.toList = tableOf hh → St D s s.heap [] → Pre s.heap → lv_has ls nL (lv_args 0 av) →
      W p l e { frames := fr, cells := mc, slots := ms, locals := lo } s m av.toArray below meth c s.heap [] 0 0 (MQ below (TQ D Post) av.toArray s mc ms (fun q => dB D ≤ q)) (F0 m 0 ls [])) : MTW l D y cc nL ret hh fr lo mc ms av Pre Post := by
  refine met_of_vx (vx_ofWH (cc := cc) (maxL := nL) (ret := ret) (hh := hh) hy rfl ?_)
  intro p e s m args below meth c s₁ B hml hv
  obtain ⟨rfl, hG, hp⟩ := hv
  have hts := atoms_spec (ws := wsW_ y cc nL ret hh) B.pre
  have hl := lv_entry av hn
  have htab := vx_table (x := y) B (hts _ List.mem_cons_self)
  rw [lg_entry_eq]
  exact vx_ret (body p e s m below meth c _ ⟨B.exec, B.bytes, B.returns, B.notSynchronized, hml, findClass_of_methodNamed B.named, fun w h => hts w (List.mem_cons_of_mem _ h), (name_of_methodNamed B.named B.method).1⟩ htab ⟨hG, Nat.le_refl _, fun _ h => by cases h⟩ hp hl)
/-- a word of the tables that the rows know at any state of the run -/
def xw (w : Cond) : Bool := goodWord w || (match w with | .declares _ => true | .castable _ _ => true | _ => false)
section KIT7
variable {p : Program} {l : Launch} {e : Env} {R : Room} {s : State} {m : MethodId} {args : Array Value} {below : List Frame} {meth : Method} {c : Code} {H : Heap} {locs : List Loc} {cells slots : Nat} {Q : State → Prop}
variable {cc bytes : ByteArray} {pc index maxL nL : Nat} {ls : Array Slot} {rest As st0 : List Value} {D : DD} {y : MethodName} {ret ret0 : Option FieldType} {fr lo mc ms : Nat} {Pre : Heap → Prop} {Qc : Array Value → State → Outcome → State → Prop} {XC : String → State → State → Prop} {free : Addr → Prop} {y0 : MethodName}
theorem tbl_at (hts : ∀ w ∈ lw_all, w.before args s = true) (hS : St D s H locs) {w : Cond} (hw : w ∈ lw_tbl) (h : xw w = true) : w.before args s = true := by
  by_cases g : goodWord w = true
  · exact hts w (List.mem_filter.mpr ⟨hw, g⟩)
  · unfold xw at h
    rw [Bool.or_eq_true] at h
    have h2 := h.resolve_left g
    cases w with
    | declares x => exact dcl_at hS hw
    | castable a b => exact cst_at hS hw
    | _ => first | cases h2 | (simp at h2)
theorem zq_at {n d : String} (hS : St D s s.heap []) (h : ZQ D n d) : vx_Zq Bundle.tN n d (fun q => dB D ≤ q) s s.heap := by
  have h2 : vx_Zq Bundle.tN n d (fun q => dB D ≤ q) D.1 D.1.heap := h
  exact vx_Zq.moved hS.1.alike (h2.kept fun a ha _ => hS.1.2.2.2 a ha)
/-- 'throw new E()' -/
theorem r_throw {k ik ic : Nat} {names : List String} (hC : Cx p s m args meth c y0 cc nL ret0) (hfl : l.stackTraces = false) (hout : ∀ x ∈ c.exceptionTable.toList, False) (hS : St D s s.heap [])
    (hcls : Bundle.fit (xN k) = true) (hnames : ∀ n ∈ names, Bundle.fit n = true) (hk : Cond.classLink y0.cls ik (xN k) ∈ lw_all) (hini : Cond.initialized (xN k) ∈ lw_all) (hat : ∀ w ∈ vx_at0 y0.cls ic (xN k) names, w ∈ lw_tbl ∧ xw w = true)
    (hgood : ∀ w ∈ Cond.classLink y0.cls ik (xN k) :: Cond.initialized (xN k) :: vx_at0 y0.cls ic (xN k) names, vx_ot w = true) (hl : ls.size = nL)
    (d0 : decode cc pc = .ok (.new ik, 3)) (d3 : decode cc (pc + 3) = .ok (.dup, 1)) (d4 : decode cc (pc + 4) = .ok (.invokespecial ic, 3)) (d7 : decode cc (pc + 7) = .ok (.athrow, 1))
    (hR : names.length + 3 < R.frames ∧ (rest.map fun v => v.category).sum + (13 * (names.length + 1) + 42) ≤ R.locals ∧ 1 ≤ R.cells ∧ 6 ≤ R.slots) :
    W p l e R s m args below meth c s.heap [] 0 0 (vx_MQ below NoRet (XQ D k) args s 1 6 (fun q => dB D ≤ q)) (F0 m pc ls rest) := by
  obtain ⟨hx, hb, -, hlk, hml, hown, hts, -⟩ := hC
  refine vx_throw0 hx hb hfl (A := fun q => dB D ≤ q) hown hcls hnames (hts _ hk) (hts _ hini) (fun w hw => tbl_at hts hS (hat w hw).1 (hat w hw).2) hgood (zq_at hS hS.1.1.2.2.2.2.2.2.1) (zq_at hS hS.1.1.2.2.2.2.2.2.2.1)
    ⟨Nat.le_refl _, fun _ _ _ => rfl, fun _ h => by cases h⟩ (by rw [hml]; exact hl) d0 d3 d4 d7 (fun x hx => (hout x hx).elim) hR.1 hR.2.1 (by omega) (by omega) hlk (fun t _ h1 h2 => ⟨rfl, h1, h2⟩) (fun _ h => by cases h) (Nat.le_refl _) (Nat.le_refl _)
theorem r_xS (hC : Cx p s m args meth c y0 cc nL ret0) (n : Nat) (hM : vx_Met l y (ws_ y bytes maxL ret) { frames := fr, cells := mc, slots := ms, locals := lo } (TP D As Pre) Qc XC mc ms free) (h1 : Cond.methodLink y0.cls index y ∈ lw_all) (h2 : Cond.static y ∈ lw_all) (h3 : Cond.initialized y.cls ∈ lw_all) (h4 : Cond.code y bytes maxL ret ∈ lw_all)
    (hd : Hd y n) (hn : As.length = n) (hR : fr + 1 ≤ R.frames ∧ 8 + (maxL + 11) + lo ≤ R.locals) (hS : St D s H locs) (hp : Pre H) (hl : ls.size = nL) (hst : st0 = As.reverse ++ rest) (hW : (rest.map fun v => v.category).sum ≤ 8) (hdg : decode cc pc = .ok (.invokestatic index, 3)) (hf : cells + mc ≤ R.cells ∧ slots + ms ≤ R.slots) :
    vx_Run p l e R s m args below meth c H locs cells slots mc ms (F0 m pc ls st0) rest (Qc As.toArray) XC free :=
  vx_runS (Ts := lw_all) (own := y0.cls) ⟨hC.1, hC.2.1, hC.2.2.2.2.1, hC.2.2.2.2.2.1, hC.2.2.2.2.2.2.1⟩ hM (va_cwS n hC.2.2.2.2.2.2.1 (lw_S h1 h2 h3 h4) rfl rfl rfl hd hR) ⟨TP.blind, tp_of hS hp⟩ rfl hn hl hst (lv_room hW) hdg hf
theorem r_xV (hC : Cx p s m args meth c y0 cc nL ret0) (n : Nat) {b : Nat} (hM : vx_Met l y (ws_ y bytes maxL ret) { frames := fr, cells := mc, slots := ms, locals := lo } (TP D (.ref b :: As) Pre) Qc XC mc ms free) (h1 : Cond.methodLink y0.cls index y ∈ lw_all) (h2 : Cond.instanceMethod y ∈ lw_all) (h5 : Cond.selects y.cls y y ∈ lw_all) (h3 : Cond.initialized y.cls ∈ lw_all) (h4 : Cond.code y bytes maxL ret ∈ lw_all)
    (hrecv : ∃ cellB : Cell, H[b]? = some cellB ∧ cellB.vm.isStatics = false ∧ s.vm.findClass y.cls = some cellB.cls)
    (hd : Hd y n) (hn : As.length = n) (hR : fr + 1 ≤ R.frames ∧ 8 + (maxL + 11) + lo ≤ R.locals) (hS : St D s H locs) (hp : Pre H) (hl : ls.size = nL) (hst : st0 = As.reverse ++ .ref b :: rest) (hW : (rest.map fun v => v.category).sum ≤ 8) (hdg : decode cc pc = .ok (.invokevirtual index, 3)) (hf : cells + mc ≤ R.cells ∧ slots + ms ≤ R.slots) :
    vx_Run p l e R s m args below meth c H locs cells slots mc ms (F0 m pc ls st0) rest (Qc (Value.ref b :: As).toArray) XC free := by
  have hts := hC.2.2.2.2.2.2.1
  exact vx_runV (Ts := lw_all) (own := y0.cls) (C := y.cls) ⟨hC.1, hC.2.1, hC.2.2.2.2.1, hC.2.2.2.2.2.1, hts⟩ hM (cwV n hts (lw_V h1 h2 h5 h3 h4) rfl rfl rfl ⟨rfl, hd⟩ hR) ⟨TP.blind, hrecv, tp_of hS hp⟩ rfl hn hl hst (lv_room hW) hdg hf
/-- what is thrown below goes on -/
theorem r_xp {k : Nat} {a : Array Value} (hlk : meth.locks = false) (hout : ∀ x ∈ c.exceptionTable.toList, False) (hr : vx_Run p l e R s m args below meth c s.heap [] 0 0 1 6 (F0 m pc ls st0) rest (NoRet a) (XQ D k) (fun q => dB D ≤ q)) :
    W p l e R s m args below meth c s.heap [] 0 0 (vx_MQ below NoRet (XQ D k) args s 1 6 (fun q => dB D ≤ q)) (F0 m pc ls st0) := by
  intro T hT X
  rcases hr T hT X with ⟨v, st₀, t, T', L, h0, X', hL, e1, e2, hq, st⟩ | ⟨q, st₀, t, T', L, E, ce, h0, X', hL, e1, e2, hx, hce, hcv, hcl, st⟩
  · exact hq.elim
  · obtain ⟨x1, x2, x3⟩ := hx
    rw [h0] at x2 x3
    have hz := vx_out (Qc := NoRet) (XC := XQ D k) (free := fun q => dB D ≤ q) (p := p) (l := l) (e := e) (R := R) (m := m) (args := args) (below := below) (rest := rest) (ls := ls) (pc := pc) (mc := 1) (ms := 6) (cells := 0 + 1) (slots := 0 + 6) (locs := [] ++ L) (H := T'.heap) (E := E) (ce := ce) (q := q) (fun x hx => (hout x hx).elim) hlk (by rw [e1]; exact hce) hcv hcl
      (fun t' ht' _ => ⟨x1, by rw [ht', e1]; exact x2, fun a ha => by rw [ht', e1]; exact x3 a ha⟩) (fun z hz => hL z (by simpa using hz)) (Nat.le_refl _) (Nat.le_refl _)
    obtain ⟨t2, a1, b1⟩ := hz T' rfl X'
    exact ⟨t2, st.trans a1, b1⟩
end KIT7
