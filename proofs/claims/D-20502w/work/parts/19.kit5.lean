/-! calls of private and inherited methods on a receiver of a known class; calls of the superclass's -/
def narZb (v : Int32) : Bool := v == 0 || v == 1
theorem narZ {v : Int32} (h : narZb v = true) : narrow .boolean (.int v) = .int v := by
  unfold narZb at h
  rw [Bool.or_eq_true] at h
  rcases h with h | h
  · rw [eq_of_beq h]; decide
  · rw [eq_of_beq h]; decide
theorem narZe {v : Int32} {b : Bool} (h : narZb v = true) (e : b = (v == 1)) : v = bI b := by
  unfold narZb at h
  rw [Bool.or_eq_true] at h
  subst e
  rcases h with h | h
  · rw [eq_of_beq h]; decide
  · rw [eq_of_beq h]; decide
/-- bytes are bytes: counted -/
noncomputable def byBb (n : Nat) (f : Nat → Int32) : Bool := @Nat.rec (fun _ => Bool) true (fun i ih => fits .byte (.int (f i)) && ih) n
theorem byBb_ok {n : Nat} {f : Nat → Int32} (h : byBb n f = true) : byB n f := by
  induction n with
  | zero => exact fun i hi => absurd hi (Nat.not_lt_zero i)
  | succ n ih =>
    have h2 : (fits .byte (.int (f n)) && byBb n f) = true := h
    rw [Bool.and_eq_true] at h2
    intro i hi
    rcases Nat.lt_succ_iff_lt_or_eq.mp hi with h3 | h3
    · exact ih h2.2 i h3
    · subst h3
      exact h2.1
theorem tab_out6 {x : Int32} (h0 : ¬ x = 0) (h1 : ¬ x = 1) (h2 : ¬ x = 2) (h3 : ¬ x = 3) (h4 : ¬ x = 4) (h5 : ¬ x = 5) : x.toInt < 0 ∨ 5 < x.toInt := by
  have := tab_out5 h0 h1 h2 h3 h4
  have := lv_neT h5 (a := 5) (by decide)
  omega
theorem tab_out7 {x : Int32} (h0 : ¬ x = 0) (h1 : ¬ x = 1) (h2 : ¬ x = 2) (h3 : ¬ x = 3) (h4 : ¬ x = 4) (h5 : ¬ x = 5) (h6 : ¬ x = 6) : x.toInt < 0 ∨ 6 < x.toInt := by
  have := tab_out6 h0 h1 h2 h3 h4 h5
  have := lv_neT h6 (a := 6) (by decide)
  omega
theorem tab_out11 {x : Int32} (h0 : ¬ x = 0) (h1 : ¬ x = 1) (h2 : ¬ x = 2) (h3 : ¬ x = 3) (h4 : ¬ x = 4) (h5 : ¬ x = 5) (h6 : ¬ x = 6) (h7 : ¬ x = 7) (h8 : ¬ x = 8) (h9 : ¬ x = 9) (h10 : ¬ x = 10) : x.toInt < 0 ∨ 10 < x.toInt := by
  have := tab_out7 h0 h1 h2 h3 h4 h5 h6
  have := lv_neT h7 (a := 7) (by decide)
  have := lv_neT h8 (a := 8) (by decide)
  have := lv_neT h9 (a := 9) (by decide)
  have := lv_neT h10 (a := 10) (by decide)
  omega
section KIT5
variable {p : Program} {l : Launch} {e : Env} {R : Room} {s : State} {m : MethodId} {args : Array Value} {below : List Frame} {meth : Method} {c : Code} {H : Heap} {locs : List Loc} {cells slots : Nat} {Q : State → Prop}
variable {cc bytes : ByteArray} {pc index maxL nL : Nat} {ls : Array Slot} {rest As st0 : List Value} {D : DD} {y : MethodName} {ret ret0 : Option FieldType} {fr lo mc ms : Nat} {Pre : Heap → Prop} {Qc : Array Value → State → Outcome → State → Prop} {free : Addr → Prop} {y0 : MethodName}
theorem sel_priv {C : String} {yi : MethodName} (h0 : (Cond.selects C yi yi).before args s = true) (hc : yi.cls = y.cls) (hy : y.cls ≠ "java/lang/invoke/MethodHandle" ∧ y.cls ≠ "java/lang/invoke/VarHandle") (hinst : (Cond.instanceMethod y).before args s = true) (hpriv : s.PrivateAt y) : (Cond.selects C y y).before args s = true := by
  obtain ⟨c1, r1, m1, g1, -, g3, -, kP, g5, g6⟩ := Cond.selects_spec h0
  obtain ⟨mk, methM, hnamed, hmethM, -, -⟩ := Cond.instanceMethod_spec hinst
  have hfound : s.methodFound? y.cls y.name y.desc = some mk := State.methodFound?_of_named hnamed hy
  have hsel : selectMethod {} s.vm c1 mk = .method mk := selectMethod_private hmethM (hpriv mk methM hnamed hmethM)
  have hcls : mk.cls = m1.cls := by
    have e1 := findClass_of_methodNamed hnamed
    have e2 := findClass_of_methodNamed g3
    rw [hc] at e2
    exact Option.some.inj (e1.symm.trans e2)
  simp only [Cond.before, Cond.holds, Cond.value, g1, hfound, hnamed, hsel, hcls, g5]
  simp; exact g6
theorem r_runVC (hC : Cx p s m args meth c y0 cc nL ret0) (n : Nat) {b : Nat} {C : String} (hM : Met l y (ws_ y bytes maxL ret) { frames := fr, cells := mc, slots := ms, locals := lo } (TP D (.ref b :: As) Pre) Qc mc ms free) (h1 : Cond.methodLink y0.cls index y ∈ lw_all) (h2 : Cond.instanceMethod y ∈ lw_all) (h5 : (Cond.selects C y y).before args s = true) (h3 : Cond.initialized y.cls ∈ lw_all) (h4 : Cond.code y bytes maxL ret ∈ lw_all)
    (hrecv : ∃ cellB : Cell, H[b]? = some cellB ∧ cellB.vm.isStatics = false ∧ s.vm.findClass C = some cellB.cls)
    (hd : Hd y n) (hn : As.length = n) (hR : fr + 1 ≤ R.frames ∧ 8 + (maxL + 11) + lo ≤ R.locals) (hS : St D s H locs) (hp : Pre H) (hl : ls.size = nL) (hst : st0 = As.reverse ++ .ref b :: rest) (hW : (rest.map fun v => v.category).sum ≤ 8) (hdg : decode cc pc = .ok (.invokevirtual index, 3)) (hf : cells + mc ≤ R.cells ∧ slots + ms ≤ R.slots) :
    va_Run p l e R s m args below meth c H locs cells slots mc ms (F0 m pc ls st0) rest (Qc (Value.ref b :: As).toArray) free := by
  have hts := hC.2.2.2.2.2.2.1
  exact va_runV (Ts := lw_all) (own := y0.cls) (C := C) ⟨hC.1, hC.2.1, hC.2.2.2.2.1, hC.2.2.2.2.2.1, hts⟩ hM ⟨callB_of n hts (lw_meth h4) rfl rfl rfl (hts _ h3) (hts _ h1) hd hR, hts _ h2, h5⟩ ⟨TP.blind, hrecv, tp_of hS hp⟩ rfl hn hl hst (lv_room hW) hdg hf
/-- privateness holds all through the run -/
theorem priv_at (hS : St D s H locs) (h : Cond.privateMethod y ∈ lw_tbl) : s.PrivateAt y := by
  obtain ⟨A, hA⟩ := hS.1.1.2.1
  have h1 := hA _ h
  have h2 : (Cond.privateMethod y).before A (D.1.setVm s.vm) = true := by rw [Cond.privateMethod_setVm hS.1.alike]; exact h1
  have h3 := Cond.privateMethod_at (args := A) (s := D.1.setVm s.vm) (y := y) h2
  exact h3
theorem r_runSU (hC : Cx p s m args meth c y0 cc nL ret0) (n : Nat) {b k : Nat} {C : String} {T : u_T} {N : Nat} (hc : kCl[k]? = some (C, T, N)) (hM : Met l y (ws_ y bytes maxL ret) { frames := fr, cells := mc, slots := ms, locals := lo } (TP D (.ref b :: As) Pre) Qc mc ms free) (h1 : Cond.methodLink y0.cls index y ∈ lw_all) (h2 : Cond.sameMethod y.cls y.cls y.name y.desc ∈ lw_all) (h3 : Cond.superclass y0.cls y.cls ∈ lw_all) (h4 : Cond.instanceMethod y ∈ lw_all) (h5 : Cond.initialized y.cls ∈ lw_all) (h6 : Cond.code y bytes maxL ret ∈ lw_all)
    (hrecv : ∃ cellB : Cell, H[b]? = some cellB ∧ cellB.vm.isStatics = false ∧ s.vm.findClass C = some cellB.cls)
    (hd : Hd y n) (hno : y.name ≠ "<init>") (hn : As.length = n) (hR : fr + 1 ≤ R.frames ∧ 8 + (maxL + 11) + lo ≤ R.locals) (hS : St D s H locs) (hp : Pre H) (hl : ls.size = nL) (hst : st0 = As.reverse ++ .ref b :: rest) (hW : (rest.map fun v => v.category).sum ≤ 8) (hdg : decode cc pc = .ok (.invokespecial index, 3)) (hf : cells + mc ≤ R.cells ∧ slots + ms ≤ R.slots) :
    va_Run p l e R s m args below meth c H locs cells slots mc ms (F0 m pc ls st0) rest (Qc (Value.ref b :: As).toArray) free := by
  have hts := hC.2.2.2.2.2.2.1
  refine va_runSU (Ts := lw_all) (own := y0.cls) (C := C) (hS.1.known hc).2 ⟨hC.1, hC.2.1, hC.2.2.2.2.1, hC.2.2.2.2.2.1, hts⟩ hM ⟨⟨rfl, rfl, hR.1, hR.2, pay_in hts (lw_meth h6), List.mem_cons_self⟩, hts _ h1, hts _ h2, hts _ h3, hts _ h4, hts _ h5, hts _ h6, hno, fun sig h => ?_⟩ ⟨TP.blind, hrecv, tp_of hS hp⟩ rfl hn hl hst (lv_room hW) hdg hf
  have h7 := hd.2.2
  rw [h] at h7
  exact (Option.some.inj h7).symm
theorem lw_O {own : String} {idx : Nat} {C owner : String} {x y : MethodName} {b : ByteArray} {L : Nat} {r : Option FieldType} (h1 : Cond.methodLink own idx x ∈ lw_all) (h2 : Cond.sameMethod x.cls owner x.name x.desc ∈ lw_all) (h3 : Cond.instanceMethod ⟨owner, x.name, x.desc⟩ ∈ lw_all) (h4 : Cond.selects C x y ∈ lw_all) (h5 : Cond.instanceMethod y ∈ lw_all) (h6 : Cond.initialized y.cls ∈ lw_all) (h7 : Cond.code y b L r ∈ lw_all) : GoodIn lw_all (va_wsO own idx C owner x y (ws_ y b L r)) := by
  refine lw_app ?_ (lw_meth h7)
  intro w hw
  simp only [List.mem_cons, List.not_mem_nil, or_false] at hw
  rcases hw with e | e | e | e | e | e
  · rw [e]; exact h1
  · rw [e]; exact h2
  · rw [e]; exact h3
  · rw [e]; exact h4
  · rw [e]; exact h5
  · rw [e]; exact h6
/-- a method that overrides the one named -/
theorem r_runO (hC : Cx p s m args meth c y0 cc nL ret0) (n : Nat) {b : Nat} {C owner : String} {x : MethodName} (hM : Met l y (ws_ y bytes maxL ret) { frames := fr, cells := mc, slots := ms, locals := lo } (TP D (.ref b :: As) Pre) Qc mc ms free) (h1 : Cond.methodLink y0.cls index x ∈ lw_all) (h2 : Cond.sameMethod x.cls owner x.name x.desc ∈ lw_all) (h3 : Cond.instanceMethod ⟨owner, x.name, x.desc⟩ ∈ lw_all) (h4 : Cond.selects C x y ∈ lw_all) (h5 : Cond.instanceMethod y ∈ lw_all) (h6 : Cond.initialized y.cls ∈ lw_all) (h7 : Cond.code y bytes maxL ret ∈ lw_all) {b0 : ByteArray} {m0 : Nat} {r0 : Option FieldType} (h8 : Cond.code ⟨owner, x.name, x.desc⟩ b0 m0 r0 ∈ lw_all)
    (hrecv : ∃ cellB : Cell, H[b]? = some cellB ∧ cellB.vm.isStatics = false ∧ s.vm.findClass C = some cellB.cls)
    (hd : owner ≠ "java/lang/invoke/MethodHandle" ∧ owner ≠ "java/lang/invoke/VarHandle" ∧ (parseMethodDescriptor x.desc).map (fun d => d.parameters.length) = some n) (hn : As.length = n) (hR : fr + 1 ≤ R.frames ∧ 8 + (maxL + 11) + lo ≤ R.locals) (hS : St D s H locs) (hp : Pre H) (hl : ls.size = nL) (hst : st0 = As.reverse ++ .ref b :: rest) (hW : (rest.map fun v => v.category).sum ≤ 8) (hdg : decode cc pc = .ok (.invokevirtual index, 3)) (hf : cells + mc ≤ R.cells ∧ slots + ms ≤ R.slots) :
    va_Run p l e R s m args below meth c H locs cells slots mc ms (F0 m pc ls st0) rest (Qc (Value.ref b :: As).toArray) free := by
  have hts := hC.2.2.2.2.2.2.1
  exact va_runU (Ts := lw_all) (own := y0.cls) (C := C) ⟨hC.1, hC.2.1, hC.2.2.2.2.1, hC.2.2.2.2.2.1, hts⟩ hM (va_cwO n hts (lw_O h1 h2 h3 h4 h5 h6 h7) rfl rfl rfl h8 hd hR) ⟨TP.blind, hrecv, tp_of hS hp⟩ rfl hn hl hst (lv_room hW) hdg hf
end KIT5
