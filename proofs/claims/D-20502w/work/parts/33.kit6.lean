/-! the class of digits' data; a call whose named method is abstract; a byte array's cast -/
section KIT6
variable {p : Program} {l : Launch} {e : Env} {R : Room} {s : State} {m : MethodId} {args : Array Value} {below : List Frame} {meth : Method} {c : Code} {H : Heap} {locs : List Loc} {cells slots : Nat} {Q : State → Prop}
variable {cc bytes : ByteArray} {pc index maxL nL : Nat} {ls : Array Slot} {rest As st0 : List Value} {D : DD} {y : MethodName} {ret ret0 : Option FieldType} {fr lo mc ms : Nat} {Pre : Heap → Prop} {Qc : Array Value → State → Outcome → State → Prop} {free : Addr → Prop} {y0 : MethodName}
theorem recv12 (hS : St D s H locs) : ∃ cellB : Cell, H[dN D 12]? = some cellB ∧ cellB.vm.isStatics = false ∧ s.vm.findClass "java/lang/CharacterDataLatin1" = some cellB.cls := by
  obtain ⟨cell, h1, h2, h3⟩ := hS.1.1.2.2.2.2.2.1
  exact ⟨cell, by rw [hS.1.2.2.2 _ (Array.getElem?_eq_some_iff.mp h1).1]; exact h1, h2, by rw [hS.1.alike.findClass]; exact h3⟩
theorem lw_A {own : String} {idx : Nat} {C owner : String} {x y : MethodName} {b : ByteArray} {L : Nat} {r : Option FieldType} (h1 : Cond.methodLink own idx x ∈ lw_all) (h2 : Cond.sameMethod x.cls owner x.name x.desc ∈ lw_all) (h4 : Cond.selects C x y ∈ lw_all) (h5 : Cond.instanceMethod y ∈ lw_all) (h6 : Cond.initialized y.cls ∈ lw_all) (h7 : Cond.code y b L r ∈ lw_all) : GoodIn lw_all (va_wsU own idx C owner x y (ws_ y b L r)) := by
  refine lw_app ?_ (lw_meth h7)
  intro w hw
  simp only [List.mem_cons, List.not_mem_nil, or_false] at hw
  rcases hw with e | e | e | e | e
  · rw [e]; exact h1
  · rw [e]; exact h2
  · rw [e]; exact h4
  · rw [e]; exact h5
  · rw [e]; exact h6
/-- words that speak of the tables alone, at any state of the run -/
theorem dcl_at (hS : St D s H locs) {x : MethodName} (h : Cond.declares x ∈ lw_tbl) : (Cond.declares x).before args s = true := by
  obtain ⟨A, hA⟩ := hS.1.1.2.1
  exact va_any rfl (va_Nw.warmD hS.1.2.1 (va_any rfl (hA _ h)))
theorem cst_at (hS : St D s H locs) {a b : String} (h : Cond.castable a b ∈ lw_tbl) : (Cond.castable a b).before args s = true := by
  obtain ⟨A, hA⟩ := hS.1.1.2.1
  refine va_tabs (A := A) (u := D.1.setVm s.vm) rfl rfl ?_
  rw [Cond.castable_setVm hS.1.alike]
  exact hA _ h
theorem r_runA (hC : Cx p s m args meth c y0 cc nL ret0) (n : Nat) {b : Nat} {C owner : String} {x : MethodName} (hM : Met l y (ws_ y bytes maxL ret) { frames := fr, cells := mc, slots := ms, locals := lo } (TP D (.ref b :: As) Pre) Qc mc ms free) (h1 : Cond.methodLink y0.cls index x ∈ lw_all) (h2 : Cond.sameMethod x.cls owner x.name x.desc ∈ lw_all) (hz : Cond.declares ⟨owner, x.name, x.desc⟩ ∈ lw_tbl) (h4 : Cond.selects C x y ∈ lw_all) (h5 : Cond.instanceMethod y ∈ lw_all) (h6 : Cond.initialized y.cls ∈ lw_all) (h7 : Cond.code y bytes maxL ret ∈ lw_all)
    (hrecv : ∃ cellB : Cell, H[b]? = some cellB ∧ cellB.vm.isStatics = false ∧ s.vm.findClass C = some cellB.cls)
    (hd : owner ≠ "java/lang/invoke/MethodHandle" ∧ owner ≠ "java/lang/invoke/VarHandle" ∧ (parseMethodDescriptor x.desc).map (fun d => d.parameters.length) = some n) (hn : As.length = n) (hR : fr + 1 ≤ R.frames ∧ 8 + (maxL + 11) + lo ≤ R.locals) (hS : St D s H locs) (hp : Pre H) (hl : ls.size = nL) (hst : st0 = As.reverse ++ .ref b :: rest) (hW : (rest.map fun v => v.category).sum ≤ 8) (hdg : decode cc pc = .ok (.invokevirtual index, 3)) (hf : cells + mc ≤ R.cells ∧ slots + ms ≤ R.slots) :
    va_Run p l e R s m args below meth c H locs cells slots mc ms (F0 m pc ls st0) rest (Qc (Value.ref b :: As).toArray) free := by
  have hts := hC.2.2.2.2.2.2.1
  exact va_runU (Ts := lw_all) (own := y0.cls) (C := C) ⟨hC.1, hC.2.1, hC.2.2.2.2.1, hC.2.2.2.2.2.1, hts⟩ hM (va_cwA n hts (lw_A h1 h2 h4 h5 h6 h7) rfl rfl rfl (dcl_at hS hz) hd hR) ⟨TP.blind, hrecv, tp_of hS hp⟩ rfl hn hl hst (lv_room hW) hdg hf
theorem r_castB (hx : p.tables.exec = Jvm.exec) (hb : c.code = cc) {own : String} {index q n : Nat} {f : Nat → Int32} (hown : s.vm.findClass own = some m.cls) (hlink : (Cond.classLink own index "[B").before args s = true) (hS : St D s H locs) (hA : aB D q n f H) (hq : dB D ≤ q) (hdg : decode cc pc = .ok (.checkcast index, 3))
    (k : W p l e R s m args below meth c H locs cells slots Q (F0 m (pc + 3) ls (.ref q :: rest))) : W p l e R s m args below meth c H locs cells slots Q (F0 m pc ls (.ref q :: rest)) := by
  obtain ⟨cell, h1, ⟨h2, h2b⟩, -⟩ := hA
  have h3 : s.vm.findClass "[B" = some cell.cls := by rw [hS.1.alike.findClass]; exact h2b rfl hq
  obtain ⟨h4, ks, h5, -⟩ := State.isArrayOf_alike hS.1.alike h2
  intro T hT X
  obtain ⟨vm', X', st⟩ := X.checkcast hx hown hlink (by rw [hT]; exact h1) h4 h5 h3 (by unfold Vm.assignable; unfold Vm.assignableAux; rw [beq_self_eq_true, Bool.true_or]) (g := F0 m pc ls (.ref q :: rest)) rfl rfl (by rw [hb]; exact hdg)
  obtain ⟨t, a1, b1⟩ := k (T.setVm vm') hT X'
  exact ⟨t, st t a1, b1⟩
end KIT6
