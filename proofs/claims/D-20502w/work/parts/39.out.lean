/-! AnglewheelLaw.out catches what call throws -/
section KIT8
variable {p : Program} {l : Launch} {e : Env} {R : Room} {s : State} {m : MethodId} {args : Array Value} {below : List Frame} {meth : Method} {c : Code} {H : Heap} {locs : List Loc} {cells slots : Nat} {Q : State → Prop}
variable {cc bytes : ByteArray} {pc index maxL nL : Nat} {ls : Array Slot} {rest As st0 : List Value} {D : DD} {y : MethodName} {ret ret0 : Option FieldType} {fr lo mc ms : Nat} {Pre : Heap → Prop} {Qc : Array Value → State → Outcome → State → Prop} {XC : String → State → State → Prop} {free : Addr → Prop} {y0 : MethodName}
theorem r_xcatch {k : Nat} {a : Array Value} (hS : St D s H locs) (hr : vx_Run p l e R s m args below meth c H locs cells slots 1 6 (F0 m pc ls st0) rest (NoRet a) (XQ D k) (fun q => dB D ≤ q))
    (kx : ∀ (q : Nat) (ce : Cell) (H' : Heap) (locs' : List Loc), St D s H' locs' → Off (fun _ => False) H H' → H'[q]? = some ce → ce.vm = .none → s.vm.findClass (xN k) = some ce.cls → vx_W p l e R s m args below meth c H' locs' (cells + 1) (slots + 6) Q (F0 m pc ls rest) q) :
    W p l e R s m args below meth c H locs cells slots Q (F0 m pc ls st0) := by
  intro T hT X
  rcases hr T hT X with ⟨v, st₀, t, T', L, h0, X', hL, e1, e2, hq, st⟩ | ⟨q, st₀, t, T', L, E, ce, h0, X', hL, e1, e2, hx, hce, hcv, hcl, st⟩
  · exact hq.elim
  · obtain ⟨rfl, x2, x3⟩ := hx
    rw [h0] at x2 x3
    rw [← e1] at x2 x3 hce
    have hO : Off (fun _ => False) H T'.heap := ⟨x2, fun a ha _ => x3 a ha⟩
    have hS' : St D s T'.heap (locs ++ L) := ⟨hS.1.off hO (fun _ z => z.elim), Nat.le_trans hS.2.1 x2, fun z hz => by
      rcases List.mem_append.mp hz with h | h
      · exact hS.2.2 z h
      · exact hL z h⟩
    obtain ⟨t2, a1, b1⟩ := kx q ce T'.heap (locs ++ L) hS' hO hce hcv hcl T' rfl X'
    exact ⟨t2, st.trans a1, b1⟩
theorem r_runVW (hC : Cx p s m args meth c y0 cc nL ret0) (n : Nat) {b : Nat} {hh : List (Nat × Nat × Nat × Nat)} (hM : Met l y (wsW_ y bytes maxL ret hh) { frames := fr, cells := mc, slots := ms, locals := lo } (TP D (.ref b :: As) Pre) Qc mc ms free) (h1 : Cond.methodLink y0.cls index y ∈ lw_all) (h2 : Cond.instanceMethod y ∈ lw_all) (h5 : Cond.selects y.cls y y ∈ lw_all) (h3 : Cond.initialized y.cls ∈ lw_all) (h4 : Cond.codeWith y bytes maxL ret hh ∈ lw_all)
    (hrecv : ∃ cellB : Cell, H[b]? = some cellB ∧ cellB.vm.isStatics = false ∧ s.vm.findClass y.cls = some cellB.cls)
    (hd : Hd y n) (hn : As.length = n) (hR : fr + 1 ≤ R.frames ∧ 8 + (maxL + 11) + lo ≤ R.locals) (hS : St D s H locs) (hp : Pre H) (hl : ls.size = nL) (hst : st0 = As.reverse ++ .ref b :: rest) (hW : (rest.map fun v => v.category).sum ≤ 8) (hdg : decode cc pc = .ok (.invokevirtual index, 3)) (hf : cells + mc ≤ R.cells ∧ slots + ms ≤ R.slots) :
    va_Run p l e R s m args below meth c H locs cells slots mc ms (F0 m pc ls st0) rest (Qc (Value.ref b :: As).toArray) free := by
  have hts := hC.2.2.2.2.2.2.1
  exact vx_runVW (Ts := lw_all) (own := y0.cls) (C := y.cls) ⟨hC.1, hC.2.1, hC.2.2.2.2.1, hC.2.2.2.2.2.1, hts⟩ hM (vx_cwVW n hts (lw_VW h1 h2 h5 h3 h4) rfl rfl rfl ⟨rfl, hd⟩ hR) ⟨TP.blind, hrecv, tp_of hS hp⟩ rfl hn hl hst (lv_room hW) hdg hf
theorem nc_at (hS : St D s H locs) : va_Nc "java/lang/IllegalArgumentException" "java/lang/IndexOutOfBoundsException" s := va_Nc.moved hS.1.alike hS.1.1.2.2.2.2.2.2.2.2
end KIT8
abbrev R_X0_out : Room := { frames := 10, cells := 1, slots := 6, locals := 182 }
noncomputable def f_X0_out (x0r0r0c : Nat → UInt64) (x0r0r1c : Nat → UInt64) (x0r0r2c : Nat → Int32) (x0r0f3 : Int32) (x0r0f4 : Int32) (x0r0f5 : Int32) (x0r0f6 : Int32) (x1 : Int32) : Option (Int32) :=
  Option.bind (f_xc_call x0r0r0c x0r0r1c x0r0r2c x0r0f3 x0r0f4 x0r0f5 x0r0f6 x1) fun k => (if k = 6 then some 1001 else (if k = 7 then some 1002 else none))
theorem hd_X0_out : Hd yX0_out 1 := by unfold Hd; decide +kernel
set_option maxHeartbeats 4000000 in
set_option maxRecDepth 100000 in
theorem m_X0_out {l : Launch} (hfl : l.stackTraces = false) {D : DD} (x0 : Nat) (x0r0 : Nat) (x0r0r0 : Nat) (x0r0r1 : Nat) (x0r0r2 : Nat)  (x0r0r0c : Nat → UInt64) (x0r0r1c : Nat → UInt64) (x0r0r2c : Nat → Int32) (x0r0f3 : Int32) (x0r0f4 : Int32) (x0r0f5 : Int32) (x0r0f6 : Int32) (x1 : Int32) (r : Int32) (h : f_X0_out x0r0r0c x0r0r1c x0r0r2c x0r0f3 x0r0f4 x0r0f5 x0r0f6 x1 = some r) : MTW l D yX0_out cX0_out 3 (some .int) [((0 : Nat), (7 : Nat), (8 : Nat), (310 : Nat)), ((0 : Nat), (7 : Nat), (13 : Nat), (312 : Nat))] 10 182 1 6 [.ref x0, .int x1] (fun H => OA D 1 x0 [.ref x0r0] H ∧ ON D 0 x0r0 [.ref x0r0r0, .ref x0r0r1, .ref x0r0r2, .int x0r0f3, .int x0r0f4, .int x0r0f5, .int x0r0f6] H ∧ aD D x0r0r0 8 x0r0r0c H ∧ aD D x0r0r1 8 x0r0r1c H ∧ aZ D x0r0r2 8 x0r0r2c H) (pI (fun H b H' => b = r ∧ Off (fun _ => False) H H')) := by
  refine MTW.start (by decide +kernel) (Nat.le_of_ble_eq_true rfl) ?_
  intro p e s m below meth c ls hC htab hS hp hl
  have hp0 := hp
  obtain ⟨h_x0, h_x0r0, h_x0r0r0, h_x0r0r1, h_x0r0r2⟩ := hp
  obtain ⟨hx, hb, hr, hlk, hml, hown, hts, hnm⟩ := id hC
  have hl : lv_has ls 3 [(0, .ref x0), (1, .int x1)] := hl
  obtain ⟨A, eA⟩ : ∃ A : Array Value, A = [.ref x0, .int x1].toArray := ⟨_, rfl⟩
  rw [← eA] at hC hts ⊢
  unfold f_X0_out at h
  obtain ⟨k, ek, h⟩ := bind_step h
  show W p l e R_X0_out s m A below meth c s.heap [] 0 0 _ _
  refine lv_aload_n hx hb dX0_out_0 rfl (lv_at hl 0 rfl) ?_
  refine lv_iload_n hx hb dX0_out_1 rfl (lv_at hl 1 rfl) ?_
  refine r_xcatch hS (r_xV (rest := []) (As := [.int x1]) hC 1 (m_xc_call hfl x0 x0r0 x0r0r0 x0r0r1 x0r0r2 x0r0r0c x0r0r1c x0r0r2c x0r0f3 x0r0f4 x0r0f5 x0r0f6 x1 k ek) q1343 q1345 qs21 q39 q1346 (OA.recv hS h_x0 (C := RX0) rfl) hd_xc_call rfl ⟨Nat.le_of_ble_eq_true rfl, Nat.le_of_ble_eq_true rfl⟩ hS hp0 hl.1 rfl (Nat.le_of_ble_eq_true rfl) dX0_out_2 ⟨Nat.le_of_ble_eq_true rfl, Nat.le_of_ble_eq_true rfl⟩) ?_
  intro q ce H locs hS2 hO hce hcv hcl
  by_cases k6 : k = 6
  · have h := it_pos h k6
    obtain rfl := Option.some.inj h
    subst k6
    refine vx_catch (own := "AnglewheelLaw") hown [] ⟨0, 7, 8, 310⟩ [⟨0, 7, 13, 312⟩] (htab.trans rfl) (fun z hz => by cases hz) (by decide) (by decide) (hts _ q78) (cst_at hS2 q961) hce hcv hcl ?_
    show W p l e R_X0_out s m A below meth c H locs 1 6 _ (F0 m 8 ls [.ref q])
    refine lv_astore_n (lv' := [(2, .ref q), (0, .ref x0), (1, .int x1)]) hx hb dX0_out_8 rfl hl (by decide) rfl (fun ls hl => ?_)
    refine lv_sipush (v := 1001) hx hb dX0_out_9 (by decide) ?_
    exact r_iret hx hb hr hlk hS2 (Nat.le_of_ble_eq_true rfl) (Nat.le_of_ble_eq_true rfl) dX0_out_12 ⟨_, rfl, rfl, hO⟩
  have h := it_neg h k6
  by_cases k7 : k = 7
  · have h := it_pos h k7
    obtain rfl := Option.some.inj h
    subst k7
    refine vx_catch (own := "AnglewheelLaw") hown [⟨0, 7, 8, 310⟩] ⟨0, 7, 13, 312⟩ [] (htab.trans rfl) (fun z hz => by rw [List.mem_singleton.mp hz]; exact Or.inr ⟨by decide, _, hts _ q78, nc_at hS2⟩) (by decide) (by decide) (hts _ q157) (cst_at hS2 q527) hce hcv hcl ?_
    show W p l e R_X0_out s m A below meth c H locs 1 6 _ (F0 m 13 ls [.ref q])
    refine lv_astore_n (lv' := [(2, .ref q), (0, .ref x0), (1, .int x1)]) hx hb dX0_out_13 rfl hl (by decide) rfl (fun ls hl => ?_)
    refine lv_sipush (v := 1002) hx hb dX0_out_14 (by decide) ?_
    exact r_iret hx hb hr hlk hS2 (Nat.le_of_ble_eq_true rfl) (Nat.le_of_ble_eq_true rfl) dX0_out_17 ⟨_, rfl, rfl, hO⟩
  have h := it_neg h k7
  cases h


