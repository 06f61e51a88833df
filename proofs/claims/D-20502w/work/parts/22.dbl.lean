/-! Double, Integer.signum, Arrays.sort: by tools/gen22.py -/
abbrev R_J10_isNaN : Room := { frames := 0, cells := 0, slots := 0, locals := 0 }
noncomputable def f_J10_isNaN (x0 : UInt64) : Option (Bool) :=
  lti (dcmpF x0 x0 .l) fun v1 =>
  (if v1 = 0 then
    some false
  else
    some true
  )
theorem hd_J10_isNaN : Hd yJ10_isNaN 1 := by unfold Hd; decide +kernel
set_option maxHeartbeats 4000000 in
set_option maxRecDepth 100000 in
theorem m_J10_isNaN {l : Launch} {D : DD}   (x0 : UInt64) (r : Bool) (h : f_J10_isNaN x0 = some r) : MP l D yJ10_isNaN cJ10_isNaN 2 (some .boolean) 0 0 [.double x0] NoPre (some (.int (bI r))) := by
  refine MP.start (by decide +kernel) (Nat.le_of_ble_eq_true rfl) ?_
  intro p e s m below meth c ls hC hS hp hl
  obtain ⟨hx, hb, hr, hlk, hml, hown, hts, hnm⟩ := id hC
  have hl : lv_has ls 2 [(0, .double x0)] := hl
  unfold f_J10_isNaN at h
  have hS0 := hS
  obtain ⟨A, eA⟩ : ∃ A : Array Value, A = [.double x0].toArray := ⟨_, rfl⟩
  rw [← eA] at hC hts ⊢
  obtain ⟨Q, eQ⟩ : ∃ Q : State → Prop, Q = MQ below (PQ (some (.int (bI r)))) A s 0 0 (fun _ => False) := ⟨_, rfl⟩
  show W p l e R_J10_isNaN s m A below meth c s.heap [] 0 0 _ _
  rw [← eQ]
  refine lv_dload_n hx hb dJ10_isNaN_0 rfl (lv_at hl 0 rfl) ?_
  refine lv_dload_n hx hb dJ10_isNaN_1 rfl (lv_at hl 0 rfl) ?_
  obtain ⟨v1, ev1, h⟩ := lti_step h
  refine r_dcmp hx hb ev1 dJ10_isNaN_2 ?_
  refine lv_if_eq (tgt := 10) hx hb dJ10_isNaN_3 (by decide) (fun c2 => ?_) (fun c2 => ?_)
  · have h := it_pos h c2
    refine lv_iconst (v := 0) hx hb dJ10_isNaN_10 (by decide) ?_
    obtain rfl := Option.some.inj h
    rw [eQ]
    exact p_zret hx hb hr hlk (by decide) dJ10_isNaN_11 rfl
  · have h := it_neg h c2
    refine lv_iconst (v := 1) hx hb dJ10_isNaN_6 (by decide) ?_
    refine lv_goto (tgt := 11) hx hb dJ10_isNaN_7 (by decide) ?_
    obtain rfl := Option.some.inj h
    rw [eQ]
    exact p_zret hx hb hr hlk (by decide) dJ10_isNaN_11 rfl

abbrev R_J10_doubleToLongBits : Room := { frames := 1, cells := 0, slots := 0, locals := 23 }
noncomputable def f_J10_doubleToLongBits (x0 : UInt64) : Option (Int64) :=
  Option.bind (f_J10_isNaN x0) fun o1 =>
  (if o1 = true then
    some 9221120237041090560
  else
    ltl ((x0 : UInt64).toInt64) fun v3 =>
    some v3
  )
theorem hd_J10_doubleToLongBits : Hd yJ10_doubleToLongBits 1 := by unfold Hd; decide +kernel
set_option maxHeartbeats 4000000 in
set_option maxRecDepth 100000 in
theorem m_J10_doubleToLongBits {l : Launch} {D : DD}   (x0 : UInt64) (r : Int64) (h : f_J10_doubleToLongBits x0 = some r) : MP l D yJ10_doubleToLongBits cJ10_doubleToLongBits 2 (some .long) 1 23 [.double x0] NoPre (some (.long r)) := by
  refine MP.start (by decide +kernel) (Nat.le_of_ble_eq_true rfl) ?_
  intro p e s m below meth c ls hC hS hp hl
  obtain ⟨hx, hb, hr, hlk, hml, hown, hts, hnm⟩ := id hC
  have hl : lv_has ls 2 [(0, .double x0)] := hl
  unfold f_J10_doubleToLongBits at h
  have hS0 := hS
  obtain ⟨A, eA⟩ : ∃ A : Array Value, A = [.double x0].toArray := ⟨_, rfl⟩
  rw [← eA] at hC hts ⊢
  obtain ⟨Q, eQ⟩ : ∃ Q : State → Prop, Q = MQ below (PQ (some (.long r))) A s 0 0 (fun _ => False) := ⟨_, rfl⟩
  show W p l e R_J10_doubleToLongBits s m A below meth c s.heap [] 0 0 _ _
  rw [← eQ]
  refine lv_dload_n hx hb dJ10_doubleToLongBits_0 rfl (lv_at hl 0 rfl) ?_
  obtain ⟨o1, eo1, h⟩ := bind_step h
  refine r_cp (r_runS (rest := []) (As := [.double x0]) hC 1 (m_J10_isNaN   x0 o1 eo1) q369 q370 q51 q371 hd_J10_isNaN rfl ⟨Nat.le_of_ble_eq_true rfl, Nat.le_of_ble_eq_true rfl⟩ hS trivial hl.1 rfl (Nat.le_of_ble_eq_true rfl) dJ10_doubleToLongBits_1 ⟨Nat.le_of_ble_eq_true rfl, Nat.le_of_ble_eq_true rfl⟩) ?_
  refine r_ifz_ne (tgt := 12) hx hb dJ10_doubleToLongBits_4 (by decide) (fun c2 => ?_) (fun c2 => ?_)
  · have h := it_pos h (by rw [c2])
    refine lv_ldc2 hx hb (v := 9221120237041090560) hown (hts _ q373) dJ10_doubleToLongBits_12 ?_
    obtain rfl := Option.some.inj h
    rw [eQ]
    exact p_lret hx hb hr hlk dJ10_doubleToLongBits_15 rfl
  · have h := it_neg h (by rw [c2]; decide)
    refine lv_dload_n hx hb dJ10_doubleToLongBits_7 rfl (lv_at hl 0 rfl) ?_
    refine r_d2l hC q372 q184 q183 q51 hl.1 ⟨Nat.le_of_ble_eq_true rfl, Nat.le_of_ble_eq_true rfl⟩ dJ10_doubleToLongBits_8 ?_
    obtain ⟨v3, ev3, h⟩ := ltl_step h
    refine r_nmL ev3 ?_
    obtain rfl := Option.some.inj h
    rw [eQ]
    exact p_lret hx hb hr hlk dJ10_doubleToLongBits_11 rfl

abbrev R_J10_compare : Room := { frames := 2, cells := 0, slots := 0, locals := 44 }
noncomputable def f_J10_compare (x0 : UInt64) (x1 : UInt64) : Option (Int32) :=
  lti (dcmpF x0 x1 .g) fun v1 =>
  (if 0 ≤ v1 then
    lti (dcmpF x0 x1 .l) fun v3 =>
    (if v3 ≤ 0 then
      Option.bind (f_J10_doubleToLongBits x0) fun o5 =>
      Option.bind (f_J10_doubleToLongBits x1) fun o6 =>
      lti (lg_cmp o5 o6) fun v7 =>
      (if v7 = 0 then
        some 0
      else
        lti (lg_cmp o5 o6) fun v9 =>
        (if 0 ≤ v9 then
          some 1
        else
          some (-1)
        )
      )
    else
      some 1
    )
  else
    some (-1)
  )
theorem hd_J10_compare : Hd yJ10_compare 2 := by unfold Hd; decide +kernel
set_option maxHeartbeats 4000000 in
set_option maxRecDepth 100000 in
theorem m_J10_compare {l : Launch} {D : DD}   (x0 : UInt64) (x1 : UInt64) (r : Int32) (h : f_J10_compare x0 x1 = some r) : MP l D yJ10_compare cJ10_compare 8 (some .int) 2 44 [.double x0, .double x1] NoPre (some (.int r)) := by
  refine MP.start (by decide +kernel) (Nat.le_of_ble_eq_true rfl) ?_
  intro p e s m below meth c ls hC hS hp hl
  obtain ⟨hx, hb, hr, hlk, hml, hown, hts, hnm⟩ := id hC
  have hl : lv_has ls 8 [(0, .double x0), (2, .double x1)] := hl
  unfold f_J10_compare at h
  have hS0 := hS
  obtain ⟨A, eA⟩ : ∃ A : Array Value, A = [.double x0, .double x1].toArray := ⟨_, rfl⟩
  rw [← eA] at hC hts ⊢
  obtain ⟨Q, eQ⟩ : ∃ Q : State → Prop, Q = MQ below (PQ (some (.int r))) A s 0 0 (fun _ => False) := ⟨_, rfl⟩
  show W p l e R_J10_compare s m A below meth c s.heap [] 0 0 _ _
  rw [← eQ]
  refine lv_dload_n hx hb dJ10_compare_0 rfl (lv_at hl 0 rfl) ?_
  refine lv_dload_n hx hb dJ10_compare_1 rfl (lv_at hl 1 rfl) ?_
  obtain ⟨v1, ev1, h⟩ := lti_step h
  refine r_dcmp hx hb ev1 dJ10_compare_2 ?_
  refine lv_if_ge (tgt := 8) hx hb dJ10_compare_3 (by decide) (fun c2 => ?_) (fun c2 => ?_)
  · have h := it_pos h c2
    refine lv_dload_n hx hb dJ10_compare_8 rfl (lv_at hl 0 rfl) ?_
    refine lv_dload_n hx hb dJ10_compare_9 rfl (lv_at hl 1 rfl) ?_
    obtain ⟨v3, ev3, h⟩ := lti_step h
    refine r_dcmp hx hb ev3 dJ10_compare_10 ?_
    refine lv_if_le (tgt := 16) hx hb dJ10_compare_11 (by decide) (fun c4 => ?_) (fun c4 => ?_)
    · have h := it_pos h c4
      refine lv_dload_n hx hb dJ10_compare_16 rfl (lv_at hl 0 rfl) ?_
      obtain ⟨o5, eo5, h⟩ := bind_step h
      refine r_cp (r_runS (rest := []) (As := [.double x0]) hC 1 (m_J10_doubleToLongBits   x0 o5 eo5) q1297 q367 q51 q368 hd_J10_doubleToLongBits rfl ⟨Nat.le_of_ble_eq_true rfl, Nat.le_of_ble_eq_true rfl⟩ hS trivial hl.1 rfl (Nat.le_of_ble_eq_true rfl) dJ10_compare_17 ⟨Nat.le_of_ble_eq_true rfl, Nat.le_of_ble_eq_true rfl⟩) ?_
      refine lv_lstore (lv' := [(4, .long o5), (0, .double x0), (2, .double x1)]) hx hb dJ10_compare_20 hl (by decide) rfl (fun ls hl => ?_)
      refine lv_dload_n hx hb dJ10_compare_22 rfl (lv_at hl 2 rfl) ?_
      obtain ⟨o6, eo6, h⟩ := bind_step h
      refine r_cp (r_runS (rest := []) (As := [.double x1]) hC 1 (m_J10_doubleToLongBits   x1 o6 eo6) q1297 q367 q51 q368 hd_J10_doubleToLongBits rfl ⟨Nat.le_of_ble_eq_true rfl, Nat.le_of_ble_eq_true rfl⟩ hS trivial hl.1 rfl (Nat.le_of_ble_eq_true rfl) dJ10_compare_23 ⟨Nat.le_of_ble_eq_true rfl, Nat.le_of_ble_eq_true rfl⟩) ?_
      refine lv_lstore (lv' := [(6, .long o6), (4, .long o5), (0, .double x0), (2, .double x1)]) hx hb dJ10_compare_26 hl (by decide) rfl (fun ls hl => ?_)
      refine lv_lload hx hb dJ10_compare_28 (lv_at hl 1 rfl) ?_
      refine lv_lload hx hb dJ10_compare_30 (lv_at hl 0 rfl) ?_
      obtain ⟨v7, ev7, h⟩ := lti_step h
      refine r_lcmp hx hb ev7 dJ10_compare_32 ?_
      refine lv_if_ne (tgt := 40) hx hb dJ10_compare_33 (by decide) (fun c8 => ?_) (fun c8 => ?_)
      · have h := it_neg h c8
        refine lv_lload hx hb dJ10_compare_40 (lv_at hl 1 rfl) ?_
        refine lv_lload hx hb dJ10_compare_42 (lv_at hl 0 rfl) ?_
        obtain ⟨v9, ev9, h⟩ := lti_step h
        refine r_lcmp hx hb ev9 dJ10_compare_44 ?_
        refine lv_if_ge (tgt := 52) hx hb dJ10_compare_45 (by decide) (fun c10 => ?_) (fun c10 => ?_)
        · have h := it_pos h c10
          refine lv_iconst (v := 1) hx hb dJ10_compare_52 (by decide) ?_
          obtain rfl := Option.some.inj h
          rw [eQ]
          exact p_iret hx hb hr hlk dJ10_compare_53 rfl
        · have h := it_neg h c10
          refine lv_iconst (v := (-1)) hx hb dJ10_compare_48 (by decide) ?_
          refine lv_goto (tgt := 53) hx hb dJ10_compare_49 (by decide) ?_
          obtain rfl := Option.some.inj h
          rw [eQ]
          exact p_iret hx hb hr hlk dJ10_compare_53 rfl
      · have h := it_pos h c8
        refine lv_iconst (v := 0) hx hb dJ10_compare_36 (by decide) ?_
        refine lv_goto (tgt := 53) hx hb dJ10_compare_37 (by decide) ?_
        obtain rfl := Option.some.inj h
        rw [eQ]
        exact p_iret hx hb hr hlk dJ10_compare_53 rfl
    · have h := it_neg h c4
      refine lv_iconst (v := 1) hx hb dJ10_compare_14 (by decide) ?_
      obtain rfl := Option.some.inj h
      rw [eQ]
      exact p_iret hx hb hr hlk dJ10_compare_15 rfl
  · have h := it_neg h c2
    refine lv_iconst (v := (-1)) hx hb dJ10_compare_6 (by decide) ?_
    obtain rfl := Option.some.inj h
    rw [eQ]
    exact p_iret hx hb hr hlk dJ10_compare_7 rfl

abbrev R_J10_sum : Room := { frames := 0, cells := 0, slots := 0, locals := 0 }
noncomputable def f_J10_sum (x0 : UInt64) (x1 : UInt64) : Option (UInt64) :=
  ck (daddF x0 x1) fun v1 =>
  some v1
theorem hd_J10_sum : Hd yJ10_sum 2 := by unfold Hd; decide +kernel
set_option maxHeartbeats 4000000 in
set_option maxRecDepth 100000 in
theorem m_J10_sum {l : Launch} {D : DD}   (x0 : UInt64) (x1 : UInt64) (r : UInt64) (h : f_J10_sum x0 x1 = some r) : MP l D yJ10_sum cJ10_sum 4 (some .double) 0 0 [.double x0, .double x1] NoPre (some (.double r)) := by
  refine MP.start (by decide +kernel) (Nat.le_of_ble_eq_true rfl) ?_
  intro p e s m below meth c ls hC hS hp hl
  obtain ⟨hx, hb, hr, hlk, hml, hown, hts, hnm⟩ := id hC
  have hl : lv_has ls 4 [(0, .double x0), (2, .double x1)] := hl
  unfold f_J10_sum at h
  have hS0 := hS
  obtain ⟨A, eA⟩ : ∃ A : Array Value, A = [.double x0, .double x1].toArray := ⟨_, rfl⟩
  rw [← eA] at hC hts ⊢
  obtain ⟨Q, eQ⟩ : ∃ Q : State → Prop, Q = MQ below (PQ (some (.double r))) A s 0 0 (fun _ => False) := ⟨_, rfl⟩
  show W p l e R_J10_sum s m A below meth c s.heap [] 0 0 _ _
  rw [← eQ]
  refine lv_dload_n hx hb dJ10_sum_0 rfl (lv_at hl 0 rfl) ?_
  refine lv_dload_n hx hb dJ10_sum_1 rfl (lv_at hl 1 rfl) ?_
  obtain ⟨v1, ev1, nv1, h⟩ := ck_step h
  refine r_dadd hx hb ev1 nv1 dJ10_sum_2 ?_
  obtain rfl := Option.some.inj h
  rw [eQ]
  exact p_dret hx hb hr hlk dJ10_sum_3 rfl

abbrev R_J10_max : Room := { frames := 1, cells := 0, slots := 0, locals := 40 }
noncomputable def f_J10_max (x0 : UInt64) (x1 : UInt64) : Option (UInt64) :=
  ask (dfinB (x0 : UInt64).toNat && dfinB (x1 : UInt64).toNat) <|
  ltd (Native.java_lang_Math.nans.pick64 true x0 x1) fun v2 =>
  some v2
theorem hd_J10_max : Hd yJ10_max 2 := by unfold Hd; decide +kernel
set_option maxHeartbeats 4000000 in
set_option maxRecDepth 100000 in
theorem m_J10_max {l : Launch} {D : DD}   (x0 : UInt64) (x1 : UInt64) (r : UInt64) (h : f_J10_max x0 x1 = some r) : MP l D yJ10_max cJ10_max 4 (some .double) 1 40 [.double x0, .double x1] NoPre (some (.double r)) := by
  refine MP.start (by decide +kernel) (Nat.le_of_ble_eq_true rfl) ?_
  intro p e s m below meth c ls hC hS hp hl
  obtain ⟨hx, hb, hr, hlk, hml, hown, hts, hnm⟩ := id hC
  have hl : lv_has ls 4 [(0, .double x0), (2, .double x1)] := hl
  unfold f_J10_max at h
  have hS0 := hS
  obtain ⟨A, eA⟩ : ∃ A : Array Value, A = [.double x0, .double x1].toArray := ⟨_, rfl⟩
  rw [← eA] at hC hts ⊢
  obtain ⟨Q, eQ⟩ : ∃ Q : State → Prop, Q = MQ below (PQ (some (.double r))) A s 0 0 (fun _ => False) := ⟨_, rfl⟩
  show W p l e R_J10_max s m A below meth c s.heap [] 0 0 _ _
  rw [← eQ]
  refine lv_dload_n hx hb dJ10_max_0 rfl (lv_at hl 0 rfl) ?_
  refine lv_dload_n hx hb dJ10_max_1 rfl (lv_at hl 1 rfl) ?_
  obtain ⟨b1, h⟩ := ask_step h
  rw [Bool.and_eq_true] at b1
  obtain ⟨v2, ev2, h⟩ := ltd_step h
  refine r_dmax hC ev2 (Nat.blt_eq.mp b1.1) (Nat.blt_eq.mp b1.2) q1719 q1720 q53 q1721 hl.1 (Nat.le_of_ble_eq_true rfl) ⟨Nat.le_of_ble_eq_true rfl, Nat.le_of_ble_eq_true rfl⟩ dJ10_max_2 ?_
  obtain rfl := Option.some.inj h
  rw [eQ]
  exact p_dret hx hb hr hlk dJ10_max_5 rfl

abbrev R_J10_min : Room := { frames := 1, cells := 0, slots := 0, locals := 40 }
noncomputable def f_J10_min (x0 : UInt64) (x1 : UInt64) : Option (UInt64) :=
  ask (dfinB (x0 : UInt64).toNat && dfinB (x1 : UInt64).toNat) <|
  ltd (Native.java_lang_Math.nans.pick64 false x0 x1) fun v2 =>
  some v2
theorem hd_J10_min : Hd yJ10_min 2 := by unfold Hd; decide +kernel
set_option maxHeartbeats 4000000 in
set_option maxRecDepth 100000 in
theorem m_J10_min {l : Launch} {D : DD}   (x0 : UInt64) (x1 : UInt64) (r : UInt64) (h : f_J10_min x0 x1 = some r) : MP l D yJ10_min cJ10_min 4 (some .double) 1 40 [.double x0, .double x1] NoPre (some (.double r)) := by
  refine MP.start (by decide +kernel) (Nat.le_of_ble_eq_true rfl) ?_
  intro p e s m below meth c ls hC hS hp hl
  obtain ⟨hx, hb, hr, hlk, hml, hown, hts, hnm⟩ := id hC
  have hl : lv_has ls 4 [(0, .double x0), (2, .double x1)] := hl
  unfold f_J10_min at h
  have hS0 := hS
  obtain ⟨A, eA⟩ : ∃ A : Array Value, A = [.double x0, .double x1].toArray := ⟨_, rfl⟩
  rw [← eA] at hC hts ⊢
  obtain ⟨Q, eQ⟩ : ∃ Q : State → Prop, Q = MQ below (PQ (some (.double r))) A s 0 0 (fun _ => False) := ⟨_, rfl⟩
  show W p l e R_J10_min s m A below meth c s.heap [] 0 0 _ _
  rw [← eQ]
  refine lv_dload_n hx hb dJ10_min_0 rfl (lv_at hl 0 rfl) ?_
  refine lv_dload_n hx hb dJ10_min_1 rfl (lv_at hl 1 rfl) ?_
  obtain ⟨b1, h⟩ := ask_step h
  rw [Bool.and_eq_true] at b1
  obtain ⟨v2, ev2, h⟩ := ltd_step h
  refine r_dmin hC ev2 (Nat.blt_eq.mp b1.1) (Nat.blt_eq.mp b1.2) q1748 q1749 q53 q1750 hl.1 (Nat.le_of_ble_eq_true rfl) ⟨Nat.le_of_ble_eq_true rfl, Nat.le_of_ble_eq_true rfl⟩ dJ10_min_2 ?_
  obtain rfl := Option.some.inj h
  rw [eQ]
  exact p_dret hx hb hr hlk dJ10_min_5 rfl

abbrev R_J26_signum : Room := { frames := 0, cells := 0, slots := 0, locals := 0 }
noncomputable def f_J26_signum (x0 : Int32) : Option (Int32) :=
  lti (x0 >>> (31 &&& 31)) fun v1 =>
  lti (-x0) fun v2 =>
  lti (((v2 : Int32).toUInt32 >>> ((31 : Int32).toUInt32 &&& Int32.toUInt32 31)).toInt32) fun v3 =>
  lti (v1 ||| v3) fun v4 =>
  some v4
theorem hd_J26_signum : Hd yJ26_signum 1 := by unfold Hd; decide +kernel
set_option maxHeartbeats 4000000 in
set_option maxRecDepth 100000 in
theorem m_J26_signum {l : Launch} {D : DD}   (x0 : Int32) (r : Int32) (h : f_J26_signum x0 = some r) : MP l D yJ26_signum cJ26_signum 1 (some .int) 0 0 [.int x0] NoPre (some (.int r)) := by
  refine MP.start (by decide +kernel) (Nat.le_of_ble_eq_true rfl) ?_
  intro p e s m below meth c ls hC hS hp hl
  obtain ⟨hx, hb, hr, hlk, hml, hown, hts, hnm⟩ := id hC
  have hl : lv_has ls 1 [(0, .int x0)] := hl
  unfold f_J26_signum at h
  have hS0 := hS
  obtain ⟨A, eA⟩ : ∃ A : Array Value, A = [.int x0].toArray := ⟨_, rfl⟩
  rw [← eA] at hC hts ⊢
  obtain ⟨Q, eQ⟩ : ∃ Q : State → Prop, Q = MQ below (PQ (some (.int r))) A s 0 0 (fun _ => False) := ⟨_, rfl⟩
  show W p l e R_J26_signum s m A below meth c s.heap [] 0 0 _ _
  rw [← eQ]
  refine lv_iload_n hx hb dJ26_signum_0 rfl (lv_at hl 0 rfl) ?_
  refine lv_bipush (v := 31) hx hb dJ26_signum_1 (by decide) ?_
  obtain ⟨v1, ev1, h⟩ := lti_step h
  refine r_ishr hx hb ev1 dJ26_signum_3 ?_
  refine lv_iload_n hx hb dJ26_signum_4 rfl (lv_at hl 0 rfl) ?_
  obtain ⟨v2, ev2, h⟩ := lti_step h
  refine r_ineg hx hb ev2 dJ26_signum_5 ?_
  refine lv_bipush (v := 31) hx hb dJ26_signum_6 (by decide) ?_
  obtain ⟨v3, ev3, h⟩ := lti_step h
  refine r_iushr hx hb ev3 dJ26_signum_8 ?_
  obtain ⟨v4, ev4, h⟩ := lti_step h
  refine r_ior hx hb ev4 dJ26_signum_9 ?_
  obtain rfl := Option.some.inj h
  rw [eQ]
  exact p_iret hx hb hr hlk dJ26_signum_10 rfl

abbrev R_J10_init : Room := { frames := 2, cells := 0, slots := 0, locals := 40 }
noncomputable def f_J10_init (x1 : UInt64) : Option (UInt64) :=
  Option.bind (f_J9_init ()) fun o1 =>
  some x1
theorem hd_J10_init : Hd yJ10_init 1 := by unfold Hd; decide +kernel
set_option maxHeartbeats 4000000 in
set_option maxRecDepth 100000 in
theorem m_J10_init {l : Launch} {D : DD} (x0 : Nat)  (x1 : UInt64) (r : UInt64) (h : f_J10_init x1 = some r) : MT l D yJ10_init cJ10_init 3 none 2 40 0 0 [.ref x0, .double x1] (fun H => ON D 5 x0 [.double 0] H ∧ dB D ≤ x0) (pV (fun H H' => ON D 5 x0 [.double r] H' ∧ Off (fun a => a = x0) H H')) := by
  refine MT.start (by decide +kernel) (Nat.le_of_ble_eq_true rfl) ?_
  intro p e s m below meth c ls hC hS hp hl
  obtain ⟨h_x0, hB_h_x0⟩ := hp
  obtain ⟨hx, hb, hr, hlk, hml, hown, hts, hnm⟩ := id hC
  have hl : lv_has ls 3 [(0, .ref x0), (1, .double x1)] := hl
  unfold f_J10_init at h
  have hS0 := hS
  obtain ⟨A, eA⟩ : ∃ A : Array Value, A = [.ref x0, .double x1].toArray := ⟨_, rfl⟩
  rw [← eA] at hC hts ⊢
  obtain ⟨Q, eQ⟩ : ∃ Q : State → Prop, Q = MQ below (TQ D (pV (fun H H' => ON D 5 x0 [.double r] H' ∧ Off (fun a => a = x0) H H'))) A s 0 0 (fun q => dB D ≤ q) := ⟨_, rfl⟩
  have hF : Off (fun a => a = x0) s.heap s.heap := Off.rf
  show W p l e R_J10_init s m A below meth c s.heap [] 0 0 _ _
  rw [← eQ]
  obtain ⟨H, eH⟩ : ∃ H : Heap, H = s.heap := ⟨_, rfl⟩
  obtain ⟨locs, eLc⟩ : ∃ L : List Loc, L = [] := ⟨_, rfl⟩
  have lt_h_x0 := h_x0.lt
  rw [← eH, ← eLc]
  have hF : Off (fun a => a = x0) s.heap H := by rw [eH]; exact hF
  rw [← eH] at h_x0
  have hS : St D s H locs := by rw [eH, eLc]; exact hS
  refine lv_aload_n hx hb dJ10_init_0 rfl (lv_at hl 0 rfl) ?_
  obtain ⟨o1, eo1, h⟩ := bind_step h
  refine r_cv (r_runI (rest := []) (As := []) hC 0 (m_J9_init x0   o1 eo1) q1309 q432 q50 q433 rfl hd_J9_init rfl ⟨Nat.le_of_ble_eq_true rfl, Nat.le_of_ble_eq_true rfl⟩ hS trivial hl.1 rfl (Nat.le_of_ble_eq_true rfl) dJ10_init_1 ⟨Nat.le_of_ble_eq_true rfl, Nat.le_of_ble_eq_true rfl⟩) hS (fun H locs hp hS hz => ?_)
  have hO := hp
  have h_x0 := h_x0.ext hO
  have hF := hF.trans (hO.mono (fun _ _ z => z.elim))
  refine lv_aload_n hx hb dJ10_init_4 rfl (lv_at hl 0 rfl) ?_
  refine lv_dload_n hx hb dJ10_init_5 rfl (lv_at hl 1 rfl) ?_
  refine r_putF hx hb hts hown hS h_x0 hB_h_x0 rfl in_J10 tyJ10 tyJ10_ok nmJ10 0 (Nat.le_of_ble_eq_true rfl) rfl q1310 rfl rfl hnm rfl (v := .double x1) rfl (by rfl) dJ10_init_6 (fun H locs hS hO h_x0 => ?_)
  have h_x0 : ON D 5 x0 [.double x1] H := h_x0
  have hF := hF.fresh hO (fun a ha z => z)
  obtain rfl := Option.some.inj h
  rw [eQ]
  exact r_vret hx hb hr hlk hS (Nat.le_of_ble_eq_true rfl) (Nat.le_of_ble_eq_true rfl) dJ10_init_9 ⟨rfl, h_x0, hF⟩

abbrev R_J10_valueOf : Room := { frames := 3, cells := 1, slots := 1, locals := 62 }
noncomputable def f_J10_valueOf (x0 : UInt64) : Option (UInt64) :=
  Option.bind (f_J10_init x0) fun o2 =>
  some o2
theorem hd_J10_valueOf : Hd yJ10_valueOf 1 := by unfold Hd; decide +kernel
set_option maxHeartbeats 4000000 in
set_option maxRecDepth 100000 in
theorem m_J10_valueOf {l : Launch} {D : DD}   (x0 : UInt64) (r : UInt64) (h : f_J10_valueOf x0 = some r) : MT l D yJ10_valueOf cJ10_valueOf 2 (some (.object "java/lang/Double")) 3 62 1 1 [.double x0] NoPre (pR (fun H b H' => OA D 5 b [.double r] H' ∧ H.size ≤ b ∧ Off (fun _ => False) H H')) := by
  refine MT.start (by decide +kernel) (Nat.le_of_ble_eq_true rfl) ?_
  intro p e s m below meth c ls hC hS hp hl
  obtain ⟨hx, hb, hr, hlk, hml, hown, hts, hnm⟩ := id hC
  have hl : lv_has ls 2 [(0, .double x0)] := hl
  unfold f_J10_valueOf at h
  have hS0 := hS
  obtain ⟨A, eA⟩ : ∃ A : Array Value, A = [.double x0].toArray := ⟨_, rfl⟩
  rw [← eA] at hC hts ⊢
  obtain ⟨Q, eQ⟩ : ∃ Q : State → Prop, Q = MQ below (TQ D (pR (fun H b H' => OA D 5 b [.double r] H' ∧ H.size ≤ b ∧ Off (fun _ => False) H H'))) A s 1 1 (fun q => dB D ≤ q) := ⟨_, rfl⟩
  have hF : Off (fun _ => False) s.heap s.heap := Off.rf
  show W p l e R_J10_valueOf s m A below meth c s.heap [] 0 0 _ _
  rw [← eQ]
  obtain ⟨H, eH⟩ : ∃ H : Heap, H = s.heap := ⟨_, rfl⟩
  obtain ⟨locs, eLc⟩ : ∃ L : List Loc, L = [] := ⟨_, rfl⟩
  rw [← eH, ← eLc]
  have hF : Off (fun _ => False) s.heap H := by rw [eH]; exact hF
  have hS : St D s H locs := by rw [eH, eLc]; exact hS
  refine r_new (k := 5) hx hb hts hown hS rfl in_J10 tyJ10 tyJ10_ok q1304 q1305 q51 (fs := [.double 0]) rfl (by decide) (Nat.le_of_ble_eq_true rfl) (Nat.le_of_ble_eq_true rfl) dJ10_valueOf_0 (fun ad1 H eq_ad1 hS hE had1 z_ad1 hB_had1 => ?_)
  have gad1 : s.heap.size ≤ ad1 := by have := hF.1; omega
  have hF := hF.trans (hE.mono (fun _ _ z => z.elim))
  refine lv_dup hx hb dJ10_valueOf_3 rfl ?_
  refine lv_dload_n hx hb dJ10_valueOf_4 rfl (lv_at hl 0 rfl) ?_
  obtain ⟨o2, eo2, h⟩ := bind_step h
  refine r_cv (r_runI (rest := [.ref ad1]) (As := [.double x0]) hC 1 (m_J10_init ad1  x0 o2 eo2) q1306 q1307 q51 q1308 rfl hd_J10_init rfl ⟨Nat.le_of_ble_eq_true rfl, Nat.le_of_ble_eq_true rfl⟩ hS ⟨had1, hB_had1⟩ hl.1 rfl (Nat.le_of_ble_eq_true rfl) dJ10_valueOf_5 ⟨Nat.le_of_ble_eq_true rfl, Nat.le_of_ble_eq_true rfl⟩) hS (fun H locs hp hS hz => ?_)
  obtain ⟨had1, hO⟩ := hp
  have hF := hF.fresh hO (fun a ha z => absurd (z ▸ ha) (Nat.not_lt.mpr gad1))
  obtain rfl := Option.some.inj h
  rw [eQ]
  exact r_aret hx hb hr (Or.inl ⟨_, rfl⟩) hlk hS (Nat.le_of_ble_eq_true rfl) (Nat.le_of_ble_eq_true rfl) dJ10_valueOf_8 ⟨_, rfl, had1.OA, gad1, hF⟩

abbrev R_J10_compareTo : Room := { frames := 3, cells := 0, slots := 0, locals := 71 }
noncomputable def f_J10_compareTo (x0f0 : UInt64) (x1f0 : UInt64) : Option (Int32) :=
  Option.bind (f_J10_compare x0f0 x1f0) fun o1 =>
  some o1
theorem hd_J10_compareTo : Hd yJ10_compareTo 1 := by unfold Hd; decide +kernel
set_option maxHeartbeats 4000000 in
set_option maxRecDepth 100000 in
theorem m_J10_compareTo {l : Launch} {D : DD} (x0 : Nat) (x1 : Nat)  (x0f0 : UInt64) (x1f0 : UInt64) (r : Int32) (h : f_J10_compareTo x0f0 x1f0 = some r) : MP l D yJ10_compareTo cJ10_compareTo 2 (some .int) 3 71 [.ref x0, .ref x1] (fun H => OA D 5 x0 [.double x0f0] H ∧ OA D 5 x1 [.double x1f0] H) (some (.int r)) := by
  refine MP.start (by decide +kernel) (Nat.le_of_ble_eq_true rfl) ?_
  intro p e s m below meth c ls hC hS hp hl
  obtain ⟨h_x0, h_x1⟩ := hp
  obtain ⟨hx, hb, hr, hlk, hml, hown, hts, hnm⟩ := id hC
  have hl : lv_has ls 2 [(0, .ref x0), (1, .ref x1)] := hl
  unfold f_J10_compareTo at h
  have hS0 := hS
  obtain ⟨A, eA⟩ : ∃ A : Array Value, A = [.ref x0, .ref x1].toArray := ⟨_, rfl⟩
  rw [← eA] at hC hts ⊢
  obtain ⟨Q, eQ⟩ : ∃ Q : State → Prop, Q = MQ below (PQ (some (.int r))) A s 0 0 (fun _ => False) := ⟨_, rfl⟩
  show W p l e R_J10_compareTo s m A below meth c s.heap [] 0 0 _ _
  rw [← eQ]
  refine lv_aload_n hx hb dJ10_compareTo_0 rfl (lv_at hl 0 rfl) ?_
  refine r_get hx hb hts hown hS h_x0 rfl in_J10 0 (by decide) q1310 rfl (v := .double x0f0) rfl dJ10_compareTo_1 ?_
  refine lv_aload_n hx hb dJ10_compareTo_4 rfl (lv_at hl 1 rfl) ?_
  refine r_get hx hb hts hown hS h_x1 rfl in_J10 0 (by decide) q1310 rfl (v := .double x1f0) rfl dJ10_compareTo_5 ?_
  obtain ⟨o1, eo1, h⟩ := bind_step h
  refine r_cp (r_runS (rest := []) (As := [.double x0f0, .double x1f0]) hC 2 (m_J10_compare   x0f0 x1f0 o1 eo1) q1318 q1295 q51 q1296 hd_J10_compare rfl ⟨Nat.le_of_ble_eq_true rfl, Nat.le_of_ble_eq_true rfl⟩ hS trivial hl.1 rfl (Nat.le_of_ble_eq_true rfl) dJ10_compareTo_8 ⟨Nat.le_of_ble_eq_true rfl, Nat.le_of_ble_eq_true rfl⟩) ?_
  obtain rfl := Option.some.inj h
  rw [eQ]
  exact p_iret hx hb hr hlk dJ10_compareTo_11 rfl

abbrev R_J10_equals : Room := { frames := 2, cells := 0, slots := 0, locals := 44 }
noncomputable def f_J10_equals (x0f0 : UInt64) (x1f0 : UInt64) : Option (Bool) :=
  Option.bind (f_J10_doubleToLongBits x1f0) fun o2 =>
  Option.bind (f_J10_doubleToLongBits x0f0) fun o3 =>
  lti (lg_cmp o2 o3) fun v4 =>
  (if v4 = 0 then
    some true
  else
    some false
  )
theorem hd_J10_equals : Hd yJ10_equals 1 := by unfold Hd; decide +kernel
set_option maxHeartbeats 4000000 in
set_option maxRecDepth 100000 in
theorem m_J10_equals {l : Launch} {D : DD} (x0 : Nat) (x1 : Nat)  (x0f0 : UInt64) (x1f0 : UInt64) (r : Bool) (h : f_J10_equals x0f0 x1f0 = some r) : MP l D yJ10_equals cJ10_equals 2 (some .boolean) 2 44 [.ref x0, .ref x1] (fun H => OA D 5 x0 [.double x0f0] H ∧ OA D 5 x1 [.double x1f0] H) (some (.int (bI r))) := by
  refine MP.start (by decide +kernel) (Nat.le_of_ble_eq_true rfl) ?_
  intro p e s m below meth c ls hC hS hp hl
  obtain ⟨h_x0, h_x1⟩ := hp
  obtain ⟨hx, hb, hr, hlk, hml, hown, hts, hnm⟩ := id hC
  have hl : lv_has ls 2 [(0, .ref x0), (1, .ref x1)] := hl
  unfold f_J10_equals at h
  have hS0 := hS
  obtain ⟨A, eA⟩ : ∃ A : Array Value, A = [.ref x0, .ref x1].toArray := ⟨_, rfl⟩
  rw [← eA] at hC hts ⊢
  obtain ⟨Q, eQ⟩ : ∃ Q : State → Prop, Q = MQ below (PQ (some (.int (bI r)))) A s 0 0 (fun _ => False) := ⟨_, rfl⟩
  show W p l e R_J10_equals s m A below meth c s.heap [] 0 0 _ _
  rw [← eQ]
  refine lv_aload_n hx hb dJ10_equals_0 rfl (lv_at hl 1 rfl) ?_
  refine va_instS hx hb hown (hts _ q1304) (hS.1.known (k := 5) rfl).2 (OA.recv hS h_x1 rfl) dJ10_equals_1 ?_
  refine lv_if_eq (tgt := 32) hx hb dJ10_equals_4 (by decide) (fun c1 => ?_) (fun c1 => ?_)
  · exact absurd c1 (by decide)
  refine lv_aload_n hx hb dJ10_equals_7 rfl (lv_at hl 1 rfl) ?_
  refine va_castS hx hb hown (hts _ q1304) (hS.1.known (k := 5) rfl).2 (OA.recv hS h_x1 rfl) dJ10_equals_8 ?_
  refine r_get hx hb hts hown hS h_x1 rfl in_J10 0 (by decide) q1310 rfl (v := .double x1f0) rfl dJ10_equals_11 ?_
  obtain ⟨o2, eo2, h⟩ := bind_step h
  refine r_cp (r_runS (rest := []) (As := [.double x1f0]) hC 1 (m_J10_doubleToLongBits   x1f0 o2 eo2) q1297 q367 q51 q368 hd_J10_doubleToLongBits rfl ⟨Nat.le_of_ble_eq_true rfl, Nat.le_of_ble_eq_true rfl⟩ hS trivial hl.1 rfl (Nat.le_of_ble_eq_true rfl) dJ10_equals_14 ⟨Nat.le_of_ble_eq_true rfl, Nat.le_of_ble_eq_true rfl⟩) ?_
  refine lv_aload_n hx hb dJ10_equals_17 rfl (lv_at hl 0 rfl) ?_
  refine r_get hx hb hts hown hS h_x0 rfl in_J10 0 (by decide) q1310 rfl (v := .double x0f0) rfl dJ10_equals_18 ?_
  obtain ⟨o3, eo3, h⟩ := bind_step h
  refine r_cp (r_runS (rest := [.long o2]) (As := [.double x0f0]) hC 1 (m_J10_doubleToLongBits   x0f0 o3 eo3) q1297 q367 q51 q368 hd_J10_doubleToLongBits rfl ⟨Nat.le_of_ble_eq_true rfl, Nat.le_of_ble_eq_true rfl⟩ hS trivial hl.1 rfl (Nat.le_of_ble_eq_true rfl) dJ10_equals_21 ⟨Nat.le_of_ble_eq_true rfl, Nat.le_of_ble_eq_true rfl⟩) ?_
  obtain ⟨v4, ev4, h⟩ := lti_step h
  refine r_lcmp hx hb ev4 dJ10_equals_24 ?_
  refine lv_if_ne (tgt := 32) hx hb dJ10_equals_25 (by decide) (fun c5 => ?_) (fun c5 => ?_)
  · have h := it_neg h c5
    refine lv_iconst (v := 0) hx hb dJ10_equals_32 (by decide) ?_
    obtain rfl := Option.some.inj h
    rw [eQ]
    exact p_zret hx hb hr hlk (by decide) dJ10_equals_33 rfl
  · have h := it_pos h c5
    refine lv_iconst (v := 1) hx hb dJ10_equals_28 (by decide) ?_
    refine lv_goto (tgt := 33) hx hb dJ10_equals_29 (by decide) ?_
    obtain rfl := Option.some.inj h
    rw [eQ]
    exact p_zret hx hb hr hlk (by decide) dJ10_equals_33 rfl

abbrev R_J17_equals : Room := { frames := 3, cells := 0, slots := 0, locals := 65 }
noncomputable def f_J17_equals (x0f0 : UInt64) (x1f0 : UInt64) : Option (Bool) :=
  Option.bind (f_J10_equals x0f0 x1f0) fun o2 =>
  (if o2 = true then
    some true
  else
    some false
  )
theorem hd_J17_equals : Hd yJ17_equals 2 := by unfold Hd; decide +kernel
set_option maxHeartbeats 4000000 in
set_option maxRecDepth 100000 in
theorem m_J17_equals {l : Launch} {D : DD} (x0 : Nat) (x1 : Nat)  (x0f0 : UInt64) (x1f0 : UInt64) (r : Bool) (h : f_J17_equals x0f0 x1f0 = some r) : MP l D yJ17_equals cJ17_equals 2 (some .boolean) 3 65 [.ref x0, .ref x1] (fun H => OA D 5 x0 [.double x0f0] H ∧ OA D 5 x1 [.double x1f0] H ∧ x0 ≠ x1) (some (.int (bI r))) := by
  refine MP.start (by decide +kernel) (Nat.le_of_ble_eq_true rfl) ?_
  intro p e s m below meth c ls hC hS hp hl
  obtain ⟨h_x0, h_x1, ne_x0_x1⟩ := hp
  obtain ⟨hx, hb, hr, hlk, hml, hown, hts, hnm⟩ := id hC
  have hl : lv_has ls 2 [(0, .ref x0), (1, .ref x1)] := hl
  unfold f_J17_equals at h
  have hS0 := hS
  obtain ⟨A, eA⟩ : ∃ A : Array Value, A = [.ref x0, .ref x1].toArray := ⟨_, rfl⟩
  rw [← eA] at hC hts ⊢
  obtain ⟨Q, eQ⟩ : ∃ Q : State → Prop, Q = MQ below (PQ (some (.int (bI r)))) A s 0 0 (fun _ => False) := ⟨_, rfl⟩
  show W p l e R_J17_equals s m A below meth c s.heap [] 0 0 _ _
  rw [← eQ]
  refine lv_aload_n hx hb dJ17_equals_0 rfl (lv_at hl 0 rfl) ?_
  refine lv_aload_n hx hb dJ17_equals_1 rfl (lv_at hl 1 rfl) ?_
  refine lv_acmp_eq (rx := (some x0)) (ry := (some x1)) (tgt := 17) hx hb dJ17_equals_2 (by decide) (fun c1 => ?_) (fun c1 => ?_)
  · exact absurd c1 (fun z => ne_x0_x1 (Option.some.inj z))
  refine lv_aload_n hx hb dJ17_equals_5 rfl (lv_at hl 0 rfl) ?_
  refine lv_ifnull hx hb dJ17_equals_6 ?_
  refine lv_aload_n hx hb dJ17_equals_9 rfl (lv_at hl 0 rfl) ?_
  refine lv_aload_n hx hb dJ17_equals_10 rfl (lv_at hl 1 rfl) ?_
  obtain ⟨o2, eo2, h⟩ := bind_step h
  refine r_cp (r_runO (rest := []) (As := [.ref x1]) hC 1 (m_J10_equals x0 x1  x0f0 x1f0 o2 eo2) q1458 q1432 q1431 q1437 q1427 q51 q1429 q1453 (OA.recv hS h_x0 (C := RJ10) rfl) ⟨by decide, by decide, by decide +kernel⟩  rfl ⟨Nat.le_of_ble_eq_true rfl, Nat.le_of_ble_eq_true rfl⟩ hS ⟨h_x0, h_x1⟩ hl.1 rfl (Nat.le_of_ble_eq_true rfl) dJ17_equals_11 ⟨Nat.le_of_ble_eq_true rfl, Nat.le_of_ble_eq_true rfl⟩) ?_
  refine r_ifz_eq (tgt := 21) hx hb dJ17_equals_14 (by decide) (fun c3 => ?_) (fun c3 => ?_)
  · have h := it_neg h (by rw [c3]; decide)
    refine lv_iconst (v := 0) hx hb dJ17_equals_21 (by decide) ?_
    obtain rfl := Option.some.inj h
    rw [eQ]
    exact p_zret hx hb hr hlk (by decide) dJ17_equals_22 rfl
  · have h := it_pos h (by rw [c3])
    refine lv_iconst (v := 1) hx hb dJ17_equals_17 (by decide) ?_
    refine lv_goto (tgt := 22) hx hb dJ17_equals_18 (by decide) ?_
    obtain rfl := Option.some.inj h
    rw [eQ]
    exact p_zret hx hb hr hlk (by decide) dJ17_equals_22 rfl

abbrev R_J32_insertionSort : Room := { frames := 0, cells := 0, slots := 0, locals := 0 }
noncomputable def f_J32_insertionSort (x0c : Nat → UInt64) (x1 : Int32) (x2 : Int32) : Option ((Nat → UInt64)) :=
  lt (fun (f1 : Nat → UInt64) (v2 : Int32) =>
  (show Option (Sum ((Nat → UInt64) × Int32) ((Nat → UInt64))) from (
  lti (v2 + 1) fun v34 =>
  (if x2 ≤ v34 then
    some (.inr f1)
  else
    gd 8 v34 fun i36 =>
    ltd (f1 i36) fun v37 =>
    lti (v34 - 1) fun v38 =>
    gd 8 v38 fun i39 =>
    ltd (f1 i39) fun v40 =>
    lti (dcmpF v37 v40 .g) fun v41 =>
    (if 0 ≤ v41 then
      some (.inl (f1, v34))
    else
      lt (fun (f43 : Nat → UInt64) (v44 : Int32) =>
      (show Option (Sum ((Nat → UInt64) × Int32) ((Nat → UInt64) × Int32)) from (
      lti (v44 + (-1)) fun v61 =>
      (if v61 < x1 then
        some (.inr (f43, v61))
      else
        gd 8 v61 fun i63 =>
        ltd (f43 i63) fun v64 =>
        lti (dcmpF v37 v64 .g) fun v65 =>
        (if 0 ≤ v65 then
          some (.inr (f43, v61))
        else
          lti (v61 + 1) fun v67 =>
          gd 8 v61 fun i68 =>
          ltd (f43 i68) fun v69 =>
          gd 8 v67 fun i70 =>
          lt (va_up f43 i70 v69) fun f71 =>
          some (.inl (f71, v61))
        )
      )
      ))
      ) fun F58 =>
      Option.bind (lp 10 (fun x => F58 x.1 x.2) (f1, v34)) fun w59 =>
      lti (w59.2 + 1) fun v72 =>
      gd 8 v72 fun i73 =>
      lt (va_up w59.1 i73 v37) fun f74 =>
      some (.inl (f74, v34))
    )
  )
  ))
  ) fun F31 =>
  Option.bind (lp 10 (fun x => F31 x.1 x.2) (x0c, x1)) fun w32 =>
  some w32
theorem hd_J32_insertionSort : Hd yJ32_insertionSort 3 := by unfold Hd; decide +kernel
set_option maxHeartbeats 4000000 in
set_option maxRecDepth 100000 in
theorem m_J32_insertionSort {l : Launch} {D : DD} (x0 : Nat)  (x0c : Nat → UInt64) (x1 : Int32) (x2 : Int32) (r : (Nat → UInt64)) (h : f_J32_insertionSort x0c x1 x2 = some r) : MT l D yJ32_insertionSort cJ32_insertionSort 7 none 0 0 0 0 [.ref x0, .int x1, .int x2] (fun H => aD D x0 8 x0c H ∧ dB D ≤ x0) (pV (fun H H' => aD D x0 8 r H' ∧ Off (fun a => a = x0) H H')) := by
  refine MT.start (by decide +kernel) (Nat.le_of_ble_eq_true rfl) ?_
  intro p e s m below meth c ls hC hS hp hl
  obtain ⟨h_x0, hB_h_x0⟩ := hp
  obtain ⟨hx, hb, hr, hlk, hml, hown, hts, hnm⟩ := id hC
  have hl : lv_has ls 7 [(0, .ref x0), (1, .int x1), (2, .int x2)] := hl
  unfold f_J32_insertionSort at h
  have hS0 := hS
  obtain ⟨A, eA⟩ : ∃ A : Array Value, A = [.ref x0, .int x1, .int x2].toArray := ⟨_, rfl⟩
  rw [← eA] at hC hts ⊢
  obtain ⟨Q, eQ⟩ : ∃ Q : State → Prop, Q = MQ below (TQ D (pV (fun H H' => aD D x0 8 r H' ∧ Off (fun a => a = x0) H H'))) A s 0 0 (fun q => dB D ≤ q) := ⟨_, rfl⟩
  have hF : Off (fun a => a = x0) s.heap s.heap := Off.rf
  show W p l e R_J32_insertionSort s m A below meth c s.heap [] 0 0 _ _
  rw [← eQ]
  obtain ⟨H, eH⟩ : ∃ H : Heap, H = s.heap := ⟨_, rfl⟩
  obtain ⟨locs, eLc⟩ : ∃ L : List Loc, L = [] := ⟨_, rfl⟩
  have lt_h_x0 := h_x0.lt
  rw [← eH, ← eLc]
  have hF : Off (fun a => a = x0) s.heap H := by rw [eH]; exact hF
  rw [← eH] at h_x0
  have hS : St D s H locs := by rw [eH, eLc]; exact hS
  refine lv_iload_n hx hb dJ32_insertionSort_0 rfl (lv_at hl 1 rfl) ?_
  refine lv_istore (lv' := [(4, .int x1), (0, .ref x0), (1, .int x1), (2, .int x2)]) hx hb dJ32_insertionSort_1 hl (by decide) rfl (fun ls hl => ?_)
  obtain ⟨F31, eF31, h⟩ := lt_step h
  obtain ⟨w32, ew32, h⟩ := bind_step h
  have HL : ∀ (n : Nat) (f1 : Nat → UInt64) (v2 : Int32) (w32 : (Nat → UInt64)) (hk0 : lp n (fun x => F31 x.1 x.2) (f1, v2) = some w32)  (H : Heap) (locs : List Loc) (hS : St D s H locs) (hF : Off (fun a => a = x0) s.heap H) (h_x0 : aD D x0 8 f1 H) (ls : Array Slot) (hl : lv_has ls 7 [(0, .ref x0), (1, .int x1), (2, .int x2), (4, .int v2)]) (K69 : ∀ (H : Heap) (locs : List Loc) (hS : St D s H locs) (hF : Off (fun a => a = x0) s.heap H) (h_x0 : aD D x0 8 w32 H) (ls : Array Slot) (hl : lv_has ls 7 []), W p l e R_J32_insertionSort s m A below meth c H locs 0 0 Q (F0 m 69 ls [])), W p l e R_J32_insertionSort s m A below meth c H locs 0 0 Q (F0 m 3 ls []) := by
    intro n
    induction n with
    | zero => intro f1 v2 w32 hk0  H locs hS hF h_x0 ls hl K69; exact lp_zero hk0
    | succ n ih =>
      intro f1 v2 w32 hk0  H locs hS hF h_x0 ls hl K69
      obtain ⟨z33, hz, hk⟩ := lp_step hk0
      have h := (congrFun (congrFun (eF31) f1) v2).symm.trans hz
      obtain ⟨v34, ev34, h⟩ := lti_step h
      refine lv_iinc (v := v34) (lv' := [(4, .int v34), (0, .ref x0), (1, .int x1), (2, .int x2)]) hx hb dJ32_insertionSort_3 hl (k := 3) rfl (by rw [ev34]; rfl) (by decide) rfl (fun ls hl => ?_)
      refine lv_iload hx hb dJ32_insertionSort_6 (lv_at hl 0 rfl) ?_
      refine lv_iload_n hx hb dJ32_insertionSort_8 rfl (lv_at hl 3 rfl) ?_
      refine lv_icmp_ge (tgt := 69) hx hb dJ32_insertionSort_9 (by decide) (fun c35 => ?_) (fun c35 => ?_)
      · have h := it_pos h c35
        obtain rfl := Option.some.inj h
        obtain rfl := id hk
        exact K69 H locs hS hF h_x0 ls (lv_sub hl [] rfl)
      · have h := it_neg h c35
        refine lv_aload_n hx hb dJ32_insertionSort_12 rfl (lv_at hl 1 rfl) ?_
        refine lv_iload hx hb dJ32_insertionSort_13 (lv_at hl 0 rfl) ?_
        refine lv_dup hx hb dJ32_insertionSort_15 rfl ?_
        refine lv_istore_n (lv' := [(3, .int v34), (4, .int v34), (0, .ref x0), (1, .int x1), (2, .int x2)]) hx hb dJ32_insertionSort_16 rfl hl (by decide) rfl (fun ls hl => ?_)
        obtain ⟨i36, xi36, h⟩ := gd_step (by decide) h
        refine r_dald hx hb hS h_x0 i36 xi36 dJ32_insertionSort_17 ?_
        obtain ⟨v37, ev37, h⟩ := ltd_step h
        refine r_nmD ev37 ?_
        refine lv_dstore (lv' := [(5, .double v37), (3, .int v34), (4, .int v34), (0, .ref x0), (1, .int x1), (2, .int x2)]) hx hb dJ32_insertionSort_18 hl (by decide) rfl (fun ls hl => ?_)
        refine lv_dload hx hb dJ32_insertionSort_20 (lv_at hl 0 rfl) ?_
        refine lv_aload_n hx hb dJ32_insertionSort_22 rfl (lv_at hl 3 rfl) ?_
        refine lv_iload_n hx hb dJ32_insertionSort_23 rfl (lv_at hl 1 rfl) ?_
        refine lv_iconst (v := 1) hx hb dJ32_insertionSort_24 (by decide) ?_
        obtain ⟨v38, ev38, h⟩ := lti_step h
        refine r_isub hx hb ev38 dJ32_insertionSort_25 ?_
        obtain ⟨i39, xi39, h⟩ := gd_step (by decide) h
        refine r_dald hx hb hS h_x0 i39 xi39 dJ32_insertionSort_26 ?_
        obtain ⟨v40, ev40, h⟩ := ltd_step h
        refine r_nmD ev40 ?_
        obtain ⟨v41, ev41, h⟩ := lti_step h
        refine r_dcmp hx hb ev41 dJ32_insertionSort_27 ?_
        refine lv_if_ge (tgt := 66) hx hb dJ32_insertionSort_28 (by decide) (fun c42 => ?_) (fun c42 => ?_)
        · have h := it_pos h c42
          refine lv_goto (tgt := 3) hx hb dJ32_insertionSort_66 (by decide) ?_
          obtain rfl := Option.some.inj h
          exact ih f1 v34 w32 hk  H locs hS hF h_x0 ls (lv_sub hl [3, 4, 5, 2] rfl) K69
        · have h := it_neg h c42
          obtain ⟨F58, eF58, h⟩ := lt_step h
          obtain ⟨w59, ew59, h⟩ := bind_step h
          have HL : ∀ (n : Nat) (f43 : Nat → UInt64) (v44 : Int32) (w59 : (Nat → UInt64) × Int32) (hk0 : lp n (fun x => F58 x.1 x.2) (f43, v44) = some w59)  (H : Heap) (locs : List Loc) (hS : St D s H locs) (hF : Off (fun a => a = x0) s.heap H) (h_x0 : aD D x0 8 f43 H) (ls : Array Slot) (hl : lv_has ls 7 [(0, .ref x0), (1, .int x1), (2, .int x2), (3, .int v44), (4, .int v34), (5, .double v37)]) (K59 : ∀ (H : Heap) (locs : List Loc) (hS : St D s H locs) (hF : Off (fun a => a = x0) s.heap H) (h_x0 : aD D x0 8 w59.1 H) (ls : Array Slot) (hl : lv_has ls 7 [(0, .ref x0), (1, .int x1), (2, .int x2), (3, .int w59.2), (4, .int v34), (5, .double v37)]), W p l e R_J32_insertionSort s m A below meth c H locs 0 0 Q (F0 m 59 ls [])), W p l e R_J32_insertionSort s m A below meth c H locs 0 0 Q (F0 m 31 ls []) := by
            intro n
            induction n with
            | zero => intro f43 v44 w59 hk0  H locs hS hF h_x0 ls hl K59; exact lp_zero hk0
            | succ n ih =>
              intro f43 v44 w59 hk0  H locs hS hF h_x0 ls hl K59
              obtain ⟨z60, hz, hk⟩ := lp_step hk0
              have h := (congrFun (congrFun (eF58) f43) v44).symm.trans hz
              obtain ⟨v61, ev61, h⟩ := lti_step h
              refine lv_iinc (v := v61) (lv' := [(3, .int v61), (0, .ref x0), (1, .int x1), (2, .int x2), (4, .int v34), (5, .double v37)]) hx hb dJ32_insertionSort_31 hl (k := 3) rfl (by rw [ev61]; rfl) (by decide) rfl (fun ls hl => ?_)
              refine lv_iload_n hx hb dJ32_insertionSort_34 rfl (lv_at hl 0 rfl) ?_
              refine lv_iload_n hx hb dJ32_insertionSort_35 rfl (lv_at hl 2 rfl) ?_
              refine lv_icmp_lt (tgt := 59) hx hb dJ32_insertionSort_36 (by decide) (fun c62 => ?_) (fun c62 => ?_)
              · have h := it_pos h c62
                obtain rfl := Option.some.inj h
                obtain rfl := id hk
                exact K59 H locs hS hF h_x0 ls (lv_sub hl [1, 2, 3, 0, 4, 5] rfl)
              · have h := it_neg h c62
                refine lv_dload hx hb dJ32_insertionSort_39 (lv_at hl 5 rfl) ?_
                refine lv_aload_n hx hb dJ32_insertionSort_41 rfl (lv_at hl 1 rfl) ?_
                refine lv_iload_n hx hb dJ32_insertionSort_42 rfl (lv_at hl 0 rfl) ?_
                obtain ⟨i63, xi63, h⟩ := gd_step (by decide) h
                refine r_dald hx hb hS h_x0 i63 xi63 dJ32_insertionSort_43 ?_
                obtain ⟨v64, ev64, h⟩ := ltd_step h
                refine r_nmD ev64 ?_
                obtain ⟨v65, ev65, h⟩ := lti_step h
                refine r_dcmp hx hb ev65 dJ32_insertionSort_44 ?_
                refine lv_if_ge (tgt := 59) hx hb dJ32_insertionSort_45 (by decide) (fun c66 => ?_) (fun c66 => ?_)
                · have h := it_pos h c66
                  obtain rfl := Option.some.inj h
                  obtain rfl := id hk
                  exact K59 H locs hS hF h_x0 ls (lv_sub hl [1, 2, 3, 0, 4, 5] rfl)
                · have h := it_neg h c66
                  refine lv_aload_n hx hb dJ32_insertionSort_48 rfl (lv_at hl 1 rfl) ?_
                  refine lv_iload_n hx hb dJ32_insertionSort_49 rfl (lv_at hl 0 rfl) ?_
                  refine lv_iconst (v := 1) hx hb dJ32_insertionSort_50 (by decide) ?_
                  obtain ⟨v67, ev67, h⟩ := lti_step h
                  refine r_iadd hx hb ev67 dJ32_insertionSort_51 ?_
                  refine lv_aload_n hx hb dJ32_insertionSort_52 rfl (lv_at hl 1 rfl) ?_
                  refine lv_iload_n hx hb dJ32_insertionSort_53 rfl (lv_at hl 0 rfl) ?_
                  obtain ⟨i68, xi68, h⟩ := gd_step (by decide) h
                  refine r_dald hx hb hS h_x0 i68 xi68 dJ32_insertionSort_54 ?_
                  obtain ⟨v69, ev69, h⟩ := ltd_step h
                  refine r_nmD ev69 ?_
                  obtain ⟨i70, xi70, h⟩ := gd_step (by decide) h
                  obtain ⟨f71, ef71, h⟩ := lt_step h
                  refine r_dast hx hb hS h_x0 hB_h_x0 i70 xi70 dJ32_insertionSort_55 (fun H locs hS hO h_x0 => ?_)
                  have h_x0 : aD D x0 8 f71 H := by rw [ef71]; exact h_x0
                  have hF := hF.fresh hO (fun a ha z => z)
                  refine lv_goto (tgt := 31) hx hb dJ32_insertionSort_56 (by decide) ?_
                  obtain rfl := Option.some.inj h
                  exact ih f71 v61 w59 hk  H locs hS hF h_x0 ls (lv_sub hl [1, 2, 3, 0, 4, 5] rfl) K59
          clear eF58
          refine HL 10 f1 v34 w59 ew59  H locs hS hF h_x0 ls (lv_sub hl [3, 4, 5, 1, 2, 0] rfl) (fun  H locs hS hF h_x0 ls hl => ?_)
          refine lv_aload_n hx hb dJ32_insertionSort_59 rfl (lv_at hl 0 rfl) ?_
          refine lv_iload_n hx hb dJ32_insertionSort_60 rfl (lv_at hl 3 rfl) ?_
          refine lv_iconst (v := 1) hx hb dJ32_insertionSort_61 (by decide) ?_
          obtain ⟨v72, ev72, h⟩ := lti_step h
          refine r_iadd hx hb ev72 dJ32_insertionSort_62 ?_
          refine lv_dload hx hb dJ32_insertionSort_63 (lv_at hl 5 rfl) ?_
          obtain ⟨i73, xi73, h⟩ := gd_step (by decide) h
          obtain ⟨f74, ef74, h⟩ := lt_step h
          refine r_dast hx hb hS h_x0 hB_h_x0 i73 xi73 dJ32_insertionSort_65 (fun H locs hS hO h_x0 => ?_)
          have h_x0 : aD D x0 8 f74 H := by rw [ef74]; exact h_x0
          have hF := hF.fresh hO (fun a ha z => z)
          refine lv_goto (tgt := 3) hx hb dJ32_insertionSort_66 (by decide) ?_
          obtain rfl := Option.some.inj h
          exact ih f74 v34 w32 hk  H locs hS hF h_x0 ls (lv_sub hl [0, 1, 2, 4] rfl) K69
  clear eF31
  refine HL 10 x0c x1 w32 ew32  H locs hS hF h_x0 ls (lv_sub hl [1, 2, 3, 0] rfl) (fun  H locs hS hF h_x0 ls hl => ?_)
  obtain rfl := Option.some.inj h
  rw [eQ]
  exact r_vret hx hb hr hlk hS (Nat.le_of_ble_eq_true rfl) (Nat.le_of_ble_eq_true rfl) dJ32_insertionSort_69 ⟨rfl, h_x0, hF⟩

abbrev R_J32_sort_2 : Room := { frames := 1, cells := 0, slots := 0, locals := 26 }
noncomputable def f_J32_sort_2 (x1c : Nat → UInt64) (x2 : Int32) (x3 : Int32) (x4 : Int32) : Option ((Nat → UInt64)) :=
  lti (x4 - 1) fun v1 =>
  lti (x4 - x3) fun v2 =>
  lti (65 + x2) fun v3 =>
  lt (fun (_u : Unit) =>
  (if 44 ≤ v2 then
    none
  else
    Option.bind (f_J32_insertionSort x1c x3 x4) fun o6 =>
    some o6
  )
  ) fun K4 =>
  (if v3 ≤ v2 then
    K4 ()
  else
    lti (x2 &&& 1) fun v8 =>
    (if v8 ≤ 0 then
      K4 ()
    else
      none
    )
  )
theorem hd_J32_sort_2 : Hd yJ32_sort_2 5 := by unfold Hd; decide +kernel
set_option maxHeartbeats 4000000 in
set_option maxRecDepth 100000 in
theorem m_J32_sort_2 {l : Launch} {D : DD} (x1 : Nat)  (x1c : Nat → UInt64) (x2 : Int32) (x3 : Int32) (x4 : Int32) (r : (Nat → UInt64)) (h : f_J32_sort_2 x1c x2 x3 x4 = some r) : MT l D yJ32_sort_2 cJ32_sort_2 25 none 1 26 0 0 [.null, .ref x1, .int x2, .int x3, .int x4] (fun H => aD D x1 8 x1c H ∧ dB D ≤ x1) (pV (fun H H' => aD D x1 8 r H' ∧ Off (fun a => a = x1) H H')) := by
  refine MT.start (by decide +kernel) (Nat.le_of_ble_eq_true rfl) ?_
  intro p e s m below meth c ls hC hS hp hl
  obtain ⟨h_x1, hB_h_x1⟩ := hp
  obtain ⟨hx, hb, hr, hlk, hml, hown, hts, hnm⟩ := id hC
  have hl : lv_has ls 25 [(0, .null), (1, .ref x1), (2, .int x2), (3, .int x3), (4, .int x4)] := hl
  unfold f_J32_sort_2 at h
  have hS0 := hS
  obtain ⟨A, eA⟩ : ∃ A : Array Value, A = [.null, .ref x1, .int x2, .int x3, .int x4].toArray := ⟨_, rfl⟩
  rw [← eA] at hC hts ⊢
  obtain ⟨Q, eQ⟩ : ∃ Q : State → Prop, Q = MQ below (TQ D (pV (fun H H' => aD D x1 8 r H' ∧ Off (fun a => a = x1) H H'))) A s 0 0 (fun q => dB D ≤ q) := ⟨_, rfl⟩
  have hF : Off (fun a => a = x1) s.heap s.heap := Off.rf
  show W p l e R_J32_sort_2 s m A below meth c s.heap [] 0 0 _ _
  rw [← eQ]
  obtain ⟨H, eH⟩ : ∃ H : Heap, H = s.heap := ⟨_, rfl⟩
  obtain ⟨locs, eLc⟩ : ∃ L : List Loc, L = [] := ⟨_, rfl⟩
  have lt_h_x1 := h_x1.lt
  rw [← eH, ← eLc]
  have hF : Off (fun a => a = x1) s.heap H := by rw [eH]; exact hF
  rw [← eH] at h_x1
  have hS : St D s H locs := by rw [eH, eLc]; exact hS
  refine lv_iload hx hb dJ32_sort_2_0 (lv_at hl 4 rfl) ?_
  refine lv_iconst (v := 1) hx hb dJ32_sort_2_2 (by decide) ?_
  obtain ⟨v1, ev1, h⟩ := lti_step h
  refine r_isub hx hb ev1 dJ32_sort_2_3 ?_
  refine lv_istore (lv' := [(5, .int v1), (0, .null), (1, .ref x1), (2, .int x2), (3, .int x3), (4, .int x4)]) hx hb dJ32_sort_2_4 hl (by decide) rfl (fun ls hl => ?_)
  refine lv_iload hx hb dJ32_sort_2_6 (lv_at hl 5 rfl) ?_
  refine lv_iload_n hx hb dJ32_sort_2_8 rfl (lv_at hl 4 rfl) ?_
  obtain ⟨v2, ev2, h⟩ := lti_step h
  refine r_isub hx hb ev2 dJ32_sort_2_9 ?_
  refine lv_istore (lv' := [(6, .int v2), (5, .int v1), (0, .null), (1, .ref x1), (2, .int x2), (3, .int x3), (4, .int x4)]) hx hb dJ32_sort_2_10 hl (by decide) rfl (fun ls hl => ?_)
  refine lv_iload hx hb dJ32_sort_2_12 (lv_at hl 0 rfl) ?_
  refine lv_bipush (v := 65) hx hb dJ32_sort_2_14 (by decide) ?_
  refine lv_iload_n hx hb dJ32_sort_2_16 rfl (lv_at hl 4 rfl) ?_
  obtain ⟨v3, ev3, h⟩ := lti_step h
  refine r_iadd hx hb ev3 dJ32_sort_2_17 ?_
  obtain ⟨K4, eK4, h⟩ := lt_step h
  have HK4 : ∀  (h : K4 () = some r) (H : Heap) (locs : List Loc) (hS : St D s H locs) (hF : Off (fun a => a = x1) s.heap H) (h_x1 : aD D x1 8 x1c H) (ls : Array Slot) (hl : lv_has ls 25 [(1, .ref x1), (2, .int x2), (3, .int x3), (4, .int x4), (6, .int v2)]), W p l e R_J32_sort_2 s m A below meth c H locs 0 0 Q (F0 m 46 ls []) := by
    intro h H locs hS hF h_x1 ls hl
    subst eK4
    refine lv_iload hx hb dJ32_sort_2_46 (lv_at hl 4 rfl) ?_
    refine lv_bipush (v := 44) hx hb dJ32_sort_2_48 (by decide) ?_
    refine lv_icmp_ge (tgt := 61) hx hb dJ32_sort_2_50 (by decide) (fun c5 => ?_) (fun c5 => ?_)
    · have h := it_pos h c5
      cases h
    · have h := it_neg h c5
      refine lv_aload_n hx hb dJ32_sort_2_53 rfl (lv_at hl 0 rfl) ?_
      refine lv_iload_n hx hb dJ32_sort_2_54 rfl (lv_at hl 2 rfl) ?_
      refine lv_iload hx hb dJ32_sort_2_55 (lv_at hl 3 rfl) ?_
      obtain ⟨o6, eo6, h⟩ := bind_step h
      refine r_cv (r_runS (rest := []) (As := [.ref x1, .int x3, .int x4]) hC 3 (m_J32_insertionSort x1  x1c x3 x4 o6 eo6) q1686 q1687 q74 q1688 hd_J32_insertionSort rfl ⟨Nat.le_of_ble_eq_true rfl, Nat.le_of_ble_eq_true rfl⟩ hS ⟨h_x1, hB_h_x1⟩ hl.1 rfl (Nat.le_of_ble_eq_true rfl) dJ32_sort_2_57 ⟨Nat.le_of_ble_eq_true rfl, Nat.le_of_ble_eq_true rfl⟩) hS (fun H locs hp hS hz => ?_)
      obtain ⟨h_x1, hO⟩ := hp
      have hF := hF.fresh hO (fun a ha z => z)
      obtain rfl := Option.some.inj h
      rw [eQ]
      exact r_vret hx hb hr hlk hS (Nat.le_of_ble_eq_true rfl) (Nat.le_of_ble_eq_true rfl) dJ32_sort_2_60 ⟨rfl, h_x1, hF⟩
  clear eK4
  refine lv_icmp_ge (tgt := 46) hx hb dJ32_sort_2_18 (by decide) (fun c7 => ?_) (fun c7 => ?_)
  · have h := it_pos h c7
    exact HK4  h H locs hS hF h_x1 ls (lv_sub hl [3, 4, 5, 6, 0] rfl)
  · have h := it_neg h c7
    refine lv_iload_n hx hb dJ32_sort_2_21 rfl (lv_at hl 4 rfl) ?_
    refine lv_iconst (v := 1) hx hb dJ32_sort_2_22 (by decide) ?_
    obtain ⟨v8, ev8, h⟩ := lti_step h
    refine r_iand hx hb ev8 dJ32_sort_2_23 ?_
    refine lv_if_le (tgt := 46) hx hb dJ32_sort_2_24 (by decide) (fun c9 => ?_) (fun c9 => ?_)
    · have h := it_pos h c9
      exact HK4  h H locs hS hF h_x1 ls (lv_sub hl [3, 4, 5, 6, 0] rfl)
    · have h := it_neg h c9
      cases h

abbrev R_J32_sort : Room := { frames := 2, cells := 0, slots := 0, locals := 70 }
noncomputable def f_J32_sort (x0c : Nat → UInt64) (x1 : Int32) (x2 : Int32) (x3 : Int32) : Option ((Nat → UInt64)) :=
  lt (fun (f1 : Nat → UInt64) (v2 : Int32) (v3 : Int32) (v4 : Int32) =>
  (show Option (Sum ((Nat → UInt64) × Int32 × Int32 × Int32) ((Nat → UInt64) × Int32 × Int32)) from (
  (if v4 ≤ x2 then
    some (.inr (f1, v2, v3))
  else
    lti (v4 + (-1)) fun v42 =>
    gd 8 v42 fun i43 =>
    ltd (f1 i43) fun v44 =>
    lti (dcmpF v44 0 .l) fun v45 =>
    lt (fun (_u : Unit) =>
    lti (dcmpF v44 v44 .l) fun v47 =>
    (if v47 = 0 then
      some (.inl (f1, v2, v3, v42))
    else
      lti (v2 + (-1)) fun v49 =>
      gd 8 v49 fun i50 =>
      ltd (f1 i50) fun v51 =>
      gd 8 v42 fun i52 =>
      lt (va_up f1 i52 v51) fun f53 =>
      gd 8 v49 fun i54 =>
      lt (va_up f53 i54 v44) fun f55 =>
      some (.inl (f55, v49, v3, v42))
    )
    ) fun K46 =>
    (if v45 = 0 then
      ltl ((v44 : UInt64).toInt64) fun v57 =>
      lti (lg_cmp v57 0) fun v58 =>
      (if 0 ≤ v58 then
        K46 ()
      else
        lti (v3 + 1) fun v60 =>
        gd 8 v42 fun i61 =>
        lt (va_up f1 i61 0) fun f62 =>
        some (.inl (f62, v2, v60, v42))
      )
    else
      K46 ()
    )
  )
  ))
  ) fun F38 =>
  Option.bind (lp 10 (fun x => F38 x.1 x.2.1 x.2.2.1 x.2.2.2) (x0c, x3, 0, x3)) fun w39 =>
  lti (w39.2.1 - x2) fun v63 =>
  (if x1 ≤ 1 then
    Option.bind (f_J32_sort_2 w39.1 0 x2 w39.2.1) fun o65 =>
    lti (w39.2.2 + 1) fun v66 =>
    (if v66 = 1 then
      some o65
    else
      lt (fun (v68 : Int32) (v69 : Int32) =>
      (show Option (Sum (Int32 × Int32) (Int32)) from (
      (if v69 < v68 then
        some (.inr v69)
      else
        lti (v68 + v69) fun v84 =>
        lti (((v84 : Int32).toUInt32 >>> ((1 : Int32).toUInt32 &&& Int32.toUInt32 31)).toInt32) fun v85 =>
        gd 8 v85 fun i86 =>
        ltd (o65 i86) fun v87 =>
        lti (dcmpF v87 0 .g) fun v88 =>
        (if 0 ≤ v88 then
          lti (v85 - 1) fun v90 =>
          some (.inl (v68, v90))
        else
          lti (v85 + 1) fun v91 =>
          some (.inl (v91, v69))
        )
      )
      ))
      ) fun F80 =>
      Option.bind (lp 10 (fun x => F80 x.1 x.2) (x2, w39.2.1)) fun w81 =>
      lt (fun (f92 : Nat → UInt64) (v93 : Int32) (v94 : Int32) =>
      (show Option (Sum ((Nat → UInt64) × Int32 × Int32) ((Nat → UInt64))) from (
      lti (v94 + (-1)) fun v104 =>
      (if v104 ≤ 0 then
        some (.inr f92)
      else
        lti (v93 + 1) fun v106 =>
        gd 8 v106 fun i107 =>
        lt (va_up f92 i107 9223372036854775808) fun f108 =>
        some (.inl (f108, v106, v104))
      )
      ))
      ) fun F101 =>
      Option.bind (lp 10 (fun x => F101 x.1 x.2.1 x.2.2) (o65, w81, v66)) fun w102 =>
      some w102
    )
  else
    none
  )
theorem hd_J32_sort : Hd yJ32_sort 4 := by unfold Hd; decide +kernel
set_option maxHeartbeats 4000000 in
set_option maxRecDepth 100000 in
theorem m_J32_sort {l : Launch} {D : DD} (x0 : Nat)  (x0c : Nat → UInt64) (x1 : Int32) (x2 : Int32) (x3 : Int32) (r : (Nat → UInt64)) (h : f_J32_sort x0c x1 x2 x3 = some r) : MT l D yJ32_sort cJ32_sort 8 none 2 70 0 0 [.ref x0, .int x1, .int x2, .int x3] (fun H => aD D x0 8 x0c H ∧ dB D ≤ x0) (pV (fun H H' => aD D x0 8 r H' ∧ Off (fun a => a = x0) H H')) := by
  refine MT.start (by decide +kernel) (Nat.le_of_ble_eq_true rfl) ?_
  intro p e s m below meth c ls hC hS hp hl
  obtain ⟨h_x0, hB_h_x0⟩ := hp
  obtain ⟨hx, hb, hr, hlk, hml, hown, hts, hnm⟩ := id hC
  have hl : lv_has ls 8 [(0, .ref x0), (1, .int x1), (2, .int x2), (3, .int x3)] := hl
  unfold f_J32_sort at h
  have hS0 := hS
  obtain ⟨A, eA⟩ : ∃ A : Array Value, A = [.ref x0, .int x1, .int x2, .int x3].toArray := ⟨_, rfl⟩
  rw [← eA] at hC hts ⊢
  obtain ⟨Q, eQ⟩ : ∃ Q : State → Prop, Q = MQ below (TQ D (pV (fun H H' => aD D x0 8 r H' ∧ Off (fun a => a = x0) H H'))) A s 0 0 (fun q => dB D ≤ q) := ⟨_, rfl⟩
  have hF : Off (fun a => a = x0) s.heap s.heap := Off.rf
  show W p l e R_J32_sort s m A below meth c s.heap [] 0 0 _ _
  rw [← eQ]
  obtain ⟨H, eH⟩ : ∃ H : Heap, H = s.heap := ⟨_, rfl⟩
  obtain ⟨locs, eLc⟩ : ∃ L : List Loc, L = [] := ⟨_, rfl⟩
  have lt_h_x0 := h_x0.lt
  rw [← eH, ← eLc]
  have hF : Off (fun a => a = x0) s.heap H := by rw [eH]; exact hF
  rw [← eH] at h_x0
  have hS : St D s H locs := by rw [eH, eLc]; exact hS
  refine lv_iconst (v := 0) hx hb dJ32_sort_0 (by decide) ?_
  refine lv_istore (lv' := [(4, .int 0), (0, .ref x0), (1, .int x1), (2, .int x2), (3, .int x3)]) hx hb dJ32_sort_1 hl (by decide) rfl (fun ls hl => ?_)
  refine lv_iload_n hx hb dJ32_sort_3 rfl (lv_at hl 4 rfl) ?_
  refine lv_istore (lv' := [(5, .int x3), (4, .int 0), (0, .ref x0), (1, .int x1), (2, .int x2), (3, .int x3)]) hx hb dJ32_sort_4 hl (by decide) rfl (fun ls hl => ?_)
  obtain ⟨F38, eF38, h⟩ := lt_step h
  obtain ⟨w39, ew39, h⟩ := bind_step h
  have HL : ∀ (n : Nat) (f1 : Nat → UInt64) (v2 : Int32) (v3 : Int32) (v4 : Int32) (w39 : (Nat → UInt64) × Int32 × Int32) (hk0 : lp n (fun x => F38 x.1 x.2.1 x.2.2.1 x.2.2.2) (f1, v2, v3, v4) = some w39)  (H : Heap) (locs : List Loc) (hS : St D s H locs) (hF : Off (fun a => a = x0) s.heap H) (h_x0 : aD D x0 8 f1 H) (ls : Array Slot) (hl : lv_has ls 8 [(0, .ref x0), (1, .int x1), (2, .int x2), (3, .int v2), (4, .int v3), (5, .int v4)]) (K75 : ∀ (H : Heap) (locs : List Loc) (hS : St D s H locs) (hF : Off (fun a => a = x0) s.heap H) (h_x0 : aD D x0 8 w39.1 H) (ls : Array Slot) (hl : lv_has ls 8 [(0, .ref x0), (1, .int x1), (2, .int x2), (3, .int w39.2.1), (4, .int w39.2.2)]), W p l e R_J32_sort s m A below meth c H locs 0 0 Q (F0 m 75 ls [])), W p l e R_J32_sort s m A below meth c H locs 0 0 Q (F0 m 6 ls []) := by
    intro n
    induction n with
    | zero => intro f1 v2 v3 v4 w39 hk0  H locs hS hF h_x0 ls hl K75; exact lp_zero hk0
    | succ n ih =>
      intro f1 v2 v3 v4 w39 hk0  H locs hS hF h_x0 ls hl K75
      obtain ⟨z40, hz, hk⟩ := lp_step hk0
      have h := (congrFun (congrFun (congrFun (congrFun (eF38) f1) v2) v3) v4).symm.trans hz
      refine lv_iload hx hb dJ32_sort_6 (lv_at hl 5 rfl) ?_
      refine lv_iload_n hx hb dJ32_sort_8 rfl (lv_at hl 2 rfl) ?_
      refine lv_icmp_le (tgt := 75) hx hb dJ32_sort_9 (by decide) (fun c41 => ?_) (fun c41 => ?_)
      · have h := it_pos h c41
        obtain rfl := Option.some.inj h
        obtain rfl := id hk
        exact K75 H locs hS hF h_x0 ls (lv_sub hl [0, 1, 2, 3, 4] rfl)
      · have h := it_neg h c41
        refine lv_aload_n hx hb dJ32_sort_12 rfl (lv_at hl 0 rfl) ?_
        obtain ⟨v42, ev42, h⟩ := lti_step h
        refine lv_iinc (v := v42) (lv' := [(5, .int v42), (0, .ref x0), (1, .int x1), (2, .int x2), (3, .int v2), (4, .int v3)]) hx hb dJ32_sort_13 hl (k := 5) rfl (by rw [ev42]; rfl) (by decide) rfl (fun ls hl => ?_)
        refine lv_iload hx hb dJ32_sort_16 (lv_at hl 0 rfl) ?_
        obtain ⟨i43, xi43, h⟩ := gd_step (by decide) h
        refine r_dald hx hb hS h_x0 i43 xi43 dJ32_sort_18 ?_
        obtain ⟨v44, ev44, h⟩ := ltd_step h
        refine r_nmD ev44 ?_
        refine lv_dstore (lv' := [(6, .double v44), (5, .int v42), (0, .ref x0), (1, .int x1), (2, .int x2), (3, .int v2), (4, .int v3)]) hx hb dJ32_sort_19 hl (by decide) rfl (fun ls hl => ?_)
        refine lv_dload hx hb dJ32_sort_21 (lv_at hl 0 rfl) ?_
        refine lv_dconst0 hx hb dJ32_sort_23 ?_
        obtain ⟨v45, ev45, h⟩ := lti_step h
        refine r_dcmp hx hb ev45 dJ32_sort_24 ?_
        obtain ⟨K46, eK46, h⟩ := lt_step h
        have HK46 : ∀  (h : K46 () = some z40) (H : Heap) (locs : List Loc) (hS : St D s H locs) (hF : Off (fun a => a = x0) s.heap H) (h_x0 : aD D x0 8 f1 H) (ls : Array Slot) (hl : lv_has ls 8 [(0, .ref x0), (1, .int x1), (2, .int x2), (3, .int v2), (4, .int v3), (5, .int v42), (6, .double v44)]), W p l e R_J32_sort s m A below meth c H locs 0 0 Q (F0 m 49 ls []) := by
          intro h H locs hS hF h_x0 ls hl
          subst eK46
          refine lv_dload hx hb dJ32_sort_49 (lv_at hl 6 rfl) ?_
          refine lv_dload hx hb dJ32_sort_51 (lv_at hl 6 rfl) ?_
          obtain ⟨v47, ev47, h⟩ := lti_step h
          refine r_dcmp hx hb ev47 dJ32_sort_53 ?_
          refine lv_if_eq (tgt := 72) hx hb dJ32_sort_54 (by decide) (fun c48 => ?_) (fun c48 => ?_)
          · have h := it_pos h c48
            refine lv_goto (tgt := 6) hx hb dJ32_sort_72 (by decide) ?_
            obtain rfl := Option.some.inj h
            exact ih f1 v2 v3 v42 w39 hk  H locs hS hF h_x0 ls (lv_sub hl [0, 1, 2, 3, 4, 5] rfl) K75
          · have h := it_neg h c48
            refine lv_aload_n hx hb dJ32_sort_57 rfl (lv_at hl 0 rfl) ?_
            refine lv_iload hx hb dJ32_sort_58 (lv_at hl 5 rfl) ?_
            refine lv_aload_n hx hb dJ32_sort_60 rfl (lv_at hl 0 rfl) ?_
            obtain ⟨v49, ev49, h⟩ := lti_step h
            refine lv_iinc (v := v49) (lv' := [(3, .int v49), (0, .ref x0), (1, .int x1), (2, .int x2), (4, .int v3), (5, .int v42), (6, .double v44)]) hx hb dJ32_sort_61 hl (k := 3) rfl (by rw [ev49]; rfl) (by decide) rfl (fun ls hl => ?_)
            refine lv_iload_n hx hb dJ32_sort_64 rfl (lv_at hl 0 rfl) ?_
            obtain ⟨i50, xi50, h⟩ := gd_step (by decide) h
            refine r_dald hx hb hS h_x0 i50 xi50 dJ32_sort_65 ?_
            obtain ⟨v51, ev51, h⟩ := ltd_step h
            refine r_nmD ev51 ?_
            obtain ⟨i52, xi52, h⟩ := gd_step (by decide) h
            obtain ⟨f53, ef53, h⟩ := lt_step h
            refine r_dast hx hb hS h_x0 hB_h_x0 i52 xi52 dJ32_sort_66 (fun H locs hS hO h_x0 => ?_)
            have h_x0 : aD D x0 8 f53 H := by rw [ef53]; exact h_x0
            have hF := hF.fresh hO (fun a ha z => z)
            refine lv_aload_n hx hb dJ32_sort_67 rfl (lv_at hl 1 rfl) ?_
            refine lv_iload_n hx hb dJ32_sort_68 rfl (lv_at hl 0 rfl) ?_
            refine lv_dload hx hb dJ32_sort_69 (lv_at hl 6 rfl) ?_
            obtain ⟨i54, xi54, h⟩ := gd_step (by decide) h
            obtain ⟨f55, ef55, h⟩ := lt_step h
            refine r_dast hx hb hS h_x0 hB_h_x0 i54 xi54 dJ32_sort_71 (fun H locs hS hO h_x0 => ?_)
            have h_x0 : aD D x0 8 f55 H := by rw [ef55]; exact h_x0
            have hF := hF.fresh hO (fun a ha z => z)
            refine lv_goto (tgt := 6) hx hb dJ32_sort_72 (by decide) ?_
            obtain rfl := Option.some.inj h
            exact ih f55 v49 v3 v42 w39 hk  H locs hS hF h_x0 ls (lv_sub hl [1, 2, 3, 0, 4, 5] rfl) K75
        clear eK46
        refine lv_if_ne (tgt := 49) hx hb dJ32_sort_25 (by decide) (fun c56 => ?_) (fun c56 => ?_)
        · have h := it_neg h c56
          exact HK46  h H locs hS hF h_x0 ls (lv_sub hl [2, 3, 4, 5, 6, 1, 0] rfl)
        · have h := it_pos h c56
          refine lv_dload hx hb dJ32_sort_28 (lv_at hl 0 rfl) ?_
          refine r_d2l hC q1679 q184 q183 q51 hl.1 ⟨Nat.le_of_ble_eq_true rfl, Nat.le_of_ble_eq_true rfl⟩ dJ32_sort_30 ?_
          obtain ⟨v57, ev57, h⟩ := ltl_step h
          refine r_nmL ev57 ?_
          refine lv_lconst (v := 0) hx hb dJ32_sort_33 rfl ?_
          obtain ⟨v58, ev58, h⟩ := lti_step h
          refine r_lcmp hx hb ev58 dJ32_sort_34 ?_
          refine lv_if_ge (tgt := 49) hx hb dJ32_sort_35 (by decide) (fun c59 => ?_) (fun c59 => ?_)
          · have h := it_pos h c59
            exact HK46  h H locs hS hF h_x0 ls (lv_sub hl [2, 3, 4, 5, 6, 1, 0] rfl)
          · have h := it_neg h c59
            obtain ⟨v60, ev60, h⟩ := lti_step h
            refine lv_iinc (v := v60) (lv' := [(4, .int v60), (6, .double v44), (5, .int v42), (0, .ref x0), (1, .int x1), (2, .int x2), (3, .int v2)]) hx hb dJ32_sort_38 hl (k := 6) rfl (by rw [ev60]; rfl) (by decide) rfl (fun ls hl => ?_)
            refine lv_aload_n hx hb dJ32_sort_41 rfl (lv_at hl 3 rfl) ?_
            refine lv_iload hx hb dJ32_sort_42 (lv_at hl 2 rfl) ?_
            refine lv_dconst0 hx hb dJ32_sort_44 ?_
            obtain ⟨i61, xi61, h⟩ := gd_step (by decide) h
            obtain ⟨f62, ef62, h⟩ := lt_step h
            refine r_dast hx hb hS h_x0 hB_h_x0 i61 xi61 dJ32_sort_45 (fun H locs hS hO h_x0 => ?_)
            have h_x0 : aD D x0 8 f62 H := by rw [ef62]; exact h_x0
            have hF := hF.fresh hO (fun a ha z => z)
            refine lv_goto (tgt := 72) hx hb dJ32_sort_46 (by decide) ?_
            refine lv_goto (tgt := 6) hx hb dJ32_sort_72 (by decide) ?_
            obtain rfl := Option.some.inj h
            exact ih f62 v2 v60 v42 w39 hk  H locs hS hF h_x0 ls (lv_sub hl [3, 4, 5, 6, 0, 2] rfl) K75
  clear eF38
  refine HL 10 x0c x3 0 x3 w39 ew39  H locs hS hF h_x0 ls (lv_sub hl [2, 3, 4, 5, 1, 0] rfl) (fun  H locs hS hF h_x0 ls hl => ?_)
  refine lv_iload_n hx hb dJ32_sort_75 rfl (lv_at hl 3 rfl) ?_
  refine lv_iload_n hx hb dJ32_sort_76 rfl (lv_at hl 2 rfl) ?_
  obtain ⟨v63, ev63, h⟩ := lti_step h
  refine r_isub hx hb ev63 dJ32_sort_77 ?_
  refine lv_istore (lv' := [(5, .int v63), (0, .ref x0), (1, .int x1), (2, .int x2), (3, .int w39.2.1), (4, .int w39.2.2)]) hx hb dJ32_sort_78 hl (by decide) rfl (fun ls hl => ?_)
  refine lv_iload_n hx hb dJ32_sort_80 rfl (lv_at hl 2 rfl) ?_
  refine lv_iconst (v := 1) hx hb dJ32_sort_81 (by decide) ?_
  refine lv_icmp_le (tgt := 143) hx hb dJ32_sort_82 (by decide) (fun c64 => ?_) (fun c64 => ?_)
  · have h := it_pos h c64
    refine lv_null hx hb dJ32_sort_143 ?_
    refine lv_aload_n hx hb dJ32_sort_144 rfl (lv_at hl 1 rfl) ?_
    refine lv_iconst (v := 0) hx hb dJ32_sort_145 (by decide) ?_
    refine lv_iload_n hx hb dJ32_sort_146 rfl (lv_at hl 3 rfl) ?_
    refine lv_iload_n hx hb dJ32_sort_147 rfl (lv_at hl 4 rfl) ?_
    obtain ⟨o65, eo65, h⟩ := bind_step h
    refine r_cv (r_runS (rest := []) (As := [.null, .ref x0, .int 0, .int x2, .int w39.2.1]) hC 5 (m_J32_sort_2 x0  w39.1 0 x2 w39.2.1 o65 eo65) q1680 q1681 q74 q1682 hd_J32_sort_2 rfl ⟨Nat.le_of_ble_eq_true rfl, Nat.le_of_ble_eq_true rfl⟩ hS ⟨h_x0, hB_h_x0⟩ hl.1 rfl (Nat.le_of_ble_eq_true rfl) dJ32_sort_148 ⟨Nat.le_of_ble_eq_true rfl, Nat.le_of_ble_eq_true rfl⟩) hS (fun H locs hp hS hz => ?_)
    obtain ⟨h_x0, hO⟩ := hp
    have hF := hF.fresh hO (fun a ha z => z)
    obtain ⟨v66, ev66, h⟩ := lti_step h
    refine lv_iinc (v := v66) (lv' := [(4, .int v66), (5, .int v63), (0, .ref x0), (1, .int x1), (2, .int x2), (3, .int w39.2.1)]) hx hb dJ32_sort_151 hl (k := 5) rfl (by rw [ev66]; rfl) (by decide) rfl (fun ls hl => ?_)
    refine lv_iload hx hb dJ32_sort_154 (lv_at hl 0 rfl) ?_
    refine lv_iconst (v := 1) hx hb dJ32_sort_156 (by decide) ?_
    refine lv_icmp_ne (tgt := 161) hx hb dJ32_sort_157 (by decide) (fun c67 => ?_) (fun c67 => ?_)
    · have h := it_neg h c67
      obtain ⟨F80, eF80, h⟩ := lt_step h
      obtain ⟨w81, ew81, h⟩ := bind_step h
      have HL : ∀ (n : Nat) (v68 : Int32) (v69 : Int32) (w81 : Int32) (hk0 : lp n (fun x => F80 x.1 x.2) (v68, v69) = some w81)  (H : Heap) (locs : List Loc) (hS : St D s H locs) (hF : Off (fun a => a = x0) s.heap H) (h_x0 : aD D x0 8 o65 H) (ls : Array Slot) (hl : lv_has ls 8 [(0, .ref x0), (2, .int v68), (3, .int v69), (4, .int v66)]) (K198 : ∀ (H : Heap) (locs : List Loc) (hS : St D s H locs) (hF : Off (fun a => a = x0) s.heap H) (h_x0 : aD D x0 8 o65 H) (ls : Array Slot) (hl : lv_has ls 8 [(0, .ref x0), (3, .int w81), (4, .int v66)]), W p l e R_J32_sort s m A below meth c H locs 0 0 Q (F0 m 198 ls [])), W p l e R_J32_sort s m A below meth c H locs 0 0 Q (F0 m 161 ls []) := by
        intro n
        induction n with
        | zero => intro v68 v69 w81 hk0  H locs hS hF h_x0 ls hl K198; exact lp_zero hk0
        | succ n ih =>
          intro v68 v69 w81 hk0  H locs hS hF h_x0 ls hl K198
          obtain ⟨z82, hz, hk⟩ := lp_step hk0
          have h := (congrFun (congrFun (eF80) v68) v69).symm.trans hz
          refine lv_iload_n hx hb dJ32_sort_161 rfl (lv_at hl 1 rfl) ?_
          refine lv_iload_n hx hb dJ32_sort_162 rfl (lv_at hl 2 rfl) ?_
          refine lv_icmp_gt (tgt := 198) hx hb dJ32_sort_163 (by decide) (fun c83 => ?_) (fun c83 => ?_)
          · have h := it_pos h c83
            obtain rfl := Option.some.inj h
            obtain rfl := id hk
            exact K198 H locs hS hF h_x0 ls (lv_sub hl [0, 2, 3] rfl)
          · have h := it_neg h c83
            refine lv_iload_n hx hb dJ32_sort_166 rfl (lv_at hl 1 rfl) ?_
            refine lv_iload_n hx hb dJ32_sort_167 rfl (lv_at hl 2 rfl) ?_
            obtain ⟨v84, ev84, h⟩ := lti_step h
            refine r_iadd hx hb ev84 dJ32_sort_168 ?_
            refine lv_iconst (v := 1) hx hb dJ32_sort_169 (by decide) ?_
            obtain ⟨v85, ev85, h⟩ := lti_step h
            refine r_iushr hx hb ev85 dJ32_sort_170 ?_
            refine lv_istore (lv' := [(6, .int v85), (0, .ref x0), (2, .int v68), (3, .int v69), (4, .int v66)]) hx hb dJ32_sort_171 hl (by decide) rfl (fun ls hl => ?_)
            refine lv_aload_n hx hb dJ32_sort_173 rfl (lv_at hl 1 rfl) ?_
            refine lv_iload hx hb dJ32_sort_174 (lv_at hl 0 rfl) ?_
            obtain ⟨i86, xi86, h⟩ := gd_step (by decide) h
            refine r_dald hx hb hS h_x0 i86 xi86 dJ32_sort_176 ?_
            obtain ⟨v87, ev87, h⟩ := ltd_step h
            refine r_nmD ev87 ?_
            refine lv_dconst0 hx hb dJ32_sort_177 ?_
            obtain ⟨v88, ev88, h⟩ := lti_step h
            refine r_dcmp hx hb ev88 dJ32_sort_178 ?_
            refine lv_if_ge (tgt := 190) hx hb dJ32_sort_179 (by decide) (fun c89 => ?_) (fun c89 => ?_)
            · have h := it_pos h c89
              refine lv_iload hx hb dJ32_sort_190 (lv_at hl 0 rfl) ?_
              refine lv_iconst (v := 1) hx hb dJ32_sort_192 (by decide) ?_
              obtain ⟨v90, ev90, h⟩ := lti_step h
              refine r_isub hx hb ev90 dJ32_sort_193 ?_
              refine lv_istore_n (lv' := [(3, .int v90), (6, .int v85), (0, .ref x0), (2, .int v68), (4, .int v66)]) hx hb dJ32_sort_194 rfl hl (by decide) rfl (fun ls hl => ?_)
              refine lv_goto (tgt := 161) hx hb dJ32_sort_195 (by decide) ?_
              obtain rfl := Option.some.inj h
              exact ih v68 v90 w81 hk  H locs hS hF h_x0 ls (lv_sub hl [2, 3, 0, 4] rfl) K198
            · have h := it_neg h c89
              refine lv_iload hx hb dJ32_sort_182 (lv_at hl 0 rfl) ?_
              refine lv_iconst (v := 1) hx hb dJ32_sort_184 (by decide) ?_
              obtain ⟨v91, ev91, h⟩ := lti_step h
              refine r_iadd hx hb ev91 dJ32_sort_185 ?_
              refine lv_istore_n (lv' := [(2, .int v91), (6, .int v85), (0, .ref x0), (3, .int v69), (4, .int v66)]) hx hb dJ32_sort_186 rfl hl (by decide) rfl (fun ls hl => ?_)
              refine lv_goto (tgt := 195) hx hb dJ32_sort_187 (by decide) ?_
              refine lv_goto (tgt := 161) hx hb dJ32_sort_195 (by decide) ?_
              obtain rfl := Option.some.inj h
              exact ih v91 v69 w81 hk  H locs hS hF h_x0 ls (lv_sub hl [2, 0, 3, 4] rfl) K198
      clear eF80
      refine HL 10 x2 w39.2.1 w81 ew81  H locs hS hF h_x0 ls (lv_sub hl [2, 4, 5, 0] rfl) (fun  H locs hS hF h_x0 ls hl => ?_)
      obtain ⟨F101, eF101, h⟩ := lt_step h
      obtain ⟨w102, ew102, h⟩ := bind_step h
      have HL : ∀ (n : Nat) (f92 : Nat → UInt64) (v93 : Int32) (v94 : Int32) (w102 : (Nat → UInt64)) (hk0 : lp n (fun x => F101 x.1 x.2.1 x.2.2) (f92, v93, v94) = some w102)  (H : Heap) (locs : List Loc) (hS : St D s H locs) (hF : Off (fun a => a = x0) s.heap H) (h_x0 : aD D x0 8 f92 H) (ls : Array Slot) (hl : lv_has ls 8 [(0, .ref x0), (3, .int v93), (4, .int v94)]) (K218 : ∀ (H : Heap) (locs : List Loc) (hS : St D s H locs) (hF : Off (fun a => a = x0) s.heap H) (h_x0 : aD D x0 8 w102 H) (ls : Array Slot) (hl : lv_has ls 8 []), W p l e R_J32_sort s m A below meth c H locs 0 0 Q (F0 m 218 ls [])), W p l e R_J32_sort s m A below meth c H locs 0 0 Q (F0 m 198 ls []) := by
        intro n
        induction n with
        | zero => intro f92 v93 v94 w102 hk0  H locs hS hF h_x0 ls hl K218; exact lp_zero hk0
        | succ n ih =>
          intro f92 v93 v94 w102 hk0  H locs hS hF h_x0 ls hl K218
          obtain ⟨z103, hz, hk⟩ := lp_step hk0
          have h := (congrFun (congrFun (congrFun (eF101) f92) v93) v94).symm.trans hz
          obtain ⟨v104, ev104, h⟩ := lti_step h
          refine lv_iinc (v := v104) (lv' := [(4, .int v104), (0, .ref x0), (3, .int v93)]) hx hb dJ32_sort_198 hl (k := 2) rfl (by rw [ev104]; rfl) (by decide) rfl (fun ls hl => ?_)
          refine lv_iload hx hb dJ32_sort_201 (lv_at hl 0 rfl) ?_
          refine lv_if_le (tgt := 218) hx hb dJ32_sort_203 (by decide) (fun c105 => ?_) (fun c105 => ?_)
          · have h := it_pos h c105
            obtain rfl := Option.some.inj h
            obtain rfl := id hk
            exact K218 H locs hS hF h_x0 ls (lv_sub hl [] rfl)
          · have h := it_neg h c105
            refine lv_aload_n hx hb dJ32_sort_206 rfl (lv_at hl 1 rfl) ?_
            obtain ⟨v106, ev106, h⟩ := lti_step h
            refine lv_iinc (v := v106) (lv' := [(3, .int v106), (4, .int v104), (0, .ref x0)]) hx hb dJ32_sort_207 hl (k := 2) rfl (by rw [ev106]; rfl) (by decide) rfl (fun ls hl => ?_)
            refine lv_iload_n hx hb dJ32_sort_210 rfl (lv_at hl 0 rfl) ?_
            refine lv_ldc2d hx hb (v := 9223372036854775808) hown (hts _ q1706) dJ32_sort_211 ?_
            obtain ⟨i107, xi107, h⟩ := gd_step (by decide) h
            obtain ⟨f108, ef108, h⟩ := lt_step h
            refine r_dast hx hb hS h_x0 hB_h_x0 i107 xi107 dJ32_sort_214 (fun H locs hS hO h_x0 => ?_)
            have h_x0 : aD D x0 8 f108 H := by rw [ef108]; exact h_x0
            have hF := hF.fresh hO (fun a ha z => z)
            refine lv_goto (tgt := 198) hx hb dJ32_sort_215 (by decide) ?_
            obtain rfl := Option.some.inj h
            exact ih f108 v106 v104 w102 hk  H locs hS hF h_x0 ls (lv_sub hl [2, 0, 1] rfl) K218
      clear eF101
      refine HL 10 o65 w81 v66 w102 ew102  H locs hS hF h_x0 ls (lv_sub hl [0, 1, 2] rfl) (fun  H locs hS hF h_x0 ls hl => ?_)
      obtain rfl := Option.some.inj h
      rw [eQ]
      exact r_vret hx hb hr hlk hS (Nat.le_of_ble_eq_true rfl) (Nat.le_of_ble_eq_true rfl) dJ32_sort_218 ⟨rfl, h_x0, hF⟩
    · have h := it_pos h c67
      obtain rfl := Option.some.inj h
      rw [eQ]
      exact r_vret hx hb hr hlk hS (Nat.le_of_ble_eq_true rfl) (Nat.le_of_ble_eq_true rfl) dJ32_sort_160 ⟨rfl, h_x0, hF⟩
  · have h := it_neg h c64
    cases h

abbrev R_J19_sort : Room := { frames := 3, cells := 0, slots := 0, locals := 97 }
noncomputable def f_J19_sort (x0c : Nat → UInt64) : Option ((Nat → UInt64)) :=
  Option.bind (f_J32_sort x0c 0 0 8) fun o1 =>
  some o1
theorem hd_J19_sort : Hd yJ19_sort 1 := by unfold Hd; decide +kernel
set_option maxHeartbeats 4000000 in
set_option maxRecDepth 100000 in
theorem m_J19_sort {l : Launch} {D : DD} (x0 : Nat)  (x0c : Nat → UInt64) (r : (Nat → UInt64)) (h : f_J19_sort x0c = some r) : MT l D yJ19_sort cJ19_sort 1 none 3 97 0 0 [.ref x0] (fun H => aD D x0 8 x0c H ∧ dB D ≤ x0) (pV (fun H H' => aD D x0 8 r H' ∧ Off (fun a => a = x0) H H')) := by
  refine MT.start (by decide +kernel) (Nat.le_of_ble_eq_true rfl) ?_
  intro p e s m below meth c ls hC hS hp hl
  obtain ⟨h_x0, hB_h_x0⟩ := hp
  obtain ⟨hx, hb, hr, hlk, hml, hown, hts, hnm⟩ := id hC
  have hl : lv_has ls 1 [(0, .ref x0)] := hl
  unfold f_J19_sort at h
  have hS0 := hS
  obtain ⟨A, eA⟩ : ∃ A : Array Value, A = [.ref x0].toArray := ⟨_, rfl⟩
  rw [← eA] at hC hts ⊢
  obtain ⟨Q, eQ⟩ : ∃ Q : State → Prop, Q = MQ below (TQ D (pV (fun H H' => aD D x0 8 r H' ∧ Off (fun a => a = x0) H H'))) A s 0 0 (fun q => dB D ≤ q) := ⟨_, rfl⟩
  have hF : Off (fun a => a = x0) s.heap s.heap := Off.rf
  show W p l e R_J19_sort s m A below meth c s.heap [] 0 0 _ _
  rw [← eQ]
  obtain ⟨H, eH⟩ : ∃ H : Heap, H = s.heap := ⟨_, rfl⟩
  obtain ⟨locs, eLc⟩ : ∃ L : List Loc, L = [] := ⟨_, rfl⟩
  have lt_h_x0 := h_x0.lt
  rw [← eH, ← eLc]
  have hF : Off (fun a => a = x0) s.heap H := by rw [eH]; exact hF
  rw [← eH] at h_x0
  have hS : St D s H locs := by rw [eH, eLc]; exact hS
  refine lv_aload_n hx hb dJ19_sort_0 rfl (lv_at hl 0 rfl) ?_
  refine lv_iconst (v := 0) hx hb dJ19_sort_1 (by decide) ?_
  refine lv_iconst (v := 0) hx hb dJ19_sort_2 (by decide) ?_
  refine lv_aload_n hx hb dJ19_sort_3 rfl (lv_at hl 0 rfl) ?_
  refine r_alen hx hb hS h_x0 dJ19_sort_4 ?_
  obtain ⟨o1, eo1, h⟩ := bind_step h
  refine r_cv (r_runS (rest := []) (As := [.ref x0, .int 0, .int 0, .int 8]) hC 4 (m_J32_sort x0  x0c 0 0 8 o1 eo1) q1676 q1677 q74 q1678 hd_J32_sort rfl ⟨Nat.le_of_ble_eq_true rfl, Nat.le_of_ble_eq_true rfl⟩ hS ⟨h_x0, hB_h_x0⟩ hl.1 rfl (Nat.le_of_ble_eq_true rfl) dJ19_sort_5 ⟨Nat.le_of_ble_eq_true rfl, Nat.le_of_ble_eq_true rfl⟩) hS (fun H locs hp hS hz => ?_)
  obtain ⟨h_x0, hO⟩ := hp
  have hF := hF.fresh hO (fun a ha z => z)
  obtain rfl := Option.some.inj h
  rw [eQ]
  exact r_vret hx hb hr hlk hS (Nat.le_of_ble_eq_true rfl) (Nat.le_of_ble_eq_true rfl) dJ19_sort_8 ⟨rfl, h_x0, hF⟩

